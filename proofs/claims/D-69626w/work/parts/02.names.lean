/-! MakingHouse -/
set_option maxRecDepth 100000
def RX0 : String := "MakingHouse"
def TX0 : u_T := fun k => match k with
  | 0 => ("MakingHouse", "solids", "Ljava/util/ArrayList;", true)
  | 1 => ("MakingHouse", "sizes", "[I", true)
  | 2 => ("MakingHouse", "sizeCount", "I", false)
  | 3 => ("MakingHouse", "spans", "LMakingHouse$Spans;", true)
  | 4 => ("MakingHouse", "pile", "[LMakingHouse$Spans;", true)
  | 5 => ("MakingHouse", "layer", "LMakingHouse$Layer;", true)
  | 6 => ("MakingHouse", "isLayered", "Z", false)
  | 7 => ("MakingHouse", "block", "LMakingHouse$Stock;", true)
  | 8 => ("MakingHouse", "stock", "LMakingHouse$Stock;", false)
  | 9 => ("MakingHouse", "part", "LMakingHouse$Solid;", false)
  | 10 => ("MakingHouse", "tools", "[LMakingHouse$Tool;", true)
  | 11 => ("MakingHouse", "tray", "[B", true)
  | 12 => ("MakingHouse", "trayed", "I", false)
  | 13 => ("MakingHouse", "fed", "I", false)
  | 14 => ("MakingHouse", "place", "I", false)
  | 15 => ("MakingHouse", "trouble", "LMakingHouse$Trouble;", true)
  | 16 => ("MakingHouse", "reader", "LMakingHouse$Reader;", true)
  | 17 => ("MakingHouse", "program", "LMakingHouse$Program;", false)
  | 18 => ("MakingHouse", "spare", "LMakingHouse$Program;", false)
  | 19 => ("MakingHouse", "isRead", "Z", false)
  | 20 => ("MakingHouse", "alarm", "LMakingHouse$Trouble;", true)
  | 21 => ("MakingHouse", "variables", "[J", true)
  | 22 => ("MakingHouse", "values", "[J", true)
  | 23 => ("MakingHouse", "valueCount", "I", false)
  | 24 => ("MakingHouse", "stepAt", "I", false)
  | 25 => ("MakingHouse", "x", "I", false)
  | 26 => ("MakingHouse", "y", "I", false)
  | 27 => ("MakingHouse", "z", "I", false)
  | 28 => ("MakingHouse", "fuel", "I", false)
  | 29 => ("MakingHouse", "steps", "I", false)
  | 30 => ("MakingHouse", "ticks", "I", false)
  | 31 => ("MakingHouse", "tool", "I", false)
  | 32 => ("MakingHouse", "line", "I", false)
  | 33 => ("MakingHouse", "outcome", "I", false)
  | 34 => ("MakingHouse", "ran", "Z", false)
  | 35 => ("MakingHouse", "moves", "[I", true)
  | 36 => ("MakingHouse", "moveCount", "I", false)
  | 37 => ("MakingHouse", "firstX", "I", false)
  | 38 => ("MakingHouse", "firstY", "I", false)
  | 39 => ("MakingHouse", "firstZ", "I", false)
  | 40 => ("MakingHouse", "lastX", "I", false)
  | 41 => ("MakingHouse", "lastY", "I", false)
  | 42 => ("MakingHouse", "lastZ", "I", false)
  | 43 => ("MakingHouse", "count", "I", false)
  | 44 => ("MakingHouse", "spindle", "Z", false)
  | 45 => ("MakingHouse", "isAdded", "Z", false)
  | 46 => ("MakingHouse", "returnsLow", "Z", false)
  | 47 => ("MakingHouse", "speed", "I", false)
  | 48 => ("MakingHouse", "toolTold", "I", false)
  | 49 => ("MakingHouse", "frame", "I", false)
  | 50 => ("MakingHouse", "quarters", "I", false)
  | 51 => ("MakingHouse", "mode", "I", false)
  | 52 => ("MakingHouse", "offsets", "[J", true)
  | 53 => ("MakingHouse", "hasZ", "Z", false)
  | 54 => ("MakingHouse", "hasR", "Z", false)
  | 55 => ("MakingHouse", "hasQ", "Z", false)
  | 56 => ("MakingHouse", "cycleZ", "J", false)
  | 57 => ("MakingHouse", "cycleR", "J", false)
  | 58 => ("MakingHouse", "cycleQ", "J", false)
  | 59 => ("MakingHouse", "callBack", "[I", true)
  | 60 => ("MakingHouse", "callBegin", "[I", true)
  | 61 => ("MakingHouse", "callLeft", "[I", true)
  | 62 => ("MakingHouse", "calls", "I", false)
  | 63 => ("MakingHouse", "has", "[Z", true)
  | 64 => ("MakingHouse", "told", "[J", true)
  | 65 => ("MakingHouse", "g", "[I", true)
  | 66 => ("MakingHouse", "m", "[I", true)
  | 67 => ("MakingHouse", "gs", "I", false)
  | 68 => ("MakingHouse", "ms", "I", false)
  | 69 => ("MakingHouse", "acceleration", "I", false)
  | 70 => ("MakingHouse", "speeds", "[I", true)
  | _ => ("MakingHouse", "solved", "Z", false)
def tyX0 : Nat → FieldType := fun k => match k with
  | 0 => .object "java/util/ArrayList"
  | 1 => .array .int
  | 2 => .int
  | 3 => .object "MakingHouse$Spans"
  | 4 => .array (.object "MakingHouse$Spans")
  | 5 => .object "MakingHouse$Layer"
  | 6 => .boolean
  | 7 => .object "MakingHouse$Stock"
  | 8 => .object "MakingHouse$Stock"
  | 9 => .object "MakingHouse$Solid"
  | 10 => .array (.object "MakingHouse$Tool")
  | 11 => .array .byte
  | 12 => .int
  | 13 => .int
  | 14 => .int
  | 15 => .object "MakingHouse$Trouble"
  | 16 => .object "MakingHouse$Reader"
  | 17 => .object "MakingHouse$Program"
  | 18 => .object "MakingHouse$Program"
  | 19 => .boolean
  | 20 => .object "MakingHouse$Trouble"
  | 21 => .array .long
  | 22 => .array .long
  | 23 => .int
  | 24 => .int
  | 25 => .int
  | 26 => .int
  | 27 => .int
  | 28 => .int
  | 29 => .int
  | 30 => .int
  | 31 => .int
  | 32 => .int
  | 33 => .int
  | 34 => .boolean
  | 35 => .array .int
  | 36 => .int
  | 37 => .int
  | 38 => .int
  | 39 => .int
  | 40 => .int
  | 41 => .int
  | 42 => .int
  | 43 => .int
  | 44 => .boolean
  | 45 => .boolean
  | 46 => .boolean
  | 47 => .int
  | 48 => .int
  | 49 => .int
  | 50 => .int
  | 51 => .int
  | 52 => .array .long
  | 53 => .boolean
  | 54 => .boolean
  | 55 => .boolean
  | 56 => .long
  | 57 => .long
  | 58 => .long
  | 59 => .array .int
  | 60 => .array .int
  | 61 => .array .int
  | 62 => .int
  | 63 => .array .boolean
  | 64 => .array .long
  | 65 => .array .int
  | 66 => .array .int
  | 67 => .int
  | 68 => .int
  | 69 => .int
  | 70 => .array .int
  | _ => .boolean
abbrev wsX00 : List Cond := u_ws RX0 TX0 72
set_option maxRecDepth 100000 in
theorem nmX0 : ∀ a, a < 72 → ∀ b, b < 72 → a ≠ b → (TX0 a).2.1 ≠ (TX0 b).2.1 := by decide +kernel
set_option maxRecDepth 100000 in
theorem tyX0_ok : ∀ k, k < 72 → parseFieldDescriptor (TX0 k).2.2.1 = some (tyX0 k) := by decide +kernel
abbrev cX0_init : ByteArray := prog_1_method_5_code
def yX0_init : MethodName := ⟨RX0, "<init>", "()V"⟩
abbrev cX0_pile : ByteArray := prog_1_method_4_code
def yX0_pile : MethodName := ⟨RX0, "pile", "()[LMakingHouse$Spans;"⟩
abbrev cX0_size : ByteArray := prog_1_method_6_code
def yX0_size : MethodName := ⟨RX0, "size", "(I)I"⟩
abbrev cX0_solid : ByteArray := prog_1_method_11_code
def yX0_solid : MethodName := ⟨RX0, "solid", "(I)I"⟩
abbrev cX0_used : ByteArray := prog_1_method_7_code
def yX0_used : MethodName := ⟨RX0, "used", "()[I"⟩
abbrev cX0_numbered : ByteArray := prog_1_method_10_code
def yX0_numbered : MethodName := ⟨RX0, "numbered", "(LMakingHouse$Solid;)I"⟩
abbrev cX0_join : ByteArray := prog_1_method_12_code
def yX0_join : MethodName := ⟨RX0, "join", "(III)I"⟩
abbrev cX0_isSolid : ByteArray := prog_1_method_8_code
def yX0_isSolid : MethodName := ⟨RX0, "isSolid", "(I)Z"⟩
abbrev cX0_solidOf : ByteArray := prog_1_method_9_code
def yX0_solidOf : MethodName := ⟨RX0, "solidOf", "(I)LMakingHouse$Solid;"⟩
abbrev cX0_moved : ByteArray := prog_1_method_13_code
def yX0_moved : MethodName := ⟨RX0, "moved", "(I)I"⟩
abbrev cX0_turned : ByteArray := prog_1_method_14_code
def yX0_turned : MethodName := ⟨RX0, "turned", "(I)I"⟩
abbrev cX0_inside : ByteArray := prog_1_method_16_code
def yX0_inside : MethodName := ⟨RX0, "inside", "(IIII)Z"⟩
abbrev cX0_isNear : ByteArray := prog_1_method_15_code
def yX0_isNear : MethodName := ⟨RX0, "isNear", "(I)Z"⟩
abbrev cX0_square : ByteArray := prog_1_method_3_code
def yX0_square : MethodName := ⟨RX0, "square", "(JJ)J"⟩
abbrev cX0_top : ByteArray := prog_1_method_17_code
def yX0_top : MethodName := ⟨RX0, "top", "(III)I"⟩
abbrev cX0_topOf : ByteArray := prog_1_method_18_code
def yX0_topOf : MethodName := ⟨RX0, "topOf", "(LMakingHouse$Solid;II)I"⟩
abbrev cX0_root : ByteArray := prog_1_method_1_code
def yX0_root : MethodName := ⟨RX0, "root", "(J)J"⟩
abbrev cX0_layer : ByteArray := prog_1_method_19_code
def yX0_layer : MethodName := ⟨RX0, "layer", "(IIIIII)I"⟩
abbrev cX0_layered : ByteArray := prog_1_method_20_code
def yX0_layered : MethodName := ⟨RX0, "layered", "(I)I"⟩
abbrev cX0_run : ByteArray := prog_1_method_21_code
def yX0_run : MethodName := ⟨RX0, "run", "(II)I"⟩
abbrev cX0_stock : ByteArray := prog_1_method_22_code
def yX0_stock : MethodName := ⟨RX0, "stock", "(IIII)I"⟩
abbrev cX0_clamp : ByteArray := prog_1_method_23_code
def yX0_clamp : MethodName := ⟨RX0, "clamp", "(IIIII)I"⟩
abbrev cX0_part : ByteArray := prog_1_method_24_code
def yX0_part : MethodName := ⟨RX0, "part", "(I)I"⟩
abbrev cX0_height : ByteArray := prog_1_method_25_code
def yX0_height : MethodName := ⟨RX0, "height", "(II)I"⟩
abbrev cX0_stocked : ByteArray := prog_1_method_27_code
def yX0_stocked : MethodName := ⟨RX0, "stocked", "(I)J"⟩
abbrev cX0_want : ByteArray := prog_1_method_26_code
def yX0_want : MethodName := ⟨RX0, "want", "()V"⟩
abbrev cX0_tool : ByteArray := prog_1_method_28_code
def yX0_tool : MethodName := ⟨RX0, "tool", "(IIIII)I"⟩
abbrev cX0_feed : ByteArray := prog_1_method_29_code
def yX0_feed : MethodName := ⟨RX0, "feed", "(IIIII)I"⟩
abbrev cX0_word : ByteArray := prog_1_method_30_code
def yX0_word : MethodName := ⟨RX0, "word", "(I)V"⟩
abbrev cX0_end : ByteArray := prog_1_method_31_code
def yX0_end : MethodName := ⟨RX0, "end", "(I)I"⟩
abbrev cX0_program : ByteArray := prog_1_method_32_code
def yX0_program : MethodName := ⟨RX0, "program", "()I"⟩
abbrev cX0_place : ByteArray := prog_1_method_33_code
def yX0_place : MethodName := ⟨RX0, "place", "()I"⟩
abbrev cX0_start : ByteArray := prog_1_method_56_code
def yX0_start : MethodName := ⟨RX0, "start", "(I)I"⟩
abbrev cX0_begin : ByteArray := prog_1_method_57_code
def yX0_begin : MethodName := ⟨RX0, "begin", "()V"⟩
abbrev cX0_forget : ByteArray := prog_1_method_58_code
def yX0_forget : MethodName := ⟨RX0, "forget", "()V"⟩
abbrev cX0_next : ByteArray := prog_1_method_60_code
def yX0_next : MethodName := ⟨RX0, "next", "()V"⟩
abbrev cX0_isEnd : ByteArray := prog_1_method_59_code
def yX0_isEnd : MethodName := ⟨RX0, "isEnd", "()Z"⟩
abbrev cX0_back : ByteArray := prog_1_method_61_code
def yX0_back : MethodName := ⟨RX0, "back", "()V"⟩
abbrev cX0_burn : ByteArray := prog_1_method_44_code
def yX0_burn : MethodName := ⟨RX0, "burn", "()V"⟩
abbrev cX0_alarms : ByteArray := prog_1_method_34_code
def yX0_alarms : MethodName := ⟨RX0, "alarms", "(I)Ljava/lang/IllegalStateException;"⟩
abbrev cX0_words : ByteArray := prog_1_method_67_code
def yX0_words : MethodName := ⟨RX0, "words", "(I)V"⟩
abbrev cX0_worth : ByteArray := prog_1_method_38_code
def yX0_worth : MethodName := ⟨RX0, "worth", "(I)J"⟩
abbrev cX0_push : ByteArray := prog_1_method_35_code
def yX0_push : MethodName := ⟨RX0, "push", "(J)V"⟩
abbrev cX0_pop : ByteArray := prog_1_method_36_code
def yX0_pop : MethodName := ⟨RX0, "pop", "()J"⟩
abbrev cX0_slotOf : ByteArray := prog_1_method_39_code
def yX0_slotOf : MethodName := ⟨RX0, "slotOf", "(J)I"⟩
abbrev cX0_one : ByteArray := prog_1_method_40_code
def yX0_one : MethodName := ⟨RX0, "one", "(IJ)J"⟩
abbrev cX0_floor : ByteArray := prog_1_method_2_code
def yX0_floor : MethodName := ⟨RX0, "floor", "(JJ)J"⟩
abbrev cX0_bounded : ByteArray := prog_1_method_37_code
def yX0_bounded : MethodName := ⟨RX0, "bounded", "(J)J"⟩
abbrev cX0_two : ByteArray := prog_1_method_42_code
def yX0_two : MethodName := ⟨RX0, "two", "(IJJ)J"⟩
abbrev cX0_times : ByteArray := prog_1_method_43_code
def yX0_times : MethodName := ⟨RX0, "times", "(JJ)J"⟩
abbrev cX0_truth : ByteArray := prog_1_method_41_code
def yX0_truth : MethodName := ⟨RX0, "truth", "(Z)J"⟩
abbrev cX0_isWholeWord : ByteArray := prog_1_method_62_code
def yX0_isWholeWord : MethodName := ⟨RX0, "isWholeWord", "(I)Z"⟩
abbrev cX0_allowed : ByteArray := prog_1_method_69_code
def yX0_allowed : MethodName := ⟨RX0, "allowed", "()V"⟩
abbrev cX0_groupOf : ByteArray := prog_1_method_68_code
def yX0_groupOf : MethodName := ⟨RX0, "groupOf", "(I)I"⟩
abbrev cX0_switches : ByteArray := prog_1_method_70_code
def yX0_switches : MethodName := ⟨RX0, "switches", "()V"⟩
abbrev cX0_whole : ByteArray := prog_1_method_64_code
def yX0_whole : MethodName := ⟨RX0, "whole", "(I)I"⟩
abbrev cX0_isM : ByteArray := prog_1_method_66_code
def yX0_isM : MethodName := ⟨RX0, "isM", "(I)Z"⟩
abbrev cX0_modes : ByteArray := prog_1_method_71_code
def yX0_modes : MethodName := ⟨RX0, "modes", "()V"⟩
abbrev cX0_isG : ByteArray := prog_1_method_65_code
def yX0_isG : MethodName := ⟨RX0, "isG", "(I)Z"⟩
abbrev cX0_units : ByteArray := prog_1_method_63_code
def yX0_units : MethodName := ⟨RX0, "units", "(I)J"⟩
abbrev cX0_motion : ByteArray := prog_1_method_75_code
def yX0_motion : MethodName := ⟨RX0, "motion", "()V"⟩
abbrev cX0_offset : ByteArray := prog_1_method_74_code
def yX0_offset : MethodName := ⟨RX0, "offset", "(I)J"⟩
abbrev cX0_turnedX : ByteArray := prog_1_method_72_code
def yX0_turnedX : MethodName := ⟨RX0, "turnedX", "(JJI)J"⟩
abbrev cX0_turnedY : ByteArray := prog_1_method_73_code
def yX0_turnedY : MethodName := ⟨RX0, "turnedY", "(JJI)J"⟩
abbrev cX0_cycle : ByteArray := prog_1_method_76_code
def yX0_cycle : MethodName := ⟨RX0, "cycle", "(JJ)V"⟩
abbrev cX0_straight : ByteArray := prog_1_method_51_code
def yX0_straight : MethodName := ⟨RX0, "straight", "(JJJZ)V"⟩
abbrev cX0_ready : ByteArray := prog_1_method_50_code
def yX0_ready : MethodName := ⟨RX0, "ready", "(JJJZ)V"⟩
abbrev cX0_tick : ByteArray := prog_1_method_45_code
def yX0_tick : MethodName := ⟨RX0, "tick", "(IIIZ)V"⟩
abbrev cX0_at : ByteArray := prog_1_method_46_code
def yX0_at : MethodName := ⟨RX0, "at", "(IIIZ)V"⟩
abbrev cX0_isHeld : ByteArray := prog_1_method_48_code
def yX0_isHeld : MethodName := ⟨RX0, "isHeld", "(LMakingHouse$Tool;III)Z"⟩
abbrev cX0_cut : ByteArray := prog_1_method_47_code
def yX0_cut : MethodName := ⟨RX0, "cut", "(LMakingHouse$Stock;II)V"⟩
abbrev cX0_kept : ByteArray := prog_1_method_49_code
def yX0_kept : MethodName := ⟨RX0, "kept", "(IIII)V"⟩
abbrev cX0_arc : ByteArray := prog_1_method_55_code
def yX0_arc : MethodName := ⟨RX0, "arc", "(JJJJJZ)V"⟩
abbrev cX0_neighbour : ByteArray := prog_1_method_54_code
def yX0_neighbour : MethodName := ⟨RX0, "neighbour", "(JJJZ)I"⟩
abbrev cX0_eastOf : ByteArray := prog_1_method_52_code
def yX0_eastOf : MethodName := ⟨RX0, "eastOf", "(I)I"⟩
abbrev cX0_northOf : ByteArray := prog_1_method_53_code
def yX0_northOf : MethodName := ⟨RX0, "northOf", "(I)I"⟩
abbrev cX0_ends : ByteArray := prog_1_method_77_code
def yX0_ends : MethodName := ⟨RX0, "ends", "()V"⟩
abbrev cX0_told : ByteArray := prog_1_method_78_code
def yX0_told : MethodName := ⟨RX0, "told", "(I)I"⟩
abbrev cX0_variable : ByteArray := prog_1_method_79_code
def yX0_variable : MethodName := ⟨RX0, "variable", "(I)J"⟩
abbrev cX0_move : ByteArray := prog_1_method_80_code
def yX0_move : MethodName := ⟨RX0, "move", "(II)I"⟩
abbrev cX0_acceleration : ByteArray := prog_1_method_81_code
def yX0_acceleration : MethodName := ⟨RX0, "acceleration", "(I)Z"⟩
abbrev cX0_speed : ByteArray := prog_1_method_82_code
def yX0_speed : MethodName := ⟨RX0, "speed", "(I)I"⟩
abbrev cX0_solve : ByteArray := prog_1_method_85_code
def yX0_solve : MethodName := ⟨RX0, "solve", "()V"⟩
abbrev cX0_limit : ByteArray := prog_1_method_83_code
def yX0_limit : MethodName := ⟨RX0, "limit", "(I)I"⟩
abbrev cX0_reached : ByteArray := prog_1_method_84_code
def yX0_reached : MethodName := ⟨RX0, "reached", "(II)I"⟩
abbrev cX0_strays : ByteArray := prog_1_method_86_code
def yX0_strays : MethodName := ⟨RX0, "strays", "()I"⟩
theorem q186 : (Jvm.Cond.initialized "MakingHouse") ∈ lw_all := lw_g (lw_at lw_m1 1 rfl) rfl
theorem q222 : (Jvm.Cond.instantiable "MakingHouse" (72 : Nat)) ∈ lw_all := lw_g (lw_at lw_m1 37 rfl) rfl
theorem q224 : (Jvm.Cond.instanceMethod ({ cls := "MakingHouse", name := "<init>", desc := "()V" } : Jvm.MethodName)) ∈ lw_all := lw_g (lw_at lw_m1 39 rfl) rfl
theorem q225 : (Jvm.Cond.code ({ cls := "MakingHouse", name := "<init>", desc := "()V" } : Jvm.MethodName) prog_1_method_5_code (1 : Nat) (Option.none : Option Jvm.ClassFile.FieldType)) ∈ lw_all := lw_g (lw_at lw_m1 40 rfl) rfl
theorem q226 : (Jvm.Cond.methodLink "MakingHouse" (11 : Nat) ({ cls := "java/lang/Object", name := "<init>", desc := "()V" } : Jvm.MethodName)) ∈ lw_all := lw_g (lw_at lw_m1 41 rfl) rfl
theorem q229 : (Jvm.Cond.classLink "MakingHouse" (14 : Nat) "java/util/ArrayList") ∈ lw_all := lw_g (lw_at lw_m1 44 rfl) rfl
theorem q231 : (Jvm.Cond.methodLink "MakingHouse" (16 : Nat) ({ cls := "java/util/ArrayList", name := "<init>", desc := "()V" } : Jvm.MethodName)) ∈ lw_all := lw_g (lw_at lw_m1 46 rfl) rfl
theorem q255 : (Jvm.Cond.classLink "MakingHouse" (5 : Nat) "MakingHouse$Spans") ∈ lw_all := lw_g (lw_at lw_m1 70 rfl) rfl
theorem q257 : (Jvm.Cond.methodLinkNest "MakingHouse" (7 : Nat) ({ cls := "MakingHouse$Spans", name := "<init>", desc := "()V" } : Jvm.MethodName) "MakingHouse") ∈ lw_tbl := lw_at lw_m1 72 rfl
theorem q262 : (Jvm.Cond.fieldLink "MakingHouse" (224 : Nat) "MakingHouse$Spans" "from" "[J") ∈ lw_all := lw_g (lw_at lw_m1 77 rfl) rfl
theorem q264 : (Jvm.Cond.fieldLink "MakingHouse" (229 : Nat) "MakingHouse$Spans" "to" "[J") ∈ lw_all := lw_g (lw_at lw_m1 79 rfl) rfl
theorem q270 : (Jvm.Cond.fieldLink "MakingHouse" (221 : Nat) "MakingHouse$Spans" "count" "I") ∈ lw_all := lw_g (lw_at lw_m1 85 rfl) rfl
theorem q280 : (Jvm.Cond.methodLink "MakingHouse" (29 : Nat) ({ cls := "MakingHouse", name := "pile", desc := "()[LMakingHouse$Spans;" } : Jvm.MethodName)) ∈ lw_all := lw_g (lw_at lw_m1 95 rfl) rfl
theorem q281 : (Jvm.Cond.static ({ cls := "MakingHouse", name := "pile", desc := "()[LMakingHouse$Spans;" } : Jvm.MethodName)) ∈ lw_all := lw_g (lw_at lw_m1 96 rfl) rfl
theorem q282 : (Jvm.Cond.code ({ cls := "MakingHouse", name := "pile", desc := "()[LMakingHouse$Spans;" } : Jvm.MethodName) prog_1_method_4_code (2 : Nat) (Option.some (Jvm.ClassFile.FieldType.array (Jvm.ClassFile.FieldType.object "MakingHouse$Spans")))) ∈ lw_all := lw_g (lw_at lw_m1 97 rfl) rfl
theorem q284 : (Jvm.Cond.classLink "MakingHouse" (36 : Nat) "MakingHouse$Layer") ∈ lw_all := lw_g (lw_at lw_m1 99 rfl) rfl
theorem q286 : (Jvm.Cond.methodLinkNest "MakingHouse" (38 : Nat) ({ cls := "MakingHouse$Layer", name := "<init>", desc := "()V" } : Jvm.MethodName) "MakingHouse") ∈ lw_tbl := lw_at lw_m1 101 rfl
theorem q302 : (Jvm.Cond.fieldLink "MakingHouse" (257 : Nat) "MakingHouse$Layer" "islands" "I") ∈ lw_all := lw_g (lw_at lw_m1 117 rfl) rfl
theorem q304 : (Jvm.Cond.fieldLink "MakingHouse" (260 : Nat) "MakingHouse$Layer" "holes" "I") ∈ lw_all := lw_g (lw_at lw_m1 119 rfl) rfl
theorem q306 : (Jvm.Cond.fieldLink "MakingHouse" (254 : Nat) "MakingHouse$Layer" "cells" "I") ∈ lw_all := lw_g (lw_at lw_m1 121 rfl) rfl
theorem q308 : (Jvm.Cond.fieldLink "MakingHouse" (266 : Nat) "MakingHouse$Layer" "fillCells" "I") ∈ lw_all := lw_g (lw_at lw_m1 123 rfl) rfl
theorem q310 : (Jvm.Cond.fieldLink "MakingHouse" (263 : Nat) "MakingHouse$Layer" "fillRuns" "I") ∈ lw_all := lw_g (lw_at lw_m1 125 rfl) rfl
theorem q312 : (Jvm.Cond.fieldLinkNest "MakingHouse" (269 : Nat) "MakingHouse$Layer" "fillRow" "[I" "MakingHouse") ∈ lw_tbl := lw_at lw_m1 127 rfl
theorem q314 : (Jvm.Cond.fieldLinkNest "MakingHouse" (272 : Nat) "MakingHouse$Layer" "fillFrom" "[I" "MakingHouse") ∈ lw_tbl := lw_at lw_m1 129 rfl
theorem q316 : (Jvm.Cond.fieldLinkNest "MakingHouse" (275 : Nat) "MakingHouse$Layer" "fillTo" "[I" "MakingHouse") ∈ lw_tbl := lw_at lw_m1 131 rfl
theorem q357 : (Jvm.Cond.classLink "MakingHouse" (43 : Nat) "MakingHouse$Stock") ∈ lw_all := lw_g (lw_at lw_m1 172 rfl) rfl
theorem q359 : (Jvm.Cond.methodLinkNest "MakingHouse" (45 : Nat) ({ cls := "MakingHouse$Stock", name := "<init>", desc := "()V" } : Jvm.MethodName) "MakingHouse") ∈ lw_tbl := lw_at lw_m1 174 rfl
theorem q364 : (Jvm.Cond.fieldLink "MakingHouse" (294 : Nat) "MakingHouse$Stock" "n" "I") ∈ lw_all := lw_g (lw_at lw_m1 179 rfl) rfl
theorem q366 : (Jvm.Cond.fieldLink "MakingHouse" (311 : Nat) "MakingHouse$Stock" "m" "I") ∈ lw_all := lw_g (lw_at lw_m1 181 rfl) rfl
theorem q368 : (Jvm.Cond.fieldLink "MakingHouse" (316 : Nat) "MakingHouse$Stock" "pitch" "I") ∈ lw_all := lw_g (lw_at lw_m1 183 rfl) rfl
theorem q370 : (Jvm.Cond.fieldLink "MakingHouse" (319 : Nat) "MakingHouse$Stock" "at" "I") ∈ lw_all := lw_g (lw_at lw_m1 185 rfl) rfl
theorem q372 : (Jvm.Cond.fieldLink "MakingHouse" (308 : Nat) "MakingHouse$Stock" "height" "[I") ∈ lw_all := lw_g (lw_at lw_m1 187 rfl) rfl
theorem q374 : (Jvm.Cond.fieldLink "MakingHouse" (291 : Nat) "MakingHouse$Stock" "clamp" "[I") ∈ lw_all := lw_g (lw_at lw_m1 189 rfl) rfl
theorem q376 : (Jvm.Cond.fieldLink "MakingHouse" (313 : Nat) "MakingHouse$Stock" "wanted" "[I") ∈ lw_all := lw_g (lw_at lw_m1 191 rfl) rfl
theorem q378 : (Jvm.Cond.fieldLink "MakingHouse" (288 : Nat) "MakingHouse$Stock" "clamps" "I") ∈ lw_all := lw_g (lw_at lw_m1 193 rfl) rfl
theorem q380 : (Jvm.Cond.fieldLink "MakingHouse" (324 : Nat) "MakingHouse$Stock" "removed" "J") ∈ lw_all := lw_g (lw_at lw_m1 195 rfl) rfl
theorem q382 : (Jvm.Cond.fieldLink "MakingHouse" (305 : Nat) "MakingHouse$Stock" "isWanted" "Z") ∈ lw_all := lw_g (lw_at lw_m1 197 rfl) rfl
theorem q404 : (Jvm.Cond.classLink "MakingHouse" (50 : Nat) "MakingHouse$Tool") ∈ lw_all := lw_g (lw_at lw_m1 219 rfl) rfl
theorem q406 : (Jvm.Cond.classLink "MakingHouse" (64 : Nat) "MakingHouse$Trouble") ∈ lw_all := lw_g (lw_at lw_m1 221 rfl) rfl
theorem q408 : (Jvm.Cond.methodLinkNest "MakingHouse" (66 : Nat) ({ cls := "MakingHouse$Trouble", name := "<init>", desc := "()V" } : Jvm.MethodName) "MakingHouse") ∈ lw_tbl := lw_at lw_m1 223 rfl
theorem q475 : (Jvm.Cond.fieldLink "MakingHouse" (357 : Nat) "MakingHouse$Trouble" "kind" "I") ∈ lw_all := lw_g (lw_at lw_m2 50 rfl) rfl
theorem q477 : (Jvm.Cond.fieldLink "MakingHouse" (356 : Nat) "MakingHouse$Trouble" "place" "I") ∈ lw_all := lw_g (lw_at lw_m2 52 rfl) rfl
theorem q486 : (Jvm.Cond.classLink "MakingHouse" (71 : Nat) "MakingHouse$Reader") ∈ lw_all := lw_g (lw_at lw_m2 61 rfl) rfl
theorem q488 : (Jvm.Cond.methodLink "MakingHouse" (73 : Nat) ({ cls := "MakingHouse$Reader", name := "<init>", desc := "(LMakingHouse$Trouble;)V" } : Jvm.MethodName)) ∈ lw_all := lw_g (lw_at lw_m2 63 rfl) rfl
theorem q500 : (Jvm.Cond.fieldLink "MakingHouse" (387 : Nat) "MakingHouse$Row" "v" "[I") ∈ lw_all := lw_g (lw_at lw_m2 75 rfl) rfl
theorem q511 : (Jvm.Cond.fieldLink "MakingHouse" (345 : Nat) "MakingHouse$Reader" "text" "[B") ∈ lw_all := lw_g (lw_at lw_m2 86 rfl) rfl
theorem q513 : (Jvm.Cond.fieldLink "MakingHouse" (348 : Nat) "MakingHouse$Reader" "size" "I") ∈ lw_all := lw_g (lw_at lw_m2 88 rfl) rfl
theorem q557 : (Jvm.Cond.classLink "MakingHouse" (80 : Nat) "MakingHouse$Program") ∈ lw_all := lw_g (lw_at lw_m2 132 rfl) rfl
theorem q559 : (Jvm.Cond.methodLinkNest "MakingHouse" (82 : Nat) ({ cls := "MakingHouse$Program", name := "<init>", desc := "()V" } : Jvm.MethodName) "MakingHouse") ∈ lw_tbl := lw_at lw_m2 134 rfl
theorem q567 : (Jvm.Cond.fieldLink "MakingHouse" (612 : Nat) "MakingHouse$Program" "kind" "LMakingHouse$Row;") ∈ lw_all := lw_g (lw_at lw_m2 142 rfl) rfl
theorem q574 : (Jvm.Cond.fieldLink "MakingHouse" (720 : Nat) "MakingHouse$Program" "told" "LMakingHouse$Row;") ∈ lw_all := lw_g (lw_at lw_m2 149 rfl) rfl
theorem q577 : (Jvm.Cond.fieldLink "MakingHouse" (621 : Nat) "MakingHouse$Program" "begin" "LMakingHouse$Row;") ∈ lw_all := lw_g (lw_at lw_m2 152 rfl) rfl
theorem q582 : (Jvm.Cond.fieldLink "MakingHouse" (630 : Nat) "MakingHouse$Program" "goes" "LMakingHouse$Row;") ∈ lw_all := lw_g (lw_at lw_m2 157 rfl) rfl
theorem q585 : (Jvm.Cond.fieldLink "MakingHouse" (643 : Nat) "MakingHouse$Program" "letter" "LMakingHouse$Row;") ∈ lw_all := lw_g (lw_at lw_m2 160 rfl) rfl
theorem q588 : (Jvm.Cond.fieldLink "MakingHouse" (646 : Nat) "MakingHouse$Program" "value" "LMakingHouse$Row;") ∈ lw_all := lw_g (lw_at lw_m2 163 rfl) rfl
theorem q593 : (Jvm.Cond.fieldLink "MakingHouse" (383 : Nat) "MakingHouse$Program" "step" "LMakingHouse$Row;") ∈ lw_all := lw_g (lw_at lw_m2 168 rfl) rfl
theorem q617 : (Jvm.Cond.fieldLink "MakingHouse" (17 : Nat) "MakingHouse" "solids" "Ljava/util/ArrayList;") ∈ lw_all := lw_g (lw_at lw_m2 192 rfl) rfl
theorem q618 : (Jvm.Cond.fieldLink "MakingHouse" (21 : Nat) "MakingHouse" "sizes" "[I") ∈ lw_all := lw_g (lw_at lw_m2 193 rfl) rfl
theorem q619 : (Jvm.Cond.fieldLink "MakingHouse" (134 : Nat) "MakingHouse" "sizeCount" "I") ∈ lw_all := lw_g (lw_at lw_m2 194 rfl) rfl
theorem q620 : (Jvm.Cond.fieldLink "MakingHouse" (25 : Nat) "MakingHouse" "spans" "LMakingHouse$Spans;") ∈ lw_all := lw_g (lw_at lw_m2 195 rfl) rfl
theorem q621 : (Jvm.Cond.fieldLink "MakingHouse" (33 : Nat) "MakingHouse" "pile" "[LMakingHouse$Spans;") ∈ lw_all := lw_g (lw_at lw_m2 196 rfl) rfl
theorem q622 : (Jvm.Cond.fieldLink "MakingHouse" (39 : Nat) "MakingHouse" "layer" "LMakingHouse$Layer;") ∈ lw_all := lw_g (lw_at lw_m2 197 rfl) rfl
theorem q623 : (Jvm.Cond.fieldLink "MakingHouse" (250 : Nat) "MakingHouse" "isLayered" "Z") ∈ lw_all := lw_g (lw_at lw_m2 198 rfl) rfl
theorem q624 : (Jvm.Cond.fieldLink "MakingHouse" (46 : Nat) "MakingHouse" "block" "LMakingHouse$Stock;") ∈ lw_all := lw_g (lw_at lw_m2 199 rfl) rfl
theorem q625 : (Jvm.Cond.fieldLink "MakingHouse" (278 : Nat) "MakingHouse" "stock" "LMakingHouse$Stock;") ∈ lw_all := lw_g (lw_at lw_m2 200 rfl) rfl
theorem q626 : (Jvm.Cond.fieldLink "MakingHouse" (301 : Nat) "MakingHouse" "part" "LMakingHouse$Solid;") ∈ lw_all := lw_g (lw_at lw_m2 201 rfl) rfl
theorem q627 : (Jvm.Cond.fieldLink "MakingHouse" (52 : Nat) "MakingHouse" "tools" "[LMakingHouse$Tool;") ∈ lw_all := lw_g (lw_at lw_m2 202 rfl) rfl
theorem q628 : (Jvm.Cond.fieldLink "MakingHouse" (56 : Nat) "MakingHouse" "tray" "[B") ∈ lw_all := lw_g (lw_at lw_m2 203 rfl) rfl
theorem q629 : (Jvm.Cond.fieldLink "MakingHouse" (335 : Nat) "MakingHouse" "trayed" "I") ∈ lw_all := lw_g (lw_at lw_m2 204 rfl) rfl
theorem q630 : (Jvm.Cond.fieldLink "MakingHouse" (338 : Nat) "MakingHouse" "fed" "I") ∈ lw_all := lw_g (lw_at lw_m2 205 rfl) rfl
theorem q631 : (Jvm.Cond.fieldLink "MakingHouse" (60 : Nat) "MakingHouse" "place" "I") ∈ lw_all := lw_g (lw_at lw_m2 206 rfl) rfl
theorem q632 : (Jvm.Cond.fieldLink "MakingHouse" (67 : Nat) "MakingHouse" "trouble" "LMakingHouse$Trouble;") ∈ lw_all := lw_g (lw_at lw_m2 207 rfl) rfl
theorem q633 : (Jvm.Cond.fieldLink "MakingHouse" (76 : Nat) "MakingHouse" "reader" "LMakingHouse$Reader;") ∈ lw_all := lw_g (lw_at lw_m2 208 rfl) rfl
theorem q634 : (Jvm.Cond.fieldLink "MakingHouse" (83 : Nat) "MakingHouse" "program" "LMakingHouse$Program;") ∈ lw_all := lw_g (lw_at lw_m2 209 rfl) rfl
theorem q635 : (Jvm.Cond.fieldLink "MakingHouse" (87 : Nat) "MakingHouse" "spare" "LMakingHouse$Program;") ∈ lw_all := lw_g (lw_at lw_m2 210 rfl) rfl
theorem q636 : (Jvm.Cond.fieldLink "MakingHouse" (360 : Nat) "MakingHouse" "isRead" "Z") ∈ lw_all := lw_g (lw_at lw_m2 211 rfl) rfl
theorem q637 : (Jvm.Cond.fieldLink "MakingHouse" (90 : Nat) "MakingHouse" "alarm" "LMakingHouse$Trouble;") ∈ lw_all := lw_g (lw_at lw_m2 212 rfl) rfl
theorem q638 : (Jvm.Cond.fieldLink "MakingHouse" (93 : Nat) "MakingHouse" "variables" "[J") ∈ lw_all := lw_g (lw_at lw_m2 213 rfl) rfl
theorem q639 : (Jvm.Cond.fieldLink "MakingHouse" (97 : Nat) "MakingHouse" "values" "[J") ∈ lw_all := lw_g (lw_at lw_m2 214 rfl) rfl
theorem q640 : (Jvm.Cond.fieldLink "MakingHouse" (369 : Nat) "MakingHouse" "valueCount" "I") ∈ lw_all := lw_g (lw_at lw_m2 215 rfl) rfl
theorem q641 : (Jvm.Cond.fieldLink "MakingHouse" (380 : Nat) "MakingHouse" "stepAt" "I") ∈ lw_all := lw_g (lw_at lw_m2 216 rfl) rfl
theorem q642 : (Jvm.Cond.fieldLink "MakingHouse" (454 : Nat) "MakingHouse" "x" "I") ∈ lw_all := lw_g (lw_at lw_m2 217 rfl) rfl
theorem q643 : (Jvm.Cond.fieldLink "MakingHouse" (460 : Nat) "MakingHouse" "y" "I") ∈ lw_all := lw_g (lw_at lw_m2 218 rfl) rfl
theorem q644 : (Jvm.Cond.fieldLink "MakingHouse" (466 : Nat) "MakingHouse" "z" "I") ∈ lw_all := lw_g (lw_at lw_m2 219 rfl) rfl
theorem q645 : (Jvm.Cond.fieldLink "MakingHouse" (441 : Nat) "MakingHouse" "fuel" "I") ∈ lw_all := lw_g (lw_at lw_m2 220 rfl) rfl
theorem q646 : (Jvm.Cond.fieldLink "MakingHouse" (435 : Nat) "MakingHouse" "steps" "I") ∈ lw_all := lw_g (lw_at lw_m2 221 rfl) rfl
theorem q647 : (Jvm.Cond.fieldLink "MakingHouse" (438 : Nat) "MakingHouse" "ticks" "I") ∈ lw_all := lw_g (lw_at lw_m2 222 rfl) rfl
theorem q648 : (Jvm.Cond.fieldLink "MakingHouse" (447 : Nat) "MakingHouse" "tool" "I") ∈ lw_all := lw_g (lw_at lw_m2 223 rfl) rfl
theorem q649 : (Jvm.Cond.fieldLink "MakingHouse" (570 : Nat) "MakingHouse" "line" "I") ∈ lw_all := lw_g (lw_at lw_m2 224 rfl) rfl
theorem q650 : (Jvm.Cond.fieldLink "MakingHouse" (564 : Nat) "MakingHouse" "outcome" "I") ∈ lw_all := lw_g (lw_at lw_m2 225 rfl) rfl
theorem q651 : (Jvm.Cond.fieldLink "MakingHouse" (576 : Nat) "MakingHouse" "ran" "Z") ∈ lw_all := lw_g (lw_at lw_m2 226 rfl) rfl
theorem q652 : (Jvm.Cond.fieldLink "MakingHouse" (100 : Nat) "MakingHouse" "moves" "[I") ∈ lw_all := lw_g (lw_at lw_m2 227 rfl) rfl
theorem q653 : (Jvm.Cond.fieldLink "MakingHouse" (512 : Nat) "MakingHouse" "moveCount" "I") ∈ lw_all := lw_g (lw_at lw_m2 228 rfl) rfl
theorem q654 : (Jvm.Cond.fieldLink "MakingHouse" (472 : Nat) "MakingHouse" "firstX" "I") ∈ lw_all := lw_g (lw_at lw_m2 229 rfl) rfl
theorem q655 : (Jvm.Cond.fieldLink "MakingHouse" (475 : Nat) "MakingHouse" "firstY" "I") ∈ lw_all := lw_g (lw_at lw_m2 230 rfl) rfl
theorem q656 : (Jvm.Cond.fieldLink "MakingHouse" (478 : Nat) "MakingHouse" "firstZ" "I") ∈ lw_all := lw_g (lw_at lw_m2 231 rfl) rfl
theorem q657 : (Jvm.Cond.fieldLink "MakingHouse" (457 : Nat) "MakingHouse" "lastX" "I") ∈ lw_all := lw_g (lw_at lw_m2 232 rfl) rfl
theorem q658 : (Jvm.Cond.fieldLink "MakingHouse" (463 : Nat) "MakingHouse" "lastY" "I") ∈ lw_all := lw_g (lw_at lw_m2 233 rfl) rfl
theorem q659 : (Jvm.Cond.fieldLink "MakingHouse" (469 : Nat) "MakingHouse" "lastZ" "I") ∈ lw_all := lw_g (lw_at lw_m2 234 rfl) rfl
theorem q660 : (Jvm.Cond.fieldLink "MakingHouse" (453 : Nat) "MakingHouse" "count" "I") ∈ lw_all := lw_g (lw_at lw_m2 235 rfl) rfl
theorem q661 : (Jvm.Cond.fieldLink "MakingHouse" (521 : Nat) "MakingHouse" "spindle" "Z") ∈ lw_all := lw_g (lw_at lw_m2 236 rfl) rfl
theorem q662 : (Jvm.Cond.fieldLink "MakingHouse" (579 : Nat) "MakingHouse" "isAdded" "Z") ∈ lw_all := lw_g (lw_at lw_m2 237 rfl) rfl
theorem q663 : (Jvm.Cond.fieldLink "MakingHouse" (582 : Nat) "MakingHouse" "returnsLow" "Z") ∈ lw_all := lw_g (lw_at lw_m2 238 rfl) rfl
theorem q664 : (Jvm.Cond.fieldLink "MakingHouse" (524 : Nat) "MakingHouse" "speed" "I") ∈ lw_all := lw_g (lw_at lw_m2 239 rfl) rfl
theorem q665 : (Jvm.Cond.fieldLink "MakingHouse" (585 : Nat) "MakingHouse" "toolTold" "I") ∈ lw_all := lw_g (lw_at lw_m3 0 rfl) rfl
theorem q666 : (Jvm.Cond.fieldLink "MakingHouse" (588 : Nat) "MakingHouse" "frame" "I") ∈ lw_all := lw_g (lw_at lw_m3 1 rfl) rfl
theorem q667 : (Jvm.Cond.fieldLink "MakingHouse" (591 : Nat) "MakingHouse" "quarters" "I") ∈ lw_all := lw_g (lw_at lw_m3 2 rfl) rfl
theorem q668 : (Jvm.Cond.fieldLink "MakingHouse" (594 : Nat) "MakingHouse" "mode" "I") ∈ lw_all := lw_g (lw_at lw_m3 3 rfl) rfl
theorem q669 : (Jvm.Cond.fieldLink "MakingHouse" (103 : Nat) "MakingHouse" "offsets" "[J") ∈ lw_all := lw_g (lw_at lw_m3 4 rfl) rfl
theorem q670 : (Jvm.Cond.fieldLink "MakingHouse" (603 : Nat) "MakingHouse" "hasZ" "Z") ∈ lw_all := lw_g (lw_at lw_m3 5 rfl) rfl
theorem q671 : (Jvm.Cond.fieldLink "MakingHouse" (606 : Nat) "MakingHouse" "hasR" "Z") ∈ lw_all := lw_g (lw_at lw_m3 6 rfl) rfl
theorem q672 : (Jvm.Cond.fieldLink "MakingHouse" (609 : Nat) "MakingHouse" "hasQ" "Z") ∈ lw_all := lw_g (lw_at lw_m3 7 rfl) rfl
theorem q673 : (Jvm.Cond.fieldLink "MakingHouse" (688 : Nat) "MakingHouse" "cycleZ" "J") ∈ lw_all := lw_g (lw_at lw_m3 8 rfl) rfl
theorem q674 : (Jvm.Cond.fieldLink "MakingHouse" (691 : Nat) "MakingHouse" "cycleR" "J") ∈ lw_all := lw_g (lw_at lw_m3 9 rfl) rfl
theorem q675 : (Jvm.Cond.fieldLink "MakingHouse" (694 : Nat) "MakingHouse" "cycleQ" "J") ∈ lw_all := lw_g (lw_at lw_m3 10 rfl) rfl
theorem q676 : (Jvm.Cond.fieldLink "MakingHouse" (106 : Nat) "MakingHouse" "callBack" "[I") ∈ lw_all := lw_g (lw_at lw_m3 11 rfl) rfl
theorem q677 : (Jvm.Cond.fieldLink "MakingHouse" (109 : Nat) "MakingHouse" "callBegin" "[I") ∈ lw_all := lw_g (lw_at lw_m3 12 rfl) rfl
theorem q678 : (Jvm.Cond.fieldLink "MakingHouse" (112 : Nat) "MakingHouse" "callLeft" "[I") ∈ lw_all := lw_g (lw_at lw_m3 13 rfl) rfl
theorem q679 : (Jvm.Cond.fieldLink "MakingHouse" (597 : Nat) "MakingHouse" "calls" "I") ∈ lw_all := lw_g (lw_at lw_m3 14 rfl) rfl
theorem q680 : (Jvm.Cond.fieldLink "MakingHouse" (115 : Nat) "MakingHouse" "has" "[Z") ∈ lw_all := lw_g (lw_at lw_m3 15 rfl) rfl
theorem q681 : (Jvm.Cond.fieldLink "MakingHouse" (119 : Nat) "MakingHouse" "told" "[J") ∈ lw_all := lw_g (lw_at lw_m3 16 rfl) rfl
theorem q682 : (Jvm.Cond.fieldLink "MakingHouse" (122 : Nat) "MakingHouse" "g" "[I") ∈ lw_all := lw_g (lw_at lw_m3 17 rfl) rfl
theorem q683 : (Jvm.Cond.fieldLink "MakingHouse" (125 : Nat) "MakingHouse" "m" "[I") ∈ lw_all := lw_g (lw_at lw_m3 18 rfl) rfl
theorem q684 : (Jvm.Cond.fieldLink "MakingHouse" (637 : Nat) "MakingHouse" "gs" "I") ∈ lw_all := lw_g (lw_at lw_m3 19 rfl) rfl
theorem q685 : (Jvm.Cond.fieldLink "MakingHouse" (640 : Nat) "MakingHouse" "ms" "I") ∈ lw_all := lw_g (lw_at lw_m3 20 rfl) rfl
theorem q686 : (Jvm.Cond.fieldLink "MakingHouse" (128 : Nat) "MakingHouse" "acceleration" "I") ∈ lw_all := lw_g (lw_at lw_m3 21 rfl) rfl
theorem q687 : (Jvm.Cond.fieldLink "MakingHouse" (131 : Nat) "MakingHouse" "speeds" "[I") ∈ lw_all := lw_g (lw_at lw_m3 22 rfl) rfl
theorem q688 : (Jvm.Cond.fieldLink "MakingHouse" (573 : Nat) "MakingHouse" "solved" "Z") ∈ lw_all := lw_g (lw_at lw_m3 23 rfl) rfl
theorem q689 : (Jvm.Cond.laysFinal "MakingHouse" "MakingHouse" "solids" "Ljava/util/ArrayList;") ∈ lw_all := lw_g (lw_at lw_m3 24 rfl) rfl
theorem q690 : (Jvm.Cond.soleField "MakingHouse" "solids") ∈ lw_all := lw_g (lw_at lw_m3 25 rfl) rfl
theorem q691 : (Jvm.Cond.laysFinal "MakingHouse" "MakingHouse" "sizes" "[I") ∈ lw_all := lw_g (lw_at lw_m3 26 rfl) rfl
theorem q692 : (Jvm.Cond.soleField "MakingHouse" "sizes") ∈ lw_all := lw_g (lw_at lw_m3 27 rfl) rfl
theorem q693 : (Jvm.Cond.lays "MakingHouse" "MakingHouse" "sizeCount" "I") ∈ lw_all := lw_g (lw_at lw_m3 28 rfl) rfl
theorem q694 : (Jvm.Cond.soleField "MakingHouse" "sizeCount") ∈ lw_all := lw_g (lw_at lw_m3 29 rfl) rfl
theorem q695 : (Jvm.Cond.laysFinal "MakingHouse" "MakingHouse" "spans" "LMakingHouse$Spans;") ∈ lw_all := lw_g (lw_at lw_m3 30 rfl) rfl
theorem q696 : (Jvm.Cond.soleField "MakingHouse" "spans") ∈ lw_all := lw_g (lw_at lw_m3 31 rfl) rfl
theorem q697 : (Jvm.Cond.laysFinal "MakingHouse" "MakingHouse" "pile" "[LMakingHouse$Spans;") ∈ lw_all := lw_g (lw_at lw_m3 32 rfl) rfl
theorem q698 : (Jvm.Cond.soleField "MakingHouse" "pile") ∈ lw_all := lw_g (lw_at lw_m3 33 rfl) rfl
theorem q699 : (Jvm.Cond.laysFinal "MakingHouse" "MakingHouse" "layer" "LMakingHouse$Layer;") ∈ lw_all := lw_g (lw_at lw_m3 34 rfl) rfl
theorem q700 : (Jvm.Cond.soleField "MakingHouse" "layer") ∈ lw_all := lw_g (lw_at lw_m3 35 rfl) rfl
theorem q701 : (Jvm.Cond.lays "MakingHouse" "MakingHouse" "isLayered" "Z") ∈ lw_all := lw_g (lw_at lw_m3 36 rfl) rfl
theorem q702 : (Jvm.Cond.soleField "MakingHouse" "isLayered") ∈ lw_all := lw_g (lw_at lw_m3 37 rfl) rfl
theorem q703 : (Jvm.Cond.laysFinal "MakingHouse" "MakingHouse" "block" "LMakingHouse$Stock;") ∈ lw_all := lw_g (lw_at lw_m3 38 rfl) rfl
theorem q704 : (Jvm.Cond.soleField "MakingHouse" "block") ∈ lw_all := lw_g (lw_at lw_m3 39 rfl) rfl
theorem q705 : (Jvm.Cond.lays "MakingHouse" "MakingHouse" "stock" "LMakingHouse$Stock;") ∈ lw_all := lw_g (lw_at lw_m3 40 rfl) rfl
theorem q706 : (Jvm.Cond.soleField "MakingHouse" "stock") ∈ lw_all := lw_g (lw_at lw_m3 41 rfl) rfl
theorem q707 : (Jvm.Cond.lays "MakingHouse" "MakingHouse" "part" "LMakingHouse$Solid;") ∈ lw_all := lw_g (lw_at lw_m3 42 rfl) rfl
theorem q708 : (Jvm.Cond.soleField "MakingHouse" "part") ∈ lw_all := lw_g (lw_at lw_m3 43 rfl) rfl
theorem q709 : (Jvm.Cond.laysFinal "MakingHouse" "MakingHouse" "tools" "[LMakingHouse$Tool;") ∈ lw_all := lw_g (lw_at lw_m3 44 rfl) rfl
theorem q710 : (Jvm.Cond.soleField "MakingHouse" "tools") ∈ lw_all := lw_g (lw_at lw_m3 45 rfl) rfl
theorem q711 : (Jvm.Cond.laysFinal "MakingHouse" "MakingHouse" "tray" "[B") ∈ lw_all := lw_g (lw_at lw_m3 46 rfl) rfl
theorem q712 : (Jvm.Cond.soleField "MakingHouse" "tray") ∈ lw_all := lw_g (lw_at lw_m3 47 rfl) rfl
theorem q713 : (Jvm.Cond.lays "MakingHouse" "MakingHouse" "trayed" "I") ∈ lw_all := lw_g (lw_at lw_m3 48 rfl) rfl
theorem q714 : (Jvm.Cond.soleField "MakingHouse" "trayed") ∈ lw_all := lw_g (lw_at lw_m3 49 rfl) rfl
theorem q715 : (Jvm.Cond.lays "MakingHouse" "MakingHouse" "fed" "I") ∈ lw_all := lw_g (lw_at lw_m3 50 rfl) rfl
theorem q716 : (Jvm.Cond.soleField "MakingHouse" "fed") ∈ lw_all := lw_g (lw_at lw_m3 51 rfl) rfl
theorem q717 : (Jvm.Cond.lays "MakingHouse" "MakingHouse" "place" "I") ∈ lw_all := lw_g (lw_at lw_m3 52 rfl) rfl
theorem q718 : (Jvm.Cond.soleField "MakingHouse" "place") ∈ lw_all := lw_g (lw_at lw_m3 53 rfl) rfl
theorem q719 : (Jvm.Cond.laysFinal "MakingHouse" "MakingHouse" "trouble" "LMakingHouse$Trouble;") ∈ lw_all := lw_g (lw_at lw_m3 54 rfl) rfl
theorem q720 : (Jvm.Cond.soleField "MakingHouse" "trouble") ∈ lw_all := lw_g (lw_at lw_m3 55 rfl) rfl
theorem q721 : (Jvm.Cond.laysFinal "MakingHouse" "MakingHouse" "reader" "LMakingHouse$Reader;") ∈ lw_all := lw_g (lw_at lw_m3 56 rfl) rfl
theorem q722 : (Jvm.Cond.soleField "MakingHouse" "reader") ∈ lw_all := lw_g (lw_at lw_m3 57 rfl) rfl
theorem q723 : (Jvm.Cond.lays "MakingHouse" "MakingHouse" "program" "LMakingHouse$Program;") ∈ lw_all := lw_g (lw_at lw_m3 58 rfl) rfl
theorem q724 : (Jvm.Cond.soleField "MakingHouse" "program") ∈ lw_all := lw_g (lw_at lw_m3 59 rfl) rfl
theorem q725 : (Jvm.Cond.lays "MakingHouse" "MakingHouse" "spare" "LMakingHouse$Program;") ∈ lw_all := lw_g (lw_at lw_m3 60 rfl) rfl
theorem q726 : (Jvm.Cond.soleField "MakingHouse" "spare") ∈ lw_all := lw_g (lw_at lw_m3 61 rfl) rfl
theorem q727 : (Jvm.Cond.lays "MakingHouse" "MakingHouse" "isRead" "Z") ∈ lw_all := lw_g (lw_at lw_m3 62 rfl) rfl
theorem q728 : (Jvm.Cond.soleField "MakingHouse" "isRead") ∈ lw_all := lw_g (lw_at lw_m3 63 rfl) rfl
theorem q729 : (Jvm.Cond.laysFinal "MakingHouse" "MakingHouse" "alarm" "LMakingHouse$Trouble;") ∈ lw_all := lw_g (lw_at lw_m3 64 rfl) rfl
theorem q730 : (Jvm.Cond.soleField "MakingHouse" "alarm") ∈ lw_all := lw_g (lw_at lw_m3 65 rfl) rfl
theorem q731 : (Jvm.Cond.laysFinal "MakingHouse" "MakingHouse" "variables" "[J") ∈ lw_all := lw_g (lw_at lw_m3 66 rfl) rfl
theorem q732 : (Jvm.Cond.soleField "MakingHouse" "variables") ∈ lw_all := lw_g (lw_at lw_m3 67 rfl) rfl
theorem q733 : (Jvm.Cond.laysFinal "MakingHouse" "MakingHouse" "values" "[J") ∈ lw_all := lw_g (lw_at lw_m3 68 rfl) rfl
theorem q734 : (Jvm.Cond.soleField "MakingHouse" "values") ∈ lw_all := lw_g (lw_at lw_m3 69 rfl) rfl
theorem q735 : (Jvm.Cond.lays "MakingHouse" "MakingHouse" "valueCount" "I") ∈ lw_all := lw_g (lw_at lw_m3 70 rfl) rfl
theorem q736 : (Jvm.Cond.soleField "MakingHouse" "valueCount") ∈ lw_all := lw_g (lw_at lw_m3 71 rfl) rfl
theorem q737 : (Jvm.Cond.lays "MakingHouse" "MakingHouse" "stepAt" "I") ∈ lw_all := lw_g (lw_at lw_m3 72 rfl) rfl
theorem q738 : (Jvm.Cond.soleField "MakingHouse" "stepAt") ∈ lw_all := lw_g (lw_at lw_m3 73 rfl) rfl
theorem q739 : (Jvm.Cond.lays "MakingHouse" "MakingHouse" "x" "I") ∈ lw_all := lw_g (lw_at lw_m3 74 rfl) rfl
theorem q740 : (Jvm.Cond.soleField "MakingHouse" "x") ∈ lw_all := lw_g (lw_at lw_m3 75 rfl) rfl
theorem q741 : (Jvm.Cond.lays "MakingHouse" "MakingHouse" "y" "I") ∈ lw_all := lw_g (lw_at lw_m3 76 rfl) rfl
theorem q742 : (Jvm.Cond.soleField "MakingHouse" "y") ∈ lw_all := lw_g (lw_at lw_m3 77 rfl) rfl
theorem q743 : (Jvm.Cond.lays "MakingHouse" "MakingHouse" "z" "I") ∈ lw_all := lw_g (lw_at lw_m3 78 rfl) rfl
theorem q744 : (Jvm.Cond.soleField "MakingHouse" "z") ∈ lw_all := lw_g (lw_at lw_m3 79 rfl) rfl
theorem q745 : (Jvm.Cond.lays "MakingHouse" "MakingHouse" "fuel" "I") ∈ lw_all := lw_g (lw_at lw_m3 80 rfl) rfl
theorem q746 : (Jvm.Cond.soleField "MakingHouse" "fuel") ∈ lw_all := lw_g (lw_at lw_m3 81 rfl) rfl
theorem q747 : (Jvm.Cond.lays "MakingHouse" "MakingHouse" "steps" "I") ∈ lw_all := lw_g (lw_at lw_m3 82 rfl) rfl
theorem q748 : (Jvm.Cond.soleField "MakingHouse" "steps") ∈ lw_all := lw_g (lw_at lw_m3 83 rfl) rfl
theorem q749 : (Jvm.Cond.lays "MakingHouse" "MakingHouse" "ticks" "I") ∈ lw_all := lw_g (lw_at lw_m3 84 rfl) rfl
theorem q750 : (Jvm.Cond.soleField "MakingHouse" "ticks") ∈ lw_all := lw_g (lw_at lw_m3 85 rfl) rfl
theorem q751 : (Jvm.Cond.lays "MakingHouse" "MakingHouse" "tool" "I") ∈ lw_all := lw_g (lw_at lw_m3 86 rfl) rfl
theorem q752 : (Jvm.Cond.soleField "MakingHouse" "tool") ∈ lw_all := lw_g (lw_at lw_m3 87 rfl) rfl
theorem q753 : (Jvm.Cond.lays "MakingHouse" "MakingHouse" "line" "I") ∈ lw_all := lw_g (lw_at lw_m3 88 rfl) rfl
theorem q754 : (Jvm.Cond.soleField "MakingHouse" "line") ∈ lw_all := lw_g (lw_at lw_m3 89 rfl) rfl
theorem q755 : (Jvm.Cond.lays "MakingHouse" "MakingHouse" "outcome" "I") ∈ lw_all := lw_g (lw_at lw_m3 90 rfl) rfl
theorem q756 : (Jvm.Cond.soleField "MakingHouse" "outcome") ∈ lw_all := lw_g (lw_at lw_m3 91 rfl) rfl
theorem q757 : (Jvm.Cond.lays "MakingHouse" "MakingHouse" "ran" "Z") ∈ lw_all := lw_g (lw_at lw_m3 92 rfl) rfl
theorem q758 : (Jvm.Cond.soleField "MakingHouse" "ran") ∈ lw_all := lw_g (lw_at lw_m3 93 rfl) rfl
theorem q759 : (Jvm.Cond.laysFinal "MakingHouse" "MakingHouse" "moves" "[I") ∈ lw_all := lw_g (lw_at lw_m3 94 rfl) rfl
theorem q760 : (Jvm.Cond.soleField "MakingHouse" "moves") ∈ lw_all := lw_g (lw_at lw_m3 95 rfl) rfl
theorem q761 : (Jvm.Cond.lays "MakingHouse" "MakingHouse" "moveCount" "I") ∈ lw_all := lw_g (lw_at lw_m3 96 rfl) rfl
theorem q762 : (Jvm.Cond.soleField "MakingHouse" "moveCount") ∈ lw_all := lw_g (lw_at lw_m3 97 rfl) rfl
theorem q763 : (Jvm.Cond.lays "MakingHouse" "MakingHouse" "firstX" "I") ∈ lw_all := lw_g (lw_at lw_m3 98 rfl) rfl
theorem q764 : (Jvm.Cond.soleField "MakingHouse" "firstX") ∈ lw_all := lw_g (lw_at lw_m3 99 rfl) rfl
theorem q765 : (Jvm.Cond.lays "MakingHouse" "MakingHouse" "firstY" "I") ∈ lw_all := lw_g (lw_at lw_m3 100 rfl) rfl
theorem q766 : (Jvm.Cond.soleField "MakingHouse" "firstY") ∈ lw_all := lw_g (lw_at lw_m3 101 rfl) rfl
theorem q767 : (Jvm.Cond.lays "MakingHouse" "MakingHouse" "firstZ" "I") ∈ lw_all := lw_g (lw_at lw_m3 102 rfl) rfl
theorem q768 : (Jvm.Cond.soleField "MakingHouse" "firstZ") ∈ lw_all := lw_g (lw_at lw_m3 103 rfl) rfl
theorem q769 : (Jvm.Cond.lays "MakingHouse" "MakingHouse" "lastX" "I") ∈ lw_all := lw_g (lw_at lw_m3 104 rfl) rfl
theorem q770 : (Jvm.Cond.soleField "MakingHouse" "lastX") ∈ lw_all := lw_g (lw_at lw_m3 105 rfl) rfl
theorem q771 : (Jvm.Cond.lays "MakingHouse" "MakingHouse" "lastY" "I") ∈ lw_all := lw_g (lw_at lw_m3 106 rfl) rfl
theorem q772 : (Jvm.Cond.soleField "MakingHouse" "lastY") ∈ lw_all := lw_g (lw_at lw_m3 107 rfl) rfl
theorem q773 : (Jvm.Cond.lays "MakingHouse" "MakingHouse" "lastZ" "I") ∈ lw_all := lw_g (lw_at lw_m3 108 rfl) rfl
theorem q774 : (Jvm.Cond.soleField "MakingHouse" "lastZ") ∈ lw_all := lw_g (lw_at lw_m3 109 rfl) rfl
theorem q775 : (Jvm.Cond.lays "MakingHouse" "MakingHouse" "count" "I") ∈ lw_all := lw_g (lw_at lw_m3 110 rfl) rfl
theorem q776 : (Jvm.Cond.soleField "MakingHouse" "count") ∈ lw_all := lw_g (lw_at lw_m3 111 rfl) rfl
theorem q777 : (Jvm.Cond.lays "MakingHouse" "MakingHouse" "spindle" "Z") ∈ lw_all := lw_g (lw_at lw_m3 112 rfl) rfl
theorem q778 : (Jvm.Cond.soleField "MakingHouse" "spindle") ∈ lw_all := lw_g (lw_at lw_m3 113 rfl) rfl
theorem q779 : (Jvm.Cond.lays "MakingHouse" "MakingHouse" "isAdded" "Z") ∈ lw_all := lw_g (lw_at lw_m3 114 rfl) rfl
theorem q780 : (Jvm.Cond.soleField "MakingHouse" "isAdded") ∈ lw_all := lw_g (lw_at lw_m3 115 rfl) rfl
theorem q781 : (Jvm.Cond.lays "MakingHouse" "MakingHouse" "returnsLow" "Z") ∈ lw_all := lw_g (lw_at lw_m3 116 rfl) rfl
theorem q782 : (Jvm.Cond.soleField "MakingHouse" "returnsLow") ∈ lw_all := lw_g (lw_at lw_m3 117 rfl) rfl
theorem q783 : (Jvm.Cond.lays "MakingHouse" "MakingHouse" "speed" "I") ∈ lw_all := lw_g (lw_at lw_m3 118 rfl) rfl
theorem q784 : (Jvm.Cond.soleField "MakingHouse" "speed") ∈ lw_all := lw_g (lw_at lw_m3 119 rfl) rfl
theorem q785 : (Jvm.Cond.lays "MakingHouse" "MakingHouse" "toolTold" "I") ∈ lw_all := lw_g (lw_at lw_m3 120 rfl) rfl
theorem q786 : (Jvm.Cond.soleField "MakingHouse" "toolTold") ∈ lw_all := lw_g (lw_at lw_m3 121 rfl) rfl
theorem q787 : (Jvm.Cond.lays "MakingHouse" "MakingHouse" "frame" "I") ∈ lw_all := lw_g (lw_at lw_m3 122 rfl) rfl
theorem q788 : (Jvm.Cond.soleField "MakingHouse" "frame") ∈ lw_all := lw_g (lw_at lw_m3 123 rfl) rfl
theorem q789 : (Jvm.Cond.lays "MakingHouse" "MakingHouse" "quarters" "I") ∈ lw_all := lw_g (lw_at lw_m3 124 rfl) rfl
theorem q790 : (Jvm.Cond.soleField "MakingHouse" "quarters") ∈ lw_all := lw_g (lw_at lw_m3 125 rfl) rfl
theorem q791 : (Jvm.Cond.lays "MakingHouse" "MakingHouse" "mode" "I") ∈ lw_all := lw_g (lw_at lw_m3 126 rfl) rfl
theorem q792 : (Jvm.Cond.soleField "MakingHouse" "mode") ∈ lw_all := lw_g (lw_at lw_m3 127 rfl) rfl
theorem q793 : (Jvm.Cond.laysFinal "MakingHouse" "MakingHouse" "offsets" "[J") ∈ lw_all := lw_g (lw_at lw_m3 128 rfl) rfl
theorem q794 : (Jvm.Cond.soleField "MakingHouse" "offsets") ∈ lw_all := lw_g (lw_at lw_m3 129 rfl) rfl
theorem q795 : (Jvm.Cond.lays "MakingHouse" "MakingHouse" "hasZ" "Z") ∈ lw_all := lw_g (lw_at lw_m3 130 rfl) rfl
theorem q796 : (Jvm.Cond.soleField "MakingHouse" "hasZ") ∈ lw_all := lw_g (lw_at lw_m3 131 rfl) rfl
theorem q797 : (Jvm.Cond.lays "MakingHouse" "MakingHouse" "hasR" "Z") ∈ lw_all := lw_g (lw_at lw_m3 132 rfl) rfl
theorem q798 : (Jvm.Cond.soleField "MakingHouse" "hasR") ∈ lw_all := lw_g (lw_at lw_m3 133 rfl) rfl
theorem q799 : (Jvm.Cond.lays "MakingHouse" "MakingHouse" "hasQ" "Z") ∈ lw_all := lw_g (lw_at lw_m3 134 rfl) rfl
theorem q800 : (Jvm.Cond.soleField "MakingHouse" "hasQ") ∈ lw_all := lw_g (lw_at lw_m3 135 rfl) rfl
theorem q801 : (Jvm.Cond.lays "MakingHouse" "MakingHouse" "cycleZ" "J") ∈ lw_all := lw_g (lw_at lw_m3 136 rfl) rfl
theorem q802 : (Jvm.Cond.soleField "MakingHouse" "cycleZ") ∈ lw_all := lw_g (lw_at lw_m3 137 rfl) rfl
theorem q803 : (Jvm.Cond.lays "MakingHouse" "MakingHouse" "cycleR" "J") ∈ lw_all := lw_g (lw_at lw_m3 138 rfl) rfl
theorem q804 : (Jvm.Cond.soleField "MakingHouse" "cycleR") ∈ lw_all := lw_g (lw_at lw_m3 139 rfl) rfl
theorem q805 : (Jvm.Cond.lays "MakingHouse" "MakingHouse" "cycleQ" "J") ∈ lw_all := lw_g (lw_at lw_m3 140 rfl) rfl
theorem q806 : (Jvm.Cond.soleField "MakingHouse" "cycleQ") ∈ lw_all := lw_g (lw_at lw_m3 141 rfl) rfl
theorem q807 : (Jvm.Cond.laysFinal "MakingHouse" "MakingHouse" "callBack" "[I") ∈ lw_all := lw_g (lw_at lw_m3 142 rfl) rfl
theorem q808 : (Jvm.Cond.soleField "MakingHouse" "callBack") ∈ lw_all := lw_g (lw_at lw_m3 143 rfl) rfl
theorem q809 : (Jvm.Cond.laysFinal "MakingHouse" "MakingHouse" "callBegin" "[I") ∈ lw_all := lw_g (lw_at lw_m3 144 rfl) rfl
theorem q810 : (Jvm.Cond.soleField "MakingHouse" "callBegin") ∈ lw_all := lw_g (lw_at lw_m3 145 rfl) rfl
theorem q811 : (Jvm.Cond.laysFinal "MakingHouse" "MakingHouse" "callLeft" "[I") ∈ lw_all := lw_g (lw_at lw_m3 146 rfl) rfl
theorem q812 : (Jvm.Cond.soleField "MakingHouse" "callLeft") ∈ lw_all := lw_g (lw_at lw_m3 147 rfl) rfl
theorem q813 : (Jvm.Cond.lays "MakingHouse" "MakingHouse" "calls" "I") ∈ lw_all := lw_g (lw_at lw_m3 148 rfl) rfl
theorem q814 : (Jvm.Cond.soleField "MakingHouse" "calls") ∈ lw_all := lw_g (lw_at lw_m3 149 rfl) rfl
theorem q815 : (Jvm.Cond.laysFinal "MakingHouse" "MakingHouse" "has" "[Z") ∈ lw_all := lw_g (lw_at lw_m3 150 rfl) rfl
theorem q816 : (Jvm.Cond.soleField "MakingHouse" "has") ∈ lw_all := lw_g (lw_at lw_m3 151 rfl) rfl
theorem q817 : (Jvm.Cond.laysFinal "MakingHouse" "MakingHouse" "told" "[J") ∈ lw_all := lw_g (lw_at lw_m3 152 rfl) rfl
theorem q818 : (Jvm.Cond.soleField "MakingHouse" "told") ∈ lw_all := lw_g (lw_at lw_m3 153 rfl) rfl
theorem q819 : (Jvm.Cond.laysFinal "MakingHouse" "MakingHouse" "g" "[I") ∈ lw_all := lw_g (lw_at lw_m3 154 rfl) rfl
theorem q820 : (Jvm.Cond.soleField "MakingHouse" "g") ∈ lw_all := lw_g (lw_at lw_m3 155 rfl) rfl
theorem q821 : (Jvm.Cond.laysFinal "MakingHouse" "MakingHouse" "m" "[I") ∈ lw_all := lw_g (lw_at lw_m3 156 rfl) rfl
theorem q822 : (Jvm.Cond.soleField "MakingHouse" "m") ∈ lw_all := lw_g (lw_at lw_m3 157 rfl) rfl
theorem q823 : (Jvm.Cond.lays "MakingHouse" "MakingHouse" "gs" "I") ∈ lw_all := lw_g (lw_at lw_m3 158 rfl) rfl
theorem q824 : (Jvm.Cond.soleField "MakingHouse" "gs") ∈ lw_all := lw_g (lw_at lw_m3 159 rfl) rfl
theorem q825 : (Jvm.Cond.lays "MakingHouse" "MakingHouse" "ms" "I") ∈ lw_all := lw_g (lw_at lw_m3 160 rfl) rfl
theorem q826 : (Jvm.Cond.soleField "MakingHouse" "ms") ∈ lw_all := lw_g (lw_at lw_m3 161 rfl) rfl
theorem q827 : (Jvm.Cond.lays "MakingHouse" "MakingHouse" "acceleration" "I") ∈ lw_all := lw_g (lw_at lw_m3 162 rfl) rfl
theorem q828 : (Jvm.Cond.soleField "MakingHouse" "acceleration") ∈ lw_all := lw_g (lw_at lw_m3 163 rfl) rfl
theorem q829 : (Jvm.Cond.laysFinal "MakingHouse" "MakingHouse" "speeds" "[I") ∈ lw_all := lw_g (lw_at lw_m3 164 rfl) rfl
theorem q830 : (Jvm.Cond.soleField "MakingHouse" "speeds") ∈ lw_all := lw_g (lw_at lw_m3 165 rfl) rfl
theorem q831 : (Jvm.Cond.lays "MakingHouse" "MakingHouse" "solved" "Z") ∈ lw_all := lw_g (lw_at lw_m3 166 rfl) rfl
theorem q832 : (Jvm.Cond.soleField "MakingHouse" "solved") ∈ lw_all := lw_g (lw_at lw_m3 167 rfl) rfl
theorem q833 : (Jvm.Cond.superclass "MakingHouse" "java/lang/Object") ∈ lw_all := lw_g (lw_at lw_m3 168 rfl) rfl
theorem q835 : (Jvm.Cond.instanceMethod ({ cls := "MakingHouse", name := "size", desc := "(I)I" } : Jvm.MethodName)) ∈ lw_all := lw_g (lw_at lw_m3 170 rfl) rfl
theorem q836 : (Jvm.Cond.selects "MakingHouse" ({ cls := "MakingHouse", name := "size", desc := "(I)I" } : Jvm.MethodName) ({ cls := "MakingHouse", name := "size", desc := "(I)I" } : Jvm.MethodName)) ∈ lw_all := lw_g (lw_at lw_m3 171 rfl) rfl
theorem q837 : (Jvm.Cond.code ({ cls := "MakingHouse", name := "size", desc := "(I)I" } : Jvm.MethodName) prog_1_method_6_code (2 : Nat) (Option.some Jvm.ClassFile.FieldType.int)) ∈ lw_all := lw_g (lw_at lw_m3 172 rfl) rfl
theorem q839 : (Jvm.Cond.instanceMethod ({ cls := "MakingHouse", name := "solid", desc := "(I)I" } : Jvm.MethodName)) ∈ lw_all := lw_g (lw_at lw_m3 174 rfl) rfl
theorem q840 : (Jvm.Cond.selects "MakingHouse" ({ cls := "MakingHouse", name := "solid", desc := "(I)I" } : Jvm.MethodName) ({ cls := "MakingHouse", name := "solid", desc := "(I)I" } : Jvm.MethodName)) ∈ lw_all := lw_g (lw_at lw_m3 175 rfl) rfl
theorem q841 : (Jvm.Cond.code ({ cls := "MakingHouse", name := "solid", desc := "(I)I" } : Jvm.MethodName) prog_1_method_11_code (5 : Nat) (Option.some Jvm.ClassFile.FieldType.int)) ∈ lw_all := lw_g (lw_at lw_m3 176 rfl) rfl
theorem q842 : (Jvm.Cond.methodLink "MakingHouse" (143 : Nat) ({ cls := "java/util/ArrayList", name := "size", desc := "()I" } : Jvm.MethodName)) ∈ lw_all := lw_g (lw_at lw_m3 177 rfl) rfl
theorem q846 : (Jvm.Cond.methodLink "MakingHouse" (157 : Nat) ({ cls := "MakingHouse", name := "used", desc := "()[I" } : Jvm.MethodName)) ∈ lw_all := lw_g (lw_at lw_m3 181 rfl) rfl
theorem q847 : (Jvm.Cond.privateMethod ({ cls := "MakingHouse", name := "used", desc := "()[I" } : Jvm.MethodName)) ∈ lw_tbl := lw_at lw_m3 182 rfl
theorem q848 : (Jvm.Cond.instanceMethod ({ cls := "MakingHouse", name := "used", desc := "()[I" } : Jvm.MethodName)) ∈ lw_all := lw_g (lw_at lw_m3 183 rfl) rfl
theorem q849 : (Jvm.Cond.code ({ cls := "MakingHouse", name := "used", desc := "()[I" } : Jvm.MethodName) prog_1_method_7_code (2 : Nat) (Option.some (Jvm.ClassFile.FieldType.array Jvm.ClassFile.FieldType.int))) ∈ lw_all := lw_g (lw_at lw_m3 184 rfl) rfl
theorem q850 : (Jvm.Cond.methodLink "MakingHouse" (137 : Nat) ({ cls := "java/lang/System", name := "arraycopy", desc := "(Ljava/lang/Object;ILjava/lang/Object;II)V" } : Jvm.MethodName)) ∈ lw_all := lw_g (lw_at lw_m3 185 rfl) rfl
theorem q853 : (Jvm.Cond.classLink "MakingHouse" (161 : Nat) "MakingHouse$Box") ∈ lw_all := lw_g (lw_at lw_m3 188 rfl) rfl
theorem q855 : (Jvm.Cond.methodLink "MakingHouse" (163 : Nat) ({ cls := "MakingHouse$Box", name := "<init>", desc := "([I)V" } : Jvm.MethodName)) ∈ lw_all := lw_g (lw_at lw_m3 190 rfl) rfl
theorem q867 : (Jvm.Cond.fieldLink "MakingHouse" (187 : Nat) "MakingHouse$Solid" "weight" "I") ∈ lw_all := lw_g (lw_at lw_m3 202 rfl) rfl
theorem q873 : (Jvm.Cond.classLink "MakingHouse" (166 : Nat) "MakingHouse$Post") ∈ lw_all := lw_g (lw_at lw_m3 208 rfl) rfl
theorem q875 : (Jvm.Cond.methodLink "MakingHouse" (168 : Nat) ({ cls := "MakingHouse$Post", name := "<init>", desc := "([I)V" } : Jvm.MethodName)) ∈ lw_all := lw_g (lw_at lw_m3 210 rfl) rfl
theorem q884 : (Jvm.Cond.classLink "MakingHouse" (169 : Nat) "MakingHouse$Ball") ∈ lw_all := lw_g (lw_at lw_m3 219 rfl) rfl
theorem q886 : (Jvm.Cond.methodLink "MakingHouse" (171 : Nat) ({ cls := "MakingHouse$Ball", name := "<init>", desc := "([I)V" } : Jvm.MethodName)) ∈ lw_all := lw_g (lw_at lw_m3 221 rfl) rfl
theorem q895 : (Jvm.Cond.classLink "MakingHouse" (172 : Nat) "MakingHouse$Cone") ∈ lw_all := lw_g (lw_at lw_m3 230 rfl) rfl
theorem q897 : (Jvm.Cond.methodLink "MakingHouse" (174 : Nat) ({ cls := "MakingHouse$Cone", name := "<init>", desc := "([I)V" } : Jvm.MethodName)) ∈ lw_all := lw_g (lw_at lw_m3 232 rfl) rfl
theorem q906 : (Jvm.Cond.methodLink "MakingHouse" (175 : Nat) ({ cls := "MakingHouse", name := "numbered", desc := "(LMakingHouse$Solid;)I" } : Jvm.MethodName)) ∈ lw_all := lw_g (lw_at lw_m4 1 rfl) rfl
theorem q907 : (Jvm.Cond.privateMethod ({ cls := "MakingHouse", name := "numbered", desc := "(LMakingHouse$Solid;)I" } : Jvm.MethodName)) ∈ lw_tbl := lw_at lw_m4 2 rfl
theorem q908 : (Jvm.Cond.instanceMethod ({ cls := "MakingHouse", name := "numbered", desc := "(LMakingHouse$Solid;)I" } : Jvm.MethodName)) ∈ lw_all := lw_g (lw_at lw_m4 3 rfl) rfl
theorem q909 : (Jvm.Cond.code ({ cls := "MakingHouse", name := "numbered", desc := "(LMakingHouse$Solid;)I" } : Jvm.MethodName) prog_1_method_10_code (2 : Nat) (Option.some Jvm.ClassFile.FieldType.int)) ∈ lw_all := lw_g (lw_at lw_m4 4 rfl) rfl
theorem q910 : (Jvm.Cond.methodLink "MakingHouse" (153 : Nat) ({ cls := "java/util/ArrayList", name := "add", desc := "(Ljava/lang/Object;)Z" } : Jvm.MethodName)) ∈ lw_all := lw_g (lw_at lw_m4 5 rfl) rfl
theorem q942 : (Jvm.Cond.selects "MakingHouse" ({ cls := "java/lang/Object", name := "getClass", desc := "()Ljava/lang/Class;" } : Jvm.MethodName) ({ cls := "java/lang/Object", name := "getClass", desc := "()Ljava/lang/Class;" } : Jvm.MethodName)) ∈ lw_all := lw_g (lw_at lw_m4 37 rfl) rfl
theorem q976 : (Jvm.Cond.instanceMethod ({ cls := "MakingHouse", name := "join", desc := "(III)I" } : Jvm.MethodName)) ∈ lw_all := lw_g (lw_at lw_m4 71 rfl) rfl
theorem q977 : (Jvm.Cond.selects "MakingHouse" ({ cls := "MakingHouse", name := "join", desc := "(III)I" } : Jvm.MethodName) ({ cls := "MakingHouse", name := "join", desc := "(III)I" } : Jvm.MethodName)) ∈ lw_all := lw_g (lw_at lw_m4 72 rfl) rfl
theorem q978 : (Jvm.Cond.code ({ cls := "MakingHouse", name := "join", desc := "(III)I" } : Jvm.MethodName) prog_1_method_12_code (4 : Nat) (Option.some Jvm.ClassFile.FieldType.int)) ∈ lw_all := lw_g (lw_at lw_m4 73 rfl) rfl
theorem q979 : (Jvm.Cond.methodLink "MakingHouse" (179 : Nat) ({ cls := "MakingHouse", name := "isSolid", desc := "(I)Z" } : Jvm.MethodName)) ∈ lw_all := lw_g (lw_at lw_m4 74 rfl) rfl
theorem q980 : (Jvm.Cond.privateMethod ({ cls := "MakingHouse", name := "isSolid", desc := "(I)Z" } : Jvm.MethodName)) ∈ lw_tbl := lw_at lw_m4 75 rfl
theorem q981 : (Jvm.Cond.instanceMethod ({ cls := "MakingHouse", name := "isSolid", desc := "(I)Z" } : Jvm.MethodName)) ∈ lw_all := lw_g (lw_at lw_m4 76 rfl) rfl
theorem q982 : (Jvm.Cond.code ({ cls := "MakingHouse", name := "isSolid", desc := "(I)Z" } : Jvm.MethodName) prog_1_method_8_code (2 : Nat) (Option.some Jvm.ClassFile.FieldType.boolean)) ∈ lw_all := lw_g (lw_at lw_m4 77 rfl) rfl
theorem q983 : (Jvm.Cond.methodLink "MakingHouse" (183 : Nat) ({ cls := "MakingHouse", name := "solidOf", desc := "(I)LMakingHouse$Solid;" } : Jvm.MethodName)) ∈ lw_all := lw_g (lw_at lw_m4 78 rfl) rfl
theorem q984 : (Jvm.Cond.privateMethod ({ cls := "MakingHouse", name := "solidOf", desc := "(I)LMakingHouse$Solid;" } : Jvm.MethodName)) ∈ lw_tbl := lw_at lw_m4 79 rfl
theorem q985 : (Jvm.Cond.instanceMethod ({ cls := "MakingHouse", name := "solidOf", desc := "(I)LMakingHouse$Solid;" } : Jvm.MethodName)) ∈ lw_all := lw_g (lw_at lw_m4 80 rfl) rfl
theorem q986 : (Jvm.Cond.code ({ cls := "MakingHouse", name := "solidOf", desc := "(I)LMakingHouse$Solid;" } : Jvm.MethodName) prog_1_method_9_code (2 : Nat) (Option.some (Jvm.ClassFile.FieldType.object "MakingHouse$Solid"))) ∈ lw_all := lw_g (lw_at lw_m4 81 rfl) rfl
theorem q987 : (Jvm.Cond.methodLink "MakingHouse" (147 : Nat) ({ cls := "java/util/ArrayList", name := "get", desc := "(I)Ljava/lang/Object;" } : Jvm.MethodName)) ∈ lw_all := lw_g (lw_at lw_m4 82 rfl) rfl
theorem q1001 : (Jvm.Cond.classLink "MakingHouse" (151 : Nat) "MakingHouse$Solid") ∈ lw_all := lw_g (lw_at lw_m4 96 rfl) rfl
theorem q1002 : (Jvm.Cond.classLink "MakingHouse" (190 : Nat) "MakingHouse$Join") ∈ lw_all := lw_g (lw_at lw_m4 97 rfl) rfl
theorem q1004 : (Jvm.Cond.methodLink "MakingHouse" (192 : Nat) ({ cls := "MakingHouse$Join", name := "<init>", desc := "(LMakingHouse$Solid;LMakingHouse$Solid;I)V" } : Jvm.MethodName)) ∈ lw_all := lw_g (lw_at lw_m4 99 rfl) rfl
theorem q1020 : (Jvm.Cond.instanceMethod ({ cls := "MakingHouse", name := "moved", desc := "(I)I" } : Jvm.MethodName)) ∈ lw_all := lw_g (lw_at lw_m4 115 rfl) rfl
theorem q1021 : (Jvm.Cond.selects "MakingHouse" ({ cls := "MakingHouse", name := "moved", desc := "(I)I" } : Jvm.MethodName) ({ cls := "MakingHouse", name := "moved", desc := "(I)I" } : Jvm.MethodName)) ∈ lw_all := lw_g (lw_at lw_m4 116 rfl) rfl
theorem q1022 : (Jvm.Cond.code ({ cls := "MakingHouse", name := "moved", desc := "(I)I" } : Jvm.MethodName) prog_1_method_13_code (3 : Nat) (Option.some Jvm.ClassFile.FieldType.int)) ∈ lw_all := lw_g (lw_at lw_m4 117 rfl) rfl
theorem q1023 : (Jvm.Cond.classLink "MakingHouse" (195 : Nat) "MakingHouse$Moved") ∈ lw_all := lw_g (lw_at lw_m4 118 rfl) rfl
theorem q1025 : (Jvm.Cond.methodLink "MakingHouse" (197 : Nat) ({ cls := "MakingHouse$Moved", name := "<init>", desc := "(LMakingHouse$Solid;[I)V" } : Jvm.MethodName)) ∈ lw_all := lw_g (lw_at lw_m4 120 rfl) rfl
theorem q1038 : (Jvm.Cond.instanceMethod ({ cls := "MakingHouse", name := "turned", desc := "(I)I" } : Jvm.MethodName)) ∈ lw_all := lw_g (lw_at lw_m4 133 rfl) rfl
theorem q1039 : (Jvm.Cond.selects "MakingHouse" ({ cls := "MakingHouse", name := "turned", desc := "(I)I" } : Jvm.MethodName) ({ cls := "MakingHouse", name := "turned", desc := "(I)I" } : Jvm.MethodName)) ∈ lw_all := lw_g (lw_at lw_m4 134 rfl) rfl
theorem q1040 : (Jvm.Cond.code ({ cls := "MakingHouse", name := "turned", desc := "(I)I" } : Jvm.MethodName) prog_1_method_14_code (2 : Nat) (Option.some Jvm.ClassFile.FieldType.int)) ∈ lw_all := lw_g (lw_at lw_m4 135 rfl) rfl
theorem q1041 : (Jvm.Cond.classLink "MakingHouse" (200 : Nat) "MakingHouse$Turned") ∈ lw_all := lw_g (lw_at lw_m4 136 rfl) rfl
theorem q1043 : (Jvm.Cond.methodLink "MakingHouse" (202 : Nat) ({ cls := "MakingHouse$Turned", name := "<init>", desc := "(LMakingHouse$Solid;)V" } : Jvm.MethodName)) ∈ lw_all := lw_g (lw_at lw_m4 138 rfl) rfl
theorem q1053 : (Jvm.Cond.instanceMethod ({ cls := "MakingHouse", name := "inside", desc := "(IIII)Z" } : Jvm.MethodName)) ∈ lw_all := lw_g (lw_at lw_m4 148 rfl) rfl
theorem q1054 : (Jvm.Cond.selects "MakingHouse" ({ cls := "MakingHouse", name := "inside", desc := "(IIII)Z" } : Jvm.MethodName) ({ cls := "MakingHouse", name := "inside", desc := "(IIII)Z" } : Jvm.MethodName)) ∈ lw_all := lw_g (lw_at lw_m4 149 rfl) rfl
theorem q1055 : (Jvm.Cond.code ({ cls := "MakingHouse", name := "inside", desc := "(IIII)Z" } : Jvm.MethodName) prog_1_method_16_code (5 : Nat) (Option.some Jvm.ClassFile.FieldType.boolean)) ∈ lw_all := lw_g (lw_at lw_m4 150 rfl) rfl
theorem q1056 : (Jvm.Cond.methodLink "MakingHouse" (207 : Nat) ({ cls := "MakingHouse", name := "isNear", desc := "(I)Z" } : Jvm.MethodName)) ∈ lw_all := lw_g (lw_at lw_m4 151 rfl) rfl
theorem q1057 : (Jvm.Cond.static ({ cls := "MakingHouse", name := "isNear", desc := "(I)Z" } : Jvm.MethodName)) ∈ lw_all := lw_g (lw_at lw_m4 152 rfl) rfl
theorem q1058 : (Jvm.Cond.code ({ cls := "MakingHouse", name := "isNear", desc := "(I)Z" } : Jvm.MethodName) prog_1_method_15_code (1 : Nat) (Option.some Jvm.ClassFile.FieldType.boolean)) ∈ lw_all := lw_g (lw_at lw_m4 153 rfl) rfl
theorem q1059 : (Jvm.Cond.constant "MakingHouse" (205 : Nat) (-100000 : Int32)) ∈ lw_all := lw_g (lw_at lw_m4 154 rfl) rfl
theorem q1060 : (Jvm.Cond.constant "MakingHouse" (206 : Nat) (100000 : Int32)) ∈ lw_all := lw_g (lw_at lw_m4 155 rfl) rfl
theorem q1061 : (Jvm.Cond.methodLink "MakingHouse" (210 : Nat) ({ cls := "MakingHouse$Solid", name := "has", desc := "(JJJ)Z" } : Jvm.MethodName)) ∈ lw_all := lw_g (lw_at lw_m4 156 rfl) rfl
theorem q1068 : (Jvm.Cond.static ({ cls := "MakingHouse", name := "square", desc := "(JJ)J" } : Jvm.MethodName)) ∈ lw_all := lw_g (lw_at lw_m4 163 rfl) rfl
theorem q1069 : (Jvm.Cond.code ({ cls := "MakingHouse", name := "square", desc := "(JJ)J" } : Jvm.MethodName) prog_1_method_3_code (4 : Nat) (Option.some Jvm.ClassFile.FieldType.long)) ∈ lw_all := lw_g (lw_at lw_m4 164 rfl) rfl
theorem q1098 : (Jvm.Cond.instanceMethod ({ cls := "MakingHouse", name := "top", desc := "(III)I" } : Jvm.MethodName)) ∈ lw_all := lw_g (lw_at lw_m4 193 rfl) rfl
theorem q1099 : (Jvm.Cond.selects "MakingHouse" ({ cls := "MakingHouse", name := "top", desc := "(III)I" } : Jvm.MethodName) ({ cls := "MakingHouse", name := "top", desc := "(III)I" } : Jvm.MethodName)) ∈ lw_all := lw_g (lw_at lw_m4 194 rfl) rfl
theorem q1100 : (Jvm.Cond.code ({ cls := "MakingHouse", name := "top", desc := "(III)I" } : Jvm.MethodName) prog_1_method_17_code (4 : Nat) (Option.some Jvm.ClassFile.FieldType.int)) ∈ lw_all := lw_g (lw_at lw_m4 195 rfl) rfl
theorem q1101 : (Jvm.Cond.methodLink "MakingHouse" (213 : Nat) ({ cls := "MakingHouse", name := "topOf", desc := "(LMakingHouse$Solid;II)I" } : Jvm.MethodName)) ∈ lw_all := lw_g (lw_at lw_m4 196 rfl) rfl
theorem q1102 : (Jvm.Cond.privateMethod ({ cls := "MakingHouse", name := "topOf", desc := "(LMakingHouse$Solid;II)I" } : Jvm.MethodName)) ∈ lw_tbl := lw_at lw_m4 197 rfl
theorem q1103 : (Jvm.Cond.instanceMethod ({ cls := "MakingHouse", name := "topOf", desc := "(LMakingHouse$Solid;II)I" } : Jvm.MethodName)) ∈ lw_all := lw_g (lw_at lw_m4 198 rfl) rfl
theorem q1104 : (Jvm.Cond.code ({ cls := "MakingHouse", name := "topOf", desc := "(LMakingHouse$Solid;II)I" } : Jvm.MethodName) prog_1_method_18_code (6 : Nat) (Option.some Jvm.ClassFile.FieldType.int)) ∈ lw_all := lw_g (lw_at lw_m4 199 rfl) rfl
theorem q1105 : (Jvm.Cond.methodLink "MakingHouse" (217 : Nat) ({ cls := "MakingHouse$Solid", name := "over", desc := "(JJLMakingHouse$Spans;[LMakingHouse$Spans;I)V" } : Jvm.MethodName)) ∈ lw_all := lw_g (lw_at lw_m4 200 rfl) rfl
theorem q1112 : (Jvm.Cond.static ({ cls := "MakingHouse", name := "root", desc := "(J)J" } : Jvm.MethodName)) ∈ lw_all := lw_g (lw_at lw_m4 207 rfl) rfl
theorem q1113 : (Jvm.Cond.code ({ cls := "MakingHouse", name := "root", desc := "(J)J" } : Jvm.MethodName) prog_1_method_1_code (8 : Nat) (Option.some Jvm.ClassFile.FieldType.long)) ∈ lw_all := lw_g (lw_at lw_m4 208 rfl) rfl
theorem q1114 : (Jvm.Cond.constantLong "MakingHouse" (1 : Nat) (2 : Int64)) ∈ lw_all := lw_g (lw_at lw_m4 209 rfl) rfl
theorem q1161 : (Jvm.Cond.constantLong "MakingHouse" (227 : Nat) (1000 : Int64)) ∈ lw_all := lw_g (lw_at lw_m5 16 rfl) rfl
theorem q1162 : (Jvm.Cond.methodLink "MakingHouse" (232 : Nat) ({ cls := "java/lang/Math", name := "min", desc := "(JJ)J" } : Jvm.MethodName)) ∈ lw_all := lw_g (lw_at lw_m5 17 rfl) rfl
theorem q1164 : (Jvm.Cond.instanceMethod ({ cls := "MakingHouse", name := "layer", desc := "(IIIIII)I" } : Jvm.MethodName)) ∈ lw_all := lw_g (lw_at lw_m5 19 rfl) rfl
theorem q1165 : (Jvm.Cond.selects "MakingHouse" ({ cls := "MakingHouse", name := "layer", desc := "(IIIIII)I" } : Jvm.MethodName) ({ cls := "MakingHouse", name := "layer", desc := "(IIIIII)I" } : Jvm.MethodName)) ∈ lw_all := lw_g (lw_at lw_m5 20 rfl) rfl
theorem q1166 : (Jvm.Cond.code ({ cls := "MakingHouse", name := "layer", desc := "(IIIIII)I" } : Jvm.MethodName) prog_1_method_19_code (9 : Nat) (Option.some Jvm.ClassFile.FieldType.int)) ∈ lw_all := lw_g (lw_at lw_m5 21 rfl) rfl
theorem q1167 : (Jvm.Cond.methodLink "MakingHouse" (238 : Nat) ({ cls := "MakingHouse$Layer", name := "begin", desc := "(II)V" } : Jvm.MethodName)) ∈ lw_all := lw_g (lw_at lw_m5 22 rfl) rfl
theorem q1171 : (Jvm.Cond.methodLink "MakingHouse" (242 : Nat) ({ cls := "MakingHouse$Layer", name := "set", desc := "(IIZ)V" } : Jvm.MethodName)) ∈ lw_all := lw_g (lw_at lw_m5 26 rfl) rfl
theorem q1175 : (Jvm.Cond.methodLink "MakingHouse" (246 : Nat) ({ cls := "MakingHouse$Layer", name := "done", desc := "(I)V" } : Jvm.MethodName)) ∈ lw_all := lw_g (lw_at lw_m5 30 rfl) rfl
theorem q1204 : (Jvm.Cond.instanceMethod ({ cls := "MakingHouse", name := "layered", desc := "(I)I" } : Jvm.MethodName)) ∈ lw_all := lw_g (lw_at lw_m5 59 rfl) rfl
theorem q1205 : (Jvm.Cond.selects "MakingHouse" ({ cls := "MakingHouse", name := "layered", desc := "(I)I" } : Jvm.MethodName) ({ cls := "MakingHouse", name := "layered", desc := "(I)I" } : Jvm.MethodName)) ∈ lw_all := lw_g (lw_at lw_m5 60 rfl) rfl
theorem q1206 : (Jvm.Cond.code ({ cls := "MakingHouse", name := "layered", desc := "(I)I" } : Jvm.MethodName) prog_1_method_20_code (2 : Nat) (Option.some Jvm.ClassFile.FieldType.int)) ∈ lw_all := lw_g (lw_at lw_m5 61 rfl) rfl
theorem q1208 : (Jvm.Cond.instanceMethod ({ cls := "MakingHouse", name := "run", desc := "(II)I" } : Jvm.MethodName)) ∈ lw_all := lw_g (lw_at lw_m5 63 rfl) rfl
theorem q1209 : (Jvm.Cond.selects "MakingHouse" ({ cls := "MakingHouse", name := "run", desc := "(II)I" } : Jvm.MethodName) ({ cls := "MakingHouse", name := "run", desc := "(II)I" } : Jvm.MethodName)) ∈ lw_all := lw_g (lw_at lw_m5 64 rfl) rfl
theorem q1210 : (Jvm.Cond.code ({ cls := "MakingHouse", name := "run", desc := "(II)I" } : Jvm.MethodName) prog_1_method_21_code (3 : Nat) (Option.some Jvm.ClassFile.FieldType.int)) ∈ lw_all := lw_g (lw_at lw_m5 65 rfl) rfl
theorem q1212 : (Jvm.Cond.instanceMethod ({ cls := "MakingHouse", name := "stock", desc := "(IIII)I" } : Jvm.MethodName)) ∈ lw_all := lw_g (lw_at lw_m5 67 rfl) rfl
theorem q1213 : (Jvm.Cond.selects "MakingHouse" ({ cls := "MakingHouse", name := "stock", desc := "(IIII)I" } : Jvm.MethodName) ({ cls := "MakingHouse", name := "stock", desc := "(IIII)I" } : Jvm.MethodName)) ∈ lw_all := lw_g (lw_at lw_m5 68 rfl) rfl
theorem q1214 : (Jvm.Cond.code ({ cls := "MakingHouse", name := "stock", desc := "(IIII)I" } : Jvm.MethodName) prog_1_method_22_code (5 : Nat) (Option.some Jvm.ClassFile.FieldType.int)) ∈ lw_all := lw_g (lw_at lw_m5 69 rfl) rfl
theorem q1215 : (Jvm.Cond.methodLink "MakingHouse" (281 : Nat) ({ cls := "MakingHouse$Stock", name := "begin", desc := "(IIII)V" } : Jvm.MethodName)) ∈ lw_all := lw_g (lw_at lw_m5 70 rfl) rfl
theorem q1220 : (Jvm.Cond.instanceMethod ({ cls := "MakingHouse", name := "clamp", desc := "(IIIII)I" } : Jvm.MethodName)) ∈ lw_all := lw_g (lw_at lw_m5 75 rfl) rfl
theorem q1221 : (Jvm.Cond.selects "MakingHouse" ({ cls := "MakingHouse", name := "clamp", desc := "(IIIII)I" } : Jvm.MethodName) ({ cls := "MakingHouse", name := "clamp", desc := "(IIIII)I" } : Jvm.MethodName)) ∈ lw_all := lw_g (lw_at lw_m5 76 rfl) rfl
theorem q1222 : (Jvm.Cond.code ({ cls := "MakingHouse", name := "clamp", desc := "(IIIII)I" } : Jvm.MethodName) prog_1_method_23_code (8 : Nat) (Option.some Jvm.ClassFile.FieldType.int)) ∈ lw_all := lw_g (lw_at lw_m5 77 rfl) rfl
theorem q1223 : (Jvm.Cond.methodLink "MakingHouse" (284 : Nat) ({ cls := "MakingHouse$Stock", name := "isColumn", desc := "(II)Z" } : Jvm.MethodName)) ∈ lw_all := lw_g (lw_at lw_m5 78 rfl) rfl
theorem q1227 : (Jvm.Cond.methodLink "MakingHouse" (297 : Nat) ({ cls := "java/lang/Math", name := "max", desc := "(II)I" } : Jvm.MethodName)) ∈ lw_all := lw_g (lw_at lw_m5 82 rfl) rfl
theorem q1229 : (Jvm.Cond.instanceMethod ({ cls := "MakingHouse", name := "part", desc := "(I)I" } : Jvm.MethodName)) ∈ lw_all := lw_g (lw_at lw_m5 84 rfl) rfl
theorem q1230 : (Jvm.Cond.selects "MakingHouse" ({ cls := "MakingHouse", name := "part", desc := "(I)I" } : Jvm.MethodName) ({ cls := "MakingHouse", name := "part", desc := "(I)I" } : Jvm.MethodName)) ∈ lw_all := lw_g (lw_at lw_m5 85 rfl) rfl
theorem q1231 : (Jvm.Cond.code ({ cls := "MakingHouse", name := "part", desc := "(I)I" } : Jvm.MethodName) prog_1_method_24_code (2 : Nat) (Option.some Jvm.ClassFile.FieldType.int)) ∈ lw_all := lw_g (lw_at lw_m5 86 rfl) rfl
theorem q1233 : (Jvm.Cond.instanceMethod ({ cls := "MakingHouse", name := "height", desc := "(II)I" } : Jvm.MethodName)) ∈ lw_all := lw_g (lw_at lw_m5 88 rfl) rfl
theorem q1234 : (Jvm.Cond.selects "MakingHouse" ({ cls := "MakingHouse", name := "height", desc := "(II)I" } : Jvm.MethodName) ({ cls := "MakingHouse", name := "height", desc := "(II)I" } : Jvm.MethodName)) ∈ lw_all := lw_g (lw_at lw_m5 89 rfl) rfl
theorem q1235 : (Jvm.Cond.code ({ cls := "MakingHouse", name := "height", desc := "(II)I" } : Jvm.MethodName) prog_1_method_25_code (3 : Nat) (Option.some Jvm.ClassFile.FieldType.int)) ∈ lw_all := lw_g (lw_at lw_m5 90 rfl) rfl
theorem q1237 : (Jvm.Cond.instanceMethod ({ cls := "MakingHouse", name := "stocked", desc := "(I)J" } : Jvm.MethodName)) ∈ lw_all := lw_g (lw_at lw_m5 92 rfl) rfl
theorem q1238 : (Jvm.Cond.selects "MakingHouse" ({ cls := "MakingHouse", name := "stocked", desc := "(I)J" } : Jvm.MethodName) ({ cls := "MakingHouse", name := "stocked", desc := "(I)J" } : Jvm.MethodName)) ∈ lw_all := lw_g (lw_at lw_m5 93 rfl) rfl
theorem q1239 : (Jvm.Cond.code ({ cls := "MakingHouse", name := "stocked", desc := "(I)J" } : Jvm.MethodName) prog_1_method_27_code (10 : Nat) (Option.some Jvm.ClassFile.FieldType.long)) ∈ lw_all := lw_g (lw_at lw_m5 94 rfl) rfl
theorem q1240 : (Jvm.Cond.constantLong "MakingHouse" (322 : Nat) (-1 : Int64)) ∈ lw_all := lw_g (lw_at lw_m5 95 rfl) rfl
theorem q1241 : (Jvm.Cond.methodLink "MakingHouse" (328 : Nat) ({ cls := "MakingHouse", name := "want", desc := "()V" } : Jvm.MethodName)) ∈ lw_all := lw_g (lw_at lw_m5 96 rfl) rfl
theorem q1242 : (Jvm.Cond.privateMethod ({ cls := "MakingHouse", name := "want", desc := "()V" } : Jvm.MethodName)) ∈ lw_tbl := lw_at lw_m5 97 rfl
theorem q1243 : (Jvm.Cond.instanceMethod ({ cls := "MakingHouse", name := "want", desc := "()V" } : Jvm.MethodName)) ∈ lw_all := lw_g (lw_at lw_m5 98 rfl) rfl
theorem q1244 : (Jvm.Cond.code ({ cls := "MakingHouse", name := "want", desc := "()V" } : Jvm.MethodName) prog_1_method_26_code (3 : Nat) (Option.none : Option Jvm.ClassFile.FieldType)) ∈ lw_all := lw_g (lw_at lw_m5 99 rfl) rfl
theorem q1245 : (Jvm.Cond.methodLink "MakingHouse" (331 : Nat) ({ cls := "java/lang/Math", name := "max", desc := "(JJ)J" } : Jvm.MethodName)) ∈ lw_all := lw_g (lw_at lw_m5 100 rfl) rfl
theorem q1249 : (Jvm.Cond.instanceMethod ({ cls := "MakingHouse", name := "tool", desc := "(IIIII)I" } : Jvm.MethodName)) ∈ lw_all := lw_g (lw_at lw_m5 104 rfl) rfl
theorem q1250 : (Jvm.Cond.selects "MakingHouse" ({ cls := "MakingHouse", name := "tool", desc := "(IIIII)I" } : Jvm.MethodName) ({ cls := "MakingHouse", name := "tool", desc := "(IIIII)I" } : Jvm.MethodName)) ∈ lw_all := lw_g (lw_at lw_m5 105 rfl) rfl
theorem q1251 : (Jvm.Cond.code ({ cls := "MakingHouse", name := "tool", desc := "(IIIII)I" } : Jvm.MethodName) prog_1_method_28_code (6 : Nat) (Option.some Jvm.ClassFile.FieldType.int)) ∈ lw_all := lw_g (lw_at lw_m5 106 rfl) rfl
theorem q1253 : (Jvm.Cond.methodLink "MakingHouse" (333 : Nat) ({ cls := "MakingHouse$Tool", name := "<init>", desc := "(IIII)V" } : Jvm.MethodName)) ∈ lw_all := lw_g (lw_at lw_m5 108 rfl) rfl
theorem q1259 : (Jvm.Cond.fieldLink "MakingHouse" (481 : Nat) "MakingHouse$Tool" "radius" "I") ∈ lw_all := lw_g (lw_at lw_m5 114 rfl) rfl
theorem q1261 : (Jvm.Cond.fieldLink "MakingHouse" (498 : Nat) "MakingHouse$Tool" "length" "I") ∈ lw_all := lw_g (lw_at lw_m5 116 rfl) rfl
theorem q1263 : (Jvm.Cond.fieldLink "MakingHouse" (509 : Nat) "MakingHouse$Tool" "holder" "I") ∈ lw_all := lw_g (lw_at lw_m5 118 rfl) rfl
theorem q1274 : (Jvm.Cond.instanceMethod ({ cls := "MakingHouse", name := "feed", desc := "(IIIII)I" } : Jvm.MethodName)) ∈ lw_all := lw_g (lw_at lw_m5 129 rfl) rfl
theorem q1275 : (Jvm.Cond.selects "MakingHouse" ({ cls := "MakingHouse", name := "feed", desc := "(IIIII)I" } : Jvm.MethodName) ({ cls := "MakingHouse", name := "feed", desc := "(IIIII)I" } : Jvm.MethodName)) ∈ lw_all := lw_g (lw_at lw_m5 130 rfl) rfl
theorem q1276 : (Jvm.Cond.code ({ cls := "MakingHouse", name := "feed", desc := "(IIIII)I" } : Jvm.MethodName) prog_1_method_29_code (6 : Nat) (Option.some Jvm.ClassFile.FieldType.int)) ∈ lw_all := lw_g (lw_at lw_m5 131 rfl) rfl
theorem q1277 : (Jvm.Cond.constant "MakingHouse" (341 : Nat) (65536 : Int32)) ∈ lw_all := lw_g (lw_at lw_m5 132 rfl) rfl
theorem q1278 : (Jvm.Cond.methodLink "MakingHouse" (342 : Nat) ({ cls := "MakingHouse", name := "word", desc := "(I)V" } : Jvm.MethodName)) ∈ lw_all := lw_g (lw_at lw_m5 133 rfl) rfl
theorem q1279 : (Jvm.Cond.privateMethod ({ cls := "MakingHouse", name := "word", desc := "(I)V" } : Jvm.MethodName)) ∈ lw_tbl := lw_at lw_m5 134 rfl
theorem q1280 : (Jvm.Cond.instanceMethod ({ cls := "MakingHouse", name := "word", desc := "(I)V" } : Jvm.MethodName)) ∈ lw_all := lw_g (lw_at lw_m5 135 rfl) rfl
theorem q1281 : (Jvm.Cond.code ({ cls := "MakingHouse", name := "word", desc := "(I)V" } : Jvm.MethodName) prog_1_method_30_code (3 : Nat) (Option.none : Option Jvm.ClassFile.FieldType)) ∈ lw_all := lw_g (lw_at lw_m5 136 rfl) rfl
theorem q1283 : (Jvm.Cond.instanceMethod ({ cls := "MakingHouse", name := "end", desc := "(I)I" } : Jvm.MethodName)) ∈ lw_all := lw_g (lw_at lw_m5 138 rfl) rfl
theorem q1284 : (Jvm.Cond.selects "MakingHouse" ({ cls := "MakingHouse", name := "end", desc := "(I)I" } : Jvm.MethodName) ({ cls := "MakingHouse", name := "end", desc := "(I)I" } : Jvm.MethodName)) ∈ lw_all := lw_g (lw_at lw_m5 139 rfl) rfl
theorem q1285 : (Jvm.Cond.code ({ cls := "MakingHouse", name := "end", desc := "(I)I" } : Jvm.MethodName) prog_1_method_31_code (2 : Nat) (Option.some Jvm.ClassFile.FieldType.int)) ∈ lw_all := lw_g (lw_at lw_m5 140 rfl) rfl
theorem q1287 : (Jvm.Cond.instanceMethod ({ cls := "MakingHouse", name := "program", desc := "()I" } : Jvm.MethodName)) ∈ lw_all := lw_g (lw_at lw_m5 142 rfl) rfl
theorem q1288 : (Jvm.Cond.selects "MakingHouse" ({ cls := "MakingHouse", name := "program", desc := "()I" } : Jvm.MethodName) ({ cls := "MakingHouse", name := "program", desc := "()I" } : Jvm.MethodName)) ∈ lw_all := lw_g (lw_at lw_m5 143 rfl) rfl
theorem q1289 : (Jvm.Cond.codeWith ({ cls := "MakingHouse", name := "program", desc := "()I" } : Jvm.MethodName) prog_1_method_32_code (2 : Nat) (Option.some Jvm.ClassFile.FieldType.int) [((41 : Nat), (52 : Nat), (55 : Nat), (354 : Nat))]) ∈ lw_all := lw_g (lw_at lw_m5 144 rfl) rfl
theorem q1290 : (Jvm.Cond.classLink "MakingHouse" (354 : Nat) "java/lang/IllegalStateException") ∈ lw_all := lw_g (lw_at lw_m5 145 rfl) rfl
theorem q1291 : (Jvm.Cond.methodLink "MakingHouse" (350 : Nat) ({ cls := "MakingHouse$Reader", name := "read", desc := "(LMakingHouse$Program;)V" } : Jvm.MethodName)) ∈ lw_all := lw_g (lw_at lw_m5 146 rfl) rfl
theorem q1494 : (Jvm.Cond.methodLink "MakingHouse" (363 : Nat) ({ cls := "MakingHouse$Program", name := "lines", desc := "()I" } : Jvm.MethodName)) ∈ lw_all := lw_g (lw_at lw_m6 109 rfl) rfl
theorem q1496 : (Jvm.Cond.instanceMethod ({ cls := "MakingHouse", name := "place", desc := "()I" } : Jvm.MethodName)) ∈ lw_all := lw_g (lw_at lw_m6 111 rfl) rfl
theorem q1497 : (Jvm.Cond.selects "MakingHouse" ({ cls := "MakingHouse", name := "place", desc := "()I" } : Jvm.MethodName) ({ cls := "MakingHouse", name := "place", desc := "()I" } : Jvm.MethodName)) ∈ lw_all := lw_g (lw_at lw_m6 112 rfl) rfl
theorem q1498 : (Jvm.Cond.code ({ cls := "MakingHouse", name := "place", desc := "()I" } : Jvm.MethodName) prog_1_method_33_code (1 : Nat) (Option.some Jvm.ClassFile.FieldType.int)) ∈ lw_all := lw_g (lw_at lw_m6 113 rfl) rfl
theorem q1500 : (Jvm.Cond.instanceMethod ({ cls := "MakingHouse", name := "start", desc := "(I)I" } : Jvm.MethodName)) ∈ lw_all := lw_g (lw_at lw_m6 115 rfl) rfl
theorem q1501 : (Jvm.Cond.selects "MakingHouse" ({ cls := "MakingHouse", name := "start", desc := "(I)I" } : Jvm.MethodName) ({ cls := "MakingHouse", name := "start", desc := "(I)I" } : Jvm.MethodName)) ∈ lw_all := lw_g (lw_at lw_m6 116 rfl) rfl
theorem q1502 : (Jvm.Cond.codeWith ({ cls := "MakingHouse", name := "start", desc := "(I)I" } : Jvm.MethodName) prog_1_method_56_code (3 : Nat) (Option.some Jvm.ClassFile.FieldType.int) [((29 : Nat), (48 : Nat), (51 : Nat), (354 : Nat))]) ∈ lw_all := lw_g (lw_at lw_m6 117 rfl) rfl
theorem q1503 : (Jvm.Cond.methodLink "MakingHouse" (562 : Nat) ({ cls := "MakingHouse", name := "begin", desc := "()V" } : Jvm.MethodName)) ∈ lw_all := lw_g (lw_at lw_m6 118 rfl) rfl
theorem q1504 : (Jvm.Cond.privateMethod ({ cls := "MakingHouse", name := "begin", desc := "()V" } : Jvm.MethodName)) ∈ lw_tbl := lw_at lw_m6 119 rfl
theorem q1505 : (Jvm.Cond.instanceMethod ({ cls := "MakingHouse", name := "begin", desc := "()V" } : Jvm.MethodName)) ∈ lw_all := lw_g (lw_at lw_m6 120 rfl) rfl
theorem q1506 : (Jvm.Cond.code ({ cls := "MakingHouse", name := "begin", desc := "()V" } : Jvm.MethodName) prog_1_method_57_code (2 : Nat) (Option.none : Option Jvm.ClassFile.FieldType)) ∈ lw_all := lw_g (lw_at lw_m6 121 rfl) rfl
theorem q1507 : (Jvm.Cond.methodLink "MakingHouse" (600 : Nat) ({ cls := "MakingHouse", name := "forget", desc := "()V" } : Jvm.MethodName)) ∈ lw_all := lw_g (lw_at lw_m6 122 rfl) rfl
theorem q1508 : (Jvm.Cond.privateMethod ({ cls := "MakingHouse", name := "forget", desc := "()V" } : Jvm.MethodName)) ∈ lw_tbl := lw_at lw_m6 123 rfl
theorem q1509 : (Jvm.Cond.instanceMethod ({ cls := "MakingHouse", name := "forget", desc := "()V" } : Jvm.MethodName)) ∈ lw_all := lw_g (lw_at lw_m6 124 rfl) rfl
theorem q1510 : (Jvm.Cond.code ({ cls := "MakingHouse", name := "forget", desc := "()V" } : Jvm.MethodName) prog_1_method_58_code (1 : Nat) (Option.none : Option Jvm.ClassFile.FieldType)) ∈ lw_all := lw_g (lw_at lw_m6 125 rfl) rfl
theorem q1511 : (Jvm.Cond.methodLink "MakingHouse" (567 : Nat) ({ cls := "MakingHouse", name := "next", desc := "()V" } : Jvm.MethodName)) ∈ lw_all := lw_g (lw_at lw_m6 126 rfl) rfl
theorem q1512 : (Jvm.Cond.privateMethod ({ cls := "MakingHouse", name := "next", desc := "()V" } : Jvm.MethodName)) ∈ lw_tbl := lw_at lw_m6 127 rfl
theorem q1513 : (Jvm.Cond.instanceMethod ({ cls := "MakingHouse", name := "next", desc := "()V" } : Jvm.MethodName)) ∈ lw_all := lw_g (lw_at lw_m6 128 rfl) rfl
theorem q1514 : (Jvm.Cond.code ({ cls := "MakingHouse", name := "next", desc := "()V" } : Jvm.MethodName) prog_1_method_60_code (3 : Nat) (Option.none : Option Jvm.ClassFile.FieldType)) ∈ lw_all := lw_g (lw_at lw_m6 129 rfl) rfl
theorem q1515 : (Jvm.Cond.methodLink "MakingHouse" (614 : Nat) ({ cls := "MakingHouse", name := "isEnd", desc := "()Z" } : Jvm.MethodName)) ∈ lw_all := lw_g (lw_at lw_m6 130 rfl) rfl
theorem q1516 : (Jvm.Cond.privateMethod ({ cls := "MakingHouse", name := "isEnd", desc := "()Z" } : Jvm.MethodName)) ∈ lw_tbl := lw_at lw_m6 131 rfl
theorem q1517 : (Jvm.Cond.instanceMethod ({ cls := "MakingHouse", name := "isEnd", desc := "()Z" } : Jvm.MethodName)) ∈ lw_all := lw_g (lw_at lw_m6 132 rfl) rfl
theorem q1518 : (Jvm.Cond.code ({ cls := "MakingHouse", name := "isEnd", desc := "()Z" } : Jvm.MethodName) prog_1_method_59_code (1 : Nat) (Option.some Jvm.ClassFile.FieldType.boolean)) ∈ lw_all := lw_g (lw_at lw_m6 133 rfl) rfl
theorem q1519 : (Jvm.Cond.methodLink "MakingHouse" (618 : Nat) ({ cls := "MakingHouse", name := "back", desc := "()V" } : Jvm.MethodName)) ∈ lw_all := lw_g (lw_at lw_m6 134 rfl) rfl
theorem q1520 : (Jvm.Cond.privateMethod ({ cls := "MakingHouse", name := "back", desc := "()V" } : Jvm.MethodName)) ∈ lw_tbl := lw_at lw_m6 135 rfl
theorem q1521 : (Jvm.Cond.instanceMethod ({ cls := "MakingHouse", name := "back", desc := "()V" } : Jvm.MethodName)) ∈ lw_all := lw_g (lw_at lw_m6 136 rfl) rfl
theorem q1522 : (Jvm.Cond.code ({ cls := "MakingHouse", name := "back", desc := "()V" } : Jvm.MethodName) prog_1_method_61_code (1 : Nat) (Option.none : Option Jvm.ClassFile.FieldType)) ∈ lw_all := lw_g (lw_at lw_m6 137 rfl) rfl
theorem q1523 : (Jvm.Cond.methodLink "MakingHouse" (444 : Nat) ({ cls := "MakingHouse", name := "burn", desc := "()V" } : Jvm.MethodName)) ∈ lw_all := lw_g (lw_at lw_m6 138 rfl) rfl
theorem q1524 : (Jvm.Cond.privateMethod ({ cls := "MakingHouse", name := "burn", desc := "()V" } : Jvm.MethodName)) ∈ lw_tbl := lw_at lw_m6 139 rfl
theorem q1525 : (Jvm.Cond.instanceMethod ({ cls := "MakingHouse", name := "burn", desc := "()V" } : Jvm.MethodName)) ∈ lw_all := lw_g (lw_at lw_m6 140 rfl) rfl
theorem q1526 : (Jvm.Cond.code ({ cls := "MakingHouse", name := "burn", desc := "()V" } : Jvm.MethodName) prog_1_method_44_code (1 : Nat) (Option.none : Option Jvm.ClassFile.FieldType)) ∈ lw_all := lw_g (lw_at lw_m6 141 rfl) rfl
theorem q1527 : (Jvm.Cond.methodLink "MakingHouse" (376 : Nat) ({ cls := "MakingHouse", name := "alarms", desc := "(I)Ljava/lang/IllegalStateException;" } : Jvm.MethodName)) ∈ lw_all := lw_g (lw_at lw_m6 142 rfl) rfl
theorem q1528 : (Jvm.Cond.privateMethod ({ cls := "MakingHouse", name := "alarms", desc := "(I)Ljava/lang/IllegalStateException;" } : Jvm.MethodName)) ∈ lw_tbl := lw_at lw_m6 143 rfl
theorem q1529 : (Jvm.Cond.instanceMethod ({ cls := "MakingHouse", name := "alarms", desc := "(I)Ljava/lang/IllegalStateException;" } : Jvm.MethodName)) ∈ lw_all := lw_g (lw_at lw_m6 144 rfl) rfl
theorem q1530 : (Jvm.Cond.code ({ cls := "MakingHouse", name := "alarms", desc := "(I)Ljava/lang/IllegalStateException;" } : Jvm.MethodName) prog_1_method_34_code (2 : Nat) (Option.some (Jvm.ClassFile.FieldType.object "java/lang/IllegalStateException"))) ∈ lw_all := lw_g (lw_at lw_m6 145 rfl) rfl
theorem q1531 : (Jvm.Cond.methodLink "MakingHouse" (366 : Nat) ({ cls := "MakingHouse$Trouble", name := "at", desc := "(II)Ljava/lang/IllegalStateException;" } : Jvm.MethodName)) ∈ lw_all := lw_g (lw_at lw_m6 146 rfl) rfl
theorem q1532 : (Jvm.Cond.methodLink "MakingHouse" (623 : Nat) ({ cls := "MakingHouse", name := "words", desc := "(I)V" } : Jvm.MethodName)) ∈ lw_all := lw_g (lw_at lw_m6 147 rfl) rfl
theorem q1533 : (Jvm.Cond.privateMethod ({ cls := "MakingHouse", name := "words", desc := "(I)V" } : Jvm.MethodName)) ∈ lw_tbl := lw_at lw_m6 148 rfl
theorem q1534 : (Jvm.Cond.instanceMethod ({ cls := "MakingHouse", name := "words", desc := "(I)V" } : Jvm.MethodName)) ∈ lw_all := lw_g (lw_at lw_m6 149 rfl) rfl
theorem q1535 : (Jvm.Cond.code ({ cls := "MakingHouse", name := "words", desc := "(I)V" } : Jvm.MethodName) prog_1_method_67_code (6 : Nat) (Option.none : Option Jvm.ClassFile.FieldType)) ∈ lw_all := lw_g (lw_at lw_m6 150 rfl) rfl
theorem q1536 : (Jvm.Cond.methodLink "MakingHouse" (626 : Nat) ({ cls := "MakingHouse", name := "worth", desc := "(I)J" } : Jvm.MethodName)) ∈ lw_all := lw_g (lw_at lw_m6 151 rfl) rfl
theorem q1537 : (Jvm.Cond.privateMethod ({ cls := "MakingHouse", name := "worth", desc := "(I)J" } : Jvm.MethodName)) ∈ lw_tbl := lw_at lw_m6 152 rfl
theorem q1538 : (Jvm.Cond.instanceMethod ({ cls := "MakingHouse", name := "worth", desc := "(I)J" } : Jvm.MethodName)) ∈ lw_all := lw_g (lw_at lw_m6 153 rfl) rfl
theorem q1539 : (Jvm.Cond.code ({ cls := "MakingHouse", name := "worth", desc := "(I)J" } : Jvm.MethodName) prog_1_method_38_code (6 : Nat) (Option.some Jvm.ClassFile.FieldType.long)) ∈ lw_all := lw_g (lw_at lw_m6 154 rfl) rfl
theorem q1540 : (Jvm.Cond.methodLink "MakingHouse" (392 : Nat) ({ cls := "MakingHouse", name := "push", desc := "(J)V" } : Jvm.MethodName)) ∈ lw_all := lw_g (lw_at lw_m6 155 rfl) rfl
theorem q1541 : (Jvm.Cond.privateMethod ({ cls := "MakingHouse", name := "push", desc := "(J)V" } : Jvm.MethodName)) ∈ lw_tbl := lw_at lw_m6 156 rfl
theorem q1542 : (Jvm.Cond.instanceMethod ({ cls := "MakingHouse", name := "push", desc := "(J)V" } : Jvm.MethodName)) ∈ lw_all := lw_g (lw_at lw_m6 157 rfl) rfl
theorem q1543 : (Jvm.Cond.code ({ cls := "MakingHouse", name := "push", desc := "(J)V" } : Jvm.MethodName) prog_1_method_35_code (3 : Nat) (Option.none : Option Jvm.ClassFile.FieldType)) ∈ lw_all := lw_g (lw_at lw_m6 158 rfl) rfl
theorem q1544 : (Jvm.Cond.methodLink "MakingHouse" (396 : Nat) ({ cls := "MakingHouse", name := "pop", desc := "()J" } : Jvm.MethodName)) ∈ lw_all := lw_g (lw_at lw_m6 159 rfl) rfl
theorem q1545 : (Jvm.Cond.privateMethod ({ cls := "MakingHouse", name := "pop", desc := "()J" } : Jvm.MethodName)) ∈ lw_tbl := lw_at lw_m6 160 rfl
theorem q1546 : (Jvm.Cond.instanceMethod ({ cls := "MakingHouse", name := "pop", desc := "()J" } : Jvm.MethodName)) ∈ lw_all := lw_g (lw_at lw_m6 161 rfl) rfl
theorem q1547 : (Jvm.Cond.code ({ cls := "MakingHouse", name := "pop", desc := "()J" } : Jvm.MethodName) prog_1_method_36_code (1 : Nat) (Option.some Jvm.ClassFile.FieldType.long)) ∈ lw_all := lw_g (lw_at lw_m6 162 rfl) rfl
theorem q1548 : (Jvm.Cond.methodLink "MakingHouse" (400 : Nat) ({ cls := "MakingHouse", name := "slotOf", desc := "(J)I" } : Jvm.MethodName)) ∈ lw_all := lw_g (lw_at lw_m6 163 rfl) rfl
theorem q1549 : (Jvm.Cond.privateMethod ({ cls := "MakingHouse", name := "slotOf", desc := "(J)I" } : Jvm.MethodName)) ∈ lw_tbl := lw_at lw_m6 164 rfl
theorem q1550 : (Jvm.Cond.instanceMethod ({ cls := "MakingHouse", name := "slotOf", desc := "(J)I" } : Jvm.MethodName)) ∈ lw_all := lw_g (lw_at lw_m6 165 rfl) rfl
theorem q1551 : (Jvm.Cond.code ({ cls := "MakingHouse", name := "slotOf", desc := "(J)I" } : Jvm.MethodName) prog_1_method_39_code (3 : Nat) (Option.some Jvm.ClassFile.FieldType.int)) ∈ lw_all := lw_g (lw_at lw_m6 166 rfl) rfl
theorem q1552 : (Jvm.Cond.constantLong "MakingHouse" (416 : Nat) (199000 : Int64)) ∈ lw_all := lw_g (lw_at lw_m6 167 rfl) rfl
theorem q1553 : (Jvm.Cond.methodLink "MakingHouse" (404 : Nat) ({ cls := "MakingHouse", name := "one", desc := "(IJ)J" } : Jvm.MethodName)) ∈ lw_all := lw_g (lw_at lw_m6 168 rfl) rfl
theorem q1554 : (Jvm.Cond.privateMethod ({ cls := "MakingHouse", name := "one", desc := "(IJ)J" } : Jvm.MethodName)) ∈ lw_tbl := lw_at lw_m6 169 rfl
theorem q1555 : (Jvm.Cond.instanceMethod ({ cls := "MakingHouse", name := "one", desc := "(IJ)J" } : Jvm.MethodName)) ∈ lw_all := lw_g (lw_at lw_m6 170 rfl) rfl
theorem q1556 : (Jvm.Cond.code ({ cls := "MakingHouse", name := "one", desc := "(IJ)J" } : Jvm.MethodName) prog_1_method_40_code (4 : Nat) (Option.some Jvm.ClassFile.FieldType.long)) ∈ lw_all := lw_g (lw_at lw_m6 171 rfl) rfl
theorem q1557 : (Jvm.Cond.methodLink "MakingHouse" (418 : Nat) ({ cls := "MakingHouse", name := "floor", desc := "(JJ)J" } : Jvm.MethodName)) ∈ lw_all := lw_g (lw_at lw_m6 172 rfl) rfl
theorem q1558 : (Jvm.Cond.static ({ cls := "MakingHouse", name := "floor", desc := "(JJ)J" } : Jvm.MethodName)) ∈ lw_all := lw_g (lw_at lw_m6 173 rfl) rfl
theorem q1559 : (Jvm.Cond.code ({ cls := "MakingHouse", name := "floor", desc := "(JJ)J" } : Jvm.MethodName) prog_1_method_2_code (6 : Nat) (Option.some Jvm.ClassFile.FieldType.long)) ∈ lw_all := lw_g (lw_at lw_m6 174 rfl) rfl
theorem q1560 : (Jvm.Cond.constantLong "MakingHouse" (421 : Nat) (-1000 : Int64)) ∈ lw_all := lw_g (lw_at lw_m6 175 rfl) rfl
theorem q1561 : (Jvm.Cond.methodLink "MakingHouse" (423 : Nat) ({ cls := "MakingHouse", name := "root", desc := "(J)J" } : Jvm.MethodName)) ∈ lw_all := lw_g (lw_at lw_m6 176 rfl) rfl
theorem q1562 : (Jvm.Cond.methodLink "MakingHouse" (408 : Nat) ({ cls := "MakingHouse", name := "bounded", desc := "(J)J" } : Jvm.MethodName)) ∈ lw_all := lw_g (lw_at lw_m6 177 rfl) rfl
theorem q1563 : (Jvm.Cond.privateMethod ({ cls := "MakingHouse", name := "bounded", desc := "(J)J" } : Jvm.MethodName)) ∈ lw_tbl := lw_at lw_m6 178 rfl
theorem q1564 : (Jvm.Cond.instanceMethod ({ cls := "MakingHouse", name := "bounded", desc := "(J)J" } : Jvm.MethodName)) ∈ lw_all := lw_g (lw_at lw_m6 179 rfl) rfl
theorem q1565 : (Jvm.Cond.code ({ cls := "MakingHouse", name := "bounded", desc := "(J)J" } : Jvm.MethodName) prog_1_method_37_code (3 : Nat) (Option.some Jvm.ClassFile.FieldType.long)) ∈ lw_all := lw_g (lw_at lw_m6 180 rfl) rfl
theorem q1566 : (Jvm.Cond.constantLong "MakingHouse" (372 : Nat) (1000000000000 : Int64)) ∈ lw_all := lw_g (lw_at lw_m6 181 rfl) rfl
theorem q1567 : (Jvm.Cond.constantLong "MakingHouse" (374 : Nat) (-1000000000000 : Int64)) ∈ lw_all := lw_g (lw_at lw_m6 182 rfl) rfl
theorem q1568 : (Jvm.Cond.methodLink "MakingHouse" (412 : Nat) ({ cls := "MakingHouse", name := "two", desc := "(IJJ)J" } : Jvm.MethodName)) ∈ lw_all := lw_g (lw_at lw_m6 183 rfl) rfl
theorem q1569 : (Jvm.Cond.privateMethod ({ cls := "MakingHouse", name := "two", desc := "(IJJ)J" } : Jvm.MethodName)) ∈ lw_tbl := lw_at lw_m6 184 rfl
theorem q1570 : (Jvm.Cond.instanceMethod ({ cls := "MakingHouse", name := "two", desc := "(IJJ)J" } : Jvm.MethodName)) ∈ lw_all := lw_g (lw_at lw_m6 185 rfl) rfl
theorem q1571 : (Jvm.Cond.code ({ cls := "MakingHouse", name := "two", desc := "(IJJ)J" } : Jvm.MethodName) prog_1_method_42_code (6 : Nat) (Option.some Jvm.ClassFile.FieldType.long)) ∈ lw_all := lw_g (lw_at lw_m6 186 rfl) rfl
theorem q1572 : (Jvm.Cond.methodLink "MakingHouse" (426 : Nat) ({ cls := "MakingHouse", name := "times", desc := "(JJ)J" } : Jvm.MethodName)) ∈ lw_all := lw_g (lw_at lw_m6 187 rfl) rfl
theorem q1573 : (Jvm.Cond.privateMethod ({ cls := "MakingHouse", name := "times", desc := "(JJ)J" } : Jvm.MethodName)) ∈ lw_tbl := lw_at lw_m6 188 rfl
theorem q1574 : (Jvm.Cond.instanceMethod ({ cls := "MakingHouse", name := "times", desc := "(JJ)J" } : Jvm.MethodName)) ∈ lw_all := lw_g (lw_at lw_m6 189 rfl) rfl
theorem q1575 : (Jvm.Cond.code ({ cls := "MakingHouse", name := "times", desc := "(JJ)J" } : Jvm.MethodName) prog_1_method_43_code (9 : Nat) (Option.some Jvm.ClassFile.FieldType.long)) ∈ lw_all := lw_g (lw_at lw_m6 190 rfl) rfl
theorem q1576 : (Jvm.Cond.constantLong "MakingHouse" (433 : Nat) (1000000000000999 : Int64)) ∈ lw_all := lw_g (lw_at lw_m6 191 rfl) rfl
theorem q1577 : (Jvm.Cond.methodLink "MakingHouse" (429 : Nat) ({ cls := "MakingHouse", name := "truth", desc := "(Z)J" } : Jvm.MethodName)) ∈ lw_all := lw_g (lw_at lw_m6 192 rfl) rfl
theorem q1578 : (Jvm.Cond.static ({ cls := "MakingHouse", name := "truth", desc := "(Z)J" } : Jvm.MethodName)) ∈ lw_all := lw_g (lw_at lw_m6 193 rfl) rfl
theorem q1579 : (Jvm.Cond.code ({ cls := "MakingHouse", name := "truth", desc := "(Z)J" } : Jvm.MethodName) prog_1_method_41_code (1 : Nat) (Option.some Jvm.ClassFile.FieldType.long)) ∈ lw_all := lw_g (lw_at lw_m6 194 rfl) rfl
theorem q1580 : (Jvm.Cond.methodLink "MakingHouse" (649 : Nat) ({ cls := "MakingHouse", name := "isWholeWord", desc := "(I)Z" } : Jvm.MethodName)) ∈ lw_all := lw_g (lw_at lw_m6 195 rfl) rfl
theorem q1581 : (Jvm.Cond.static ({ cls := "MakingHouse", name := "isWholeWord", desc := "(I)Z" } : Jvm.MethodName)) ∈ lw_all := lw_g (lw_at lw_m6 196 rfl) rfl
theorem q1582 : (Jvm.Cond.code ({ cls := "MakingHouse", name := "isWholeWord", desc := "(I)Z" } : Jvm.MethodName) prog_1_method_62_code (1 : Nat) (Option.some Jvm.ClassFile.FieldType.boolean)) ∈ lw_all := lw_g (lw_at lw_m6 197 rfl) rfl
theorem q1583 : (Jvm.Cond.constantLong "MakingHouse" (652 : Nat) (99999000 : Int64)) ∈ lw_all := lw_g (lw_at lw_m6 198 rfl) rfl
theorem q1584 : (Jvm.Cond.methodLink "MakingHouse" (654 : Nat) ({ cls := "MakingHouse", name := "allowed", desc := "()V" } : Jvm.MethodName)) ∈ lw_all := lw_g (lw_at lw_m6 199 rfl) rfl
theorem q1585 : (Jvm.Cond.privateMethod ({ cls := "MakingHouse", name := "allowed", desc := "()V" } : Jvm.MethodName)) ∈ lw_tbl := lw_at lw_m6 200 rfl
theorem q1586 : (Jvm.Cond.instanceMethod ({ cls := "MakingHouse", name := "allowed", desc := "()V" } : Jvm.MethodName)) ∈ lw_all := lw_g (lw_at lw_m6 201 rfl) rfl
theorem q1587 : (Jvm.Cond.code ({ cls := "MakingHouse", name := "allowed", desc := "()V" } : Jvm.MethodName) prog_1_method_69_code (5 : Nat) (Option.none : Option Jvm.ClassFile.FieldType)) ∈ lw_all := lw_g (lw_at lw_m6 202 rfl) rfl
theorem q1588 : (Jvm.Cond.methodLink "MakingHouse" (669 : Nat) ({ cls := "MakingHouse", name := "groupOf", desc := "(I)I" } : Jvm.MethodName)) ∈ lw_all := lw_g (lw_at lw_m6 203 rfl) rfl
theorem q1589 : (Jvm.Cond.static ({ cls := "MakingHouse", name := "groupOf", desc := "(I)I" } : Jvm.MethodName)) ∈ lw_all := lw_g (lw_at lw_m6 204 rfl) rfl
theorem q1590 : (Jvm.Cond.code ({ cls := "MakingHouse", name := "groupOf", desc := "(I)I" } : Jvm.MethodName) prog_1_method_68_code (1 : Nat) (Option.some Jvm.ClassFile.FieldType.int)) ∈ lw_all := lw_g (lw_at lw_m6 205 rfl) rfl
theorem q1591 : (Jvm.Cond.methodLink "MakingHouse" (657 : Nat) ({ cls := "MakingHouse", name := "switches", desc := "()V" } : Jvm.MethodName)) ∈ lw_all := lw_g (lw_at lw_m6 206 rfl) rfl
theorem q1592 : (Jvm.Cond.privateMethod ({ cls := "MakingHouse", name := "switches", desc := "()V" } : Jvm.MethodName)) ∈ lw_tbl := lw_at lw_m6 207 rfl
theorem q1593 : (Jvm.Cond.instanceMethod ({ cls := "MakingHouse", name := "switches", desc := "()V" } : Jvm.MethodName)) ∈ lw_all := lw_g (lw_at lw_m6 208 rfl) rfl
theorem q1594 : (Jvm.Cond.code ({ cls := "MakingHouse", name := "switches", desc := "()V" } : Jvm.MethodName) prog_1_method_70_code (2 : Nat) (Option.none : Option Jvm.ClassFile.FieldType)) ∈ lw_all := lw_g (lw_at lw_m6 209 rfl) rfl
theorem q1595 : (Jvm.Cond.methodLink "MakingHouse" (672 : Nat) ({ cls := "MakingHouse", name := "whole", desc := "(I)I" } : Jvm.MethodName)) ∈ lw_all := lw_g (lw_at lw_m6 210 rfl) rfl
theorem q1596 : (Jvm.Cond.privateMethod ({ cls := "MakingHouse", name := "whole", desc := "(I)I" } : Jvm.MethodName)) ∈ lw_tbl := lw_at lw_m6 211 rfl
theorem q1597 : (Jvm.Cond.instanceMethod ({ cls := "MakingHouse", name := "whole", desc := "(I)I" } : Jvm.MethodName)) ∈ lw_all := lw_g (lw_at lw_m6 212 rfl) rfl
theorem q1598 : (Jvm.Cond.code ({ cls := "MakingHouse", name := "whole", desc := "(I)I" } : Jvm.MethodName) prog_1_method_64_code (2 : Nat) (Option.some Jvm.ClassFile.FieldType.int)) ∈ lw_all := lw_g (lw_at lw_m6 213 rfl) rfl
theorem q1599 : (Jvm.Cond.methodLink "MakingHouse" (675 : Nat) ({ cls := "MakingHouse", name := "isM", desc := "(I)Z" } : Jvm.MethodName)) ∈ lw_all := lw_g (lw_at lw_m6 214 rfl) rfl
theorem q1600 : (Jvm.Cond.privateMethod ({ cls := "MakingHouse", name := "isM", desc := "(I)Z" } : Jvm.MethodName)) ∈ lw_tbl := lw_at lw_m6 215 rfl
theorem q1601 : (Jvm.Cond.instanceMethod ({ cls := "MakingHouse", name := "isM", desc := "(I)Z" } : Jvm.MethodName)) ∈ lw_all := lw_g (lw_at lw_m6 216 rfl) rfl
theorem q1602 : (Jvm.Cond.code ({ cls := "MakingHouse", name := "isM", desc := "(I)Z" } : Jvm.MethodName) prog_1_method_66_code (3 : Nat) (Option.some Jvm.ClassFile.FieldType.boolean)) ∈ lw_all := lw_g (lw_at lw_m6 217 rfl) rfl
theorem q1603 : (Jvm.Cond.methodLink "MakingHouse" (660 : Nat) ({ cls := "MakingHouse", name := "modes", desc := "()V" } : Jvm.MethodName)) ∈ lw_all := lw_g (lw_at lw_m6 218 rfl) rfl
theorem q1604 : (Jvm.Cond.privateMethod ({ cls := "MakingHouse", name := "modes", desc := "()V" } : Jvm.MethodName)) ∈ lw_tbl := lw_at lw_m6 219 rfl
theorem q1605 : (Jvm.Cond.instanceMethod ({ cls := "MakingHouse", name := "modes", desc := "()V" } : Jvm.MethodName)) ∈ lw_all := lw_g (lw_at lw_m6 220 rfl) rfl
theorem q1606 : (Jvm.Cond.code ({ cls := "MakingHouse", name := "modes", desc := "()V" } : Jvm.MethodName) prog_1_method_71_code (3 : Nat) (Option.none : Option Jvm.ClassFile.FieldType)) ∈ lw_all := lw_g (lw_at lw_m6 221 rfl) rfl
theorem q1607 : (Jvm.Cond.methodLink "MakingHouse" (678 : Nat) ({ cls := "MakingHouse", name := "isG", desc := "(I)Z" } : Jvm.MethodName)) ∈ lw_all := lw_g (lw_at lw_m6 222 rfl) rfl
theorem q1608 : (Jvm.Cond.privateMethod ({ cls := "MakingHouse", name := "isG", desc := "(I)Z" } : Jvm.MethodName)) ∈ lw_tbl := lw_at lw_m6 223 rfl
theorem q1609 : (Jvm.Cond.instanceMethod ({ cls := "MakingHouse", name := "isG", desc := "(I)Z" } : Jvm.MethodName)) ∈ lw_all := lw_g (lw_at lw_m6 224 rfl) rfl
theorem q1610 : (Jvm.Cond.code ({ cls := "MakingHouse", name := "isG", desc := "(I)Z" } : Jvm.MethodName) prog_1_method_65_code (3 : Nat) (Option.some Jvm.ClassFile.FieldType.boolean)) ∈ lw_all := lw_g (lw_at lw_m6 225 rfl) rfl
theorem q1611 : (Jvm.Cond.methodLink "MakingHouse" (681 : Nat) ({ cls := "MakingHouse", name := "units", desc := "(I)J" } : Jvm.MethodName)) ∈ lw_all := lw_g (lw_at lw_m6 226 rfl) rfl
theorem q1612 : (Jvm.Cond.privateMethod ({ cls := "MakingHouse", name := "units", desc := "(I)J" } : Jvm.MethodName)) ∈ lw_tbl := lw_at lw_m6 227 rfl
theorem q1613 : (Jvm.Cond.instanceMethod ({ cls := "MakingHouse", name := "units", desc := "(I)J" } : Jvm.MethodName)) ∈ lw_all := lw_g (lw_at lw_m6 228 rfl) rfl
theorem q1614 : (Jvm.Cond.code ({ cls := "MakingHouse", name := "units", desc := "(I)J" } : Jvm.MethodName) prog_1_method_63_code (2 : Nat) (Option.some Jvm.ClassFile.FieldType.long)) ∈ lw_all := lw_g (lw_at lw_m6 229 rfl) rfl
theorem q1615 : (Jvm.Cond.constantLong "MakingHouse" (633 : Nat) (50 : Int64)) ∈ lw_all := lw_g (lw_at lw_m6 230 rfl) rfl
theorem q1616 : (Jvm.Cond.constantLong "MakingHouse" (635 : Nat) (100 : Int64)) ∈ lw_all := lw_g (lw_at lw_m6 231 rfl) rfl
theorem q1617 : (Jvm.Cond.constantLong "MakingHouse" (684 : Nat) (270000 : Int64)) ∈ lw_all := lw_g (lw_at lw_m6 232 rfl) rfl
theorem q1618 : (Jvm.Cond.constantLong "MakingHouse" (686 : Nat) (90000 : Int64)) ∈ lw_all := lw_g (lw_at lw_m6 233 rfl) rfl
theorem q1619 : (Jvm.Cond.methodLink "MakingHouse" (663 : Nat) ({ cls := "MakingHouse", name := "motion", desc := "()V" } : Jvm.MethodName)) ∈ lw_all := lw_g (lw_at lw_m6 234 rfl) rfl
theorem q1620 : (Jvm.Cond.privateMethod ({ cls := "MakingHouse", name := "motion", desc := "()V" } : Jvm.MethodName)) ∈ lw_tbl := lw_at lw_m6 235 rfl
theorem q1621 : (Jvm.Cond.instanceMethod ({ cls := "MakingHouse", name := "motion", desc := "()V" } : Jvm.MethodName)) ∈ lw_all := lw_g (lw_at lw_m6 236 rfl) rfl
theorem q1622 : (Jvm.Cond.code ({ cls := "MakingHouse", name := "motion", desc := "()V" } : Jvm.MethodName) prog_1_method_75_code (19 : Nat) (Option.none : Option Jvm.ClassFile.FieldType)) ∈ lw_all := lw_g (lw_at lw_m6 237 rfl) rfl
theorem q1623 : (Jvm.Cond.methodLink "MakingHouse" (697 : Nat) ({ cls := "MakingHouse", name := "offset", desc := "(I)J" } : Jvm.MethodName)) ∈ lw_all := lw_g (lw_at lw_m6 238 rfl) rfl
theorem q1624 : (Jvm.Cond.privateMethod ({ cls := "MakingHouse", name := "offset", desc := "(I)J" } : Jvm.MethodName)) ∈ lw_tbl := lw_at lw_m6 239 rfl
theorem q1625 : (Jvm.Cond.instanceMethod ({ cls := "MakingHouse", name := "offset", desc := "(I)J" } : Jvm.MethodName)) ∈ lw_all := lw_g (lw_at lw_m7 0 rfl) rfl
theorem q1626 : (Jvm.Cond.code ({ cls := "MakingHouse", name := "offset", desc := "(I)J" } : Jvm.MethodName) prog_1_method_74_code (2 : Nat) (Option.some Jvm.ClassFile.FieldType.long)) ∈ lw_all := lw_g (lw_at lw_m7 1 rfl) rfl
theorem q1627 : (Jvm.Cond.methodLink "MakingHouse" (700 : Nat) ({ cls := "MakingHouse", name := "turnedX", desc := "(JJI)J" } : Jvm.MethodName)) ∈ lw_all := lw_g (lw_at lw_m7 2 rfl) rfl
theorem q1628 : (Jvm.Cond.static ({ cls := "MakingHouse", name := "turnedX", desc := "(JJI)J" } : Jvm.MethodName)) ∈ lw_all := lw_g (lw_at lw_m7 3 rfl) rfl
theorem q1629 : (Jvm.Cond.code ({ cls := "MakingHouse", name := "turnedX", desc := "(JJI)J" } : Jvm.MethodName) prog_1_method_72_code (5 : Nat) (Option.some Jvm.ClassFile.FieldType.long)) ∈ lw_all := lw_g (lw_at lw_m7 4 rfl) rfl
theorem q1630 : (Jvm.Cond.methodLink "MakingHouse" (704 : Nat) ({ cls := "MakingHouse", name := "turnedY", desc := "(JJI)J" } : Jvm.MethodName)) ∈ lw_all := lw_g (lw_at lw_m7 5 rfl) rfl
theorem q1631 : (Jvm.Cond.static ({ cls := "MakingHouse", name := "turnedY", desc := "(JJI)J" } : Jvm.MethodName)) ∈ lw_all := lw_g (lw_at lw_m7 6 rfl) rfl
theorem q1632 : (Jvm.Cond.code ({ cls := "MakingHouse", name := "turnedY", desc := "(JJI)J" } : Jvm.MethodName) prog_1_method_73_code (5 : Nat) (Option.some Jvm.ClassFile.FieldType.long)) ∈ lw_all := lw_g (lw_at lw_m7 7 rfl) rfl
theorem q1633 : (Jvm.Cond.methodLink "MakingHouse" (707 : Nat) ({ cls := "MakingHouse", name := "cycle", desc := "(JJ)V" } : Jvm.MethodName)) ∈ lw_all := lw_g (lw_at lw_m7 8 rfl) rfl
theorem q1634 : (Jvm.Cond.privateMethod ({ cls := "MakingHouse", name := "cycle", desc := "(JJ)V" } : Jvm.MethodName)) ∈ lw_tbl := lw_at lw_m7 9 rfl
theorem q1635 : (Jvm.Cond.instanceMethod ({ cls := "MakingHouse", name := "cycle", desc := "(JJ)V" } : Jvm.MethodName)) ∈ lw_all := lw_g (lw_at lw_m7 10 rfl) rfl
theorem q1636 : (Jvm.Cond.code ({ cls := "MakingHouse", name := "cycle", desc := "(JJ)V" } : Jvm.MethodName) prog_1_method_76_code (12 : Nat) (Option.none : Option Jvm.ClassFile.FieldType)) ∈ lw_all := lw_g (lw_at lw_m7 11 rfl) rfl
theorem q1637 : (Jvm.Cond.methodLink "MakingHouse" (711 : Nat) ({ cls := "MakingHouse", name := "straight", desc := "(JJJZ)V" } : Jvm.MethodName)) ∈ lw_all := lw_g (lw_at lw_m7 12 rfl) rfl
theorem q1638 : (Jvm.Cond.privateMethod ({ cls := "MakingHouse", name := "straight", desc := "(JJJZ)V" } : Jvm.MethodName)) ∈ lw_tbl := lw_at lw_m7 13 rfl
theorem q1639 : (Jvm.Cond.instanceMethod ({ cls := "MakingHouse", name := "straight", desc := "(JJJZ)V" } : Jvm.MethodName)) ∈ lw_all := lw_g (lw_at lw_m7 14 rfl) rfl
theorem q1640 : (Jvm.Cond.code ({ cls := "MakingHouse", name := "straight", desc := "(JJJZ)V" } : Jvm.MethodName) prog_1_method_51_code (22 : Nat) (Option.none : Option Jvm.ClassFile.FieldType)) ∈ lw_all := lw_g (lw_at lw_m7 15 rfl) rfl
theorem q1641 : (Jvm.Cond.methodLink "MakingHouse" (527 : Nat) ({ cls := "MakingHouse", name := "ready", desc := "(JJJZ)V" } : Jvm.MethodName)) ∈ lw_all := lw_g (lw_at lw_m7 16 rfl) rfl
theorem q1642 : (Jvm.Cond.privateMethod ({ cls := "MakingHouse", name := "ready", desc := "(JJJZ)V" } : Jvm.MethodName)) ∈ lw_tbl := lw_at lw_m7 17 rfl
theorem q1643 : (Jvm.Cond.instanceMethod ({ cls := "MakingHouse", name := "ready", desc := "(JJJZ)V" } : Jvm.MethodName)) ∈ lw_all := lw_g (lw_at lw_m7 18 rfl) rfl
theorem q1644 : (Jvm.Cond.code ({ cls := "MakingHouse", name := "ready", desc := "(JJJZ)V" } : Jvm.MethodName) prog_1_method_50_code (8 : Nat) (Option.none : Option Jvm.ClassFile.FieldType)) ∈ lw_all := lw_g (lw_at lw_m7 19 rfl) rfl
theorem q1645 : (Jvm.Cond.constantLong "MakingHouse" (515 : Nat) (-2000 : Int64)) ∈ lw_all := lw_g (lw_at lw_m7 20 rfl) rfl
theorem q1646 : (Jvm.Cond.constantLong "MakingHouse" (517 : Nat) (4000 : Int64)) ∈ lw_all := lw_g (lw_at lw_m7 21 rfl) rfl
theorem q1647 : (Jvm.Cond.constantLong "MakingHouse" (519 : Nat) (2000 : Int64)) ∈ lw_all := lw_g (lw_at lw_m7 22 rfl) rfl
theorem q1648 : (Jvm.Cond.methodLink "MakingHouse" (531 : Nat) ({ cls := "java/lang/Math", name := "abs", desc := "(I)I" } : Jvm.MethodName)) ∈ lw_all := lw_g (lw_at lw_m7 23 rfl) rfl
theorem q1651 : (Jvm.Cond.methodLink "MakingHouse" (535 : Nat) ({ cls := "MakingHouse", name := "tick", desc := "(IIIZ)V" } : Jvm.MethodName)) ∈ lw_all := lw_g (lw_at lw_m7 26 rfl) rfl
theorem q1652 : (Jvm.Cond.privateMethod ({ cls := "MakingHouse", name := "tick", desc := "(IIIZ)V" } : Jvm.MethodName)) ∈ lw_tbl := lw_at lw_m7 27 rfl
theorem q1653 : (Jvm.Cond.instanceMethod ({ cls := "MakingHouse", name := "tick", desc := "(IIIZ)V" } : Jvm.MethodName)) ∈ lw_all := lw_g (lw_at lw_m7 28 rfl) rfl
theorem q1654 : (Jvm.Cond.code ({ cls := "MakingHouse", name := "tick", desc := "(IIIZ)V" } : Jvm.MethodName) prog_1_method_45_code (5 : Nat) (Option.none : Option Jvm.ClassFile.FieldType)) ∈ lw_all := lw_g (lw_at lw_m7 29 rfl) rfl
theorem q1655 : (Jvm.Cond.methodLink "MakingHouse" (450 : Nat) ({ cls := "MakingHouse", name := "at", desc := "(IIIZ)V" } : Jvm.MethodName)) ∈ lw_all := lw_g (lw_at lw_m7 30 rfl) rfl
theorem q1656 : (Jvm.Cond.privateMethod ({ cls := "MakingHouse", name := "at", desc := "(IIIZ)V" } : Jvm.MethodName)) ∈ lw_tbl := lw_at lw_m7 31 rfl
theorem q1657 : (Jvm.Cond.instanceMethod ({ cls := "MakingHouse", name := "at", desc := "(IIIZ)V" } : Jvm.MethodName)) ∈ lw_all := lw_g (lw_at lw_m7 32 rfl) rfl
theorem q1658 : (Jvm.Cond.code ({ cls := "MakingHouse", name := "at", desc := "(IIIZ)V" } : Jvm.MethodName) prog_1_method_46_code (20 : Nat) (Option.none : Option Jvm.ClassFile.FieldType)) ∈ lw_all := lw_g (lw_at lw_m7 33 rfl) rfl
theorem q1659 : (Jvm.Cond.methodLink "MakingHouse" (484 : Nat) ({ cls := "MakingHouse$Stock", name := "least", desc := "(III)I" } : Jvm.MethodName)) ∈ lw_all := lw_g (lw_at lw_m7 34 rfl) rfl
theorem q1666 : (Jvm.Cond.methodLink "MakingHouse" (488 : Nat) ({ cls := "MakingHouse$Stock", name := "last", desc := "(III)I" } : Jvm.MethodName)) ∈ lw_all := lw_g (lw_at lw_m7 41 rfl) rfl
theorem q1670 : (Jvm.Cond.methodLink "MakingHouse" (491 : Nat) ({ cls := "MakingHouse$Stock", name := "square", desc := "(IIII)J" } : Jvm.MethodName)) ∈ lw_all := lw_g (lw_at lw_m7 45 rfl) rfl
theorem q1675 : (Jvm.Cond.methodLink "MakingHouse" (495 : Nat) ({ cls := "MakingHouse$Tool", name := "rise", desc := "(J)I" } : Jvm.MethodName)) ∈ lw_all := lw_g (lw_at lw_m7 50 rfl) rfl
theorem q1680 : (Jvm.Cond.methodLink "MakingHouse" (501 : Nat) ({ cls := "MakingHouse", name := "isHeld", desc := "(LMakingHouse$Tool;III)Z" } : Jvm.MethodName)) ∈ lw_all := lw_g (lw_at lw_m7 55 rfl) rfl
theorem q1681 : (Jvm.Cond.privateMethod ({ cls := "MakingHouse", name := "isHeld", desc := "(LMakingHouse$Tool;III)Z" } : Jvm.MethodName)) ∈ lw_tbl := lw_at lw_m7 56 rfl
theorem q1682 : (Jvm.Cond.instanceMethod ({ cls := "MakingHouse", name := "isHeld", desc := "(LMakingHouse$Tool;III)Z" } : Jvm.MethodName)) ∈ lw_all := lw_g (lw_at lw_m7 57 rfl) rfl
theorem q1683 : (Jvm.Cond.code ({ cls := "MakingHouse", name := "isHeld", desc := "(LMakingHouse$Tool;III)Z" } : Jvm.MethodName) prog_1_method_48_code (11 : Nat) (Option.some Jvm.ClassFile.FieldType.boolean)) ∈ lw_all := lw_g (lw_at lw_m7 58 rfl) rfl
theorem q1684 : (Jvm.Cond.methodLink "MakingHouse" (505 : Nat) ({ cls := "MakingHouse", name := "cut", desc := "(LMakingHouse$Stock;II)V" } : Jvm.MethodName)) ∈ lw_all := lw_g (lw_at lw_m7 59 rfl) rfl
theorem q1685 : (Jvm.Cond.privateMethod ({ cls := "MakingHouse", name := "cut", desc := "(LMakingHouse$Stock;II)V" } : Jvm.MethodName)) ∈ lw_tbl := lw_at lw_m7 60 rfl
theorem q1686 : (Jvm.Cond.instanceMethod ({ cls := "MakingHouse", name := "cut", desc := "(LMakingHouse$Stock;II)V" } : Jvm.MethodName)) ∈ lw_all := lw_g (lw_at lw_m7 61 rfl) rfl
theorem q1687 : (Jvm.Cond.code ({ cls := "MakingHouse", name := "cut", desc := "(LMakingHouse$Stock;II)V" } : Jvm.MethodName) prog_1_method_47_code (4 : Nat) (Option.none : Option Jvm.ClassFile.FieldType)) ∈ lw_all := lw_g (lw_at lw_m7 62 rfl) rfl
theorem q1688 : (Jvm.Cond.methodLink "MakingHouse" (538 : Nat) ({ cls := "MakingHouse", name := "kept", desc := "(IIII)V" } : Jvm.MethodName)) ∈ lw_all := lw_g (lw_at lw_m7 63 rfl) rfl
theorem q1689 : (Jvm.Cond.privateMethod ({ cls := "MakingHouse", name := "kept", desc := "(IIII)V" } : Jvm.MethodName)) ∈ lw_tbl := lw_at lw_m7 64 rfl
theorem q1690 : (Jvm.Cond.instanceMethod ({ cls := "MakingHouse", name := "kept", desc := "(IIII)V" } : Jvm.MethodName)) ∈ lw_all := lw_g (lw_at lw_m7 65 rfl) rfl
theorem q1691 : (Jvm.Cond.code ({ cls := "MakingHouse", name := "kept", desc := "(IIII)V" } : Jvm.MethodName) prog_1_method_49_code (6 : Nat) (Option.none : Option Jvm.ClassFile.FieldType)) ∈ lw_all := lw_g (lw_at lw_m7 66 rfl) rfl
theorem q1692 : (Jvm.Cond.constantLong "MakingHouse" (718 : Nat) (5 : Int64)) ∈ lw_all := lw_g (lw_at lw_m7 67 rfl) rfl
theorem q1693 : (Jvm.Cond.methodLink "MakingHouse" (714 : Nat) ({ cls := "MakingHouse", name := "arc", desc := "(JJJJJZ)V" } : Jvm.MethodName)) ∈ lw_all := lw_g (lw_at lw_m7 68 rfl) rfl
theorem q1694 : (Jvm.Cond.privateMethod ({ cls := "MakingHouse", name := "arc", desc := "(JJJJJZ)V" } : Jvm.MethodName)) ∈ lw_tbl := lw_at lw_m7 69 rfl
theorem q1695 : (Jvm.Cond.instanceMethod ({ cls := "MakingHouse", name := "arc", desc := "(JJJJJZ)V" } : Jvm.MethodName)) ∈ lw_all := lw_g (lw_at lw_m7 70 rfl) rfl
theorem q1696 : (Jvm.Cond.code ({ cls := "MakingHouse", name := "arc", desc := "(JJJJJZ)V" } : Jvm.MethodName) prog_1_method_55_code (25 : Nat) (Option.none : Option Jvm.ClassFile.FieldType)) ∈ lw_all := lw_g (lw_at lw_m7 71 rfl) rfl
theorem q1697 : (Jvm.Cond.constantLong "MakingHouse" (549 : Nat) (-5000 : Int64)) ∈ lw_all := lw_g (lw_at lw_m7 72 rfl) rfl
theorem q1698 : (Jvm.Cond.constantLong "MakingHouse" (551 : Nat) (5000 : Int64)) ∈ lw_all := lw_g (lw_at lw_m7 73 rfl) rfl
theorem q1699 : (Jvm.Cond.methodLink "MakingHouse" (553 : Nat) ({ cls := "MakingHouse", name := "square", desc := "(JJ)J" } : Jvm.MethodName)) ∈ lw_all := lw_g (lw_at lw_m7 74 rfl) rfl
theorem q1700 : (Jvm.Cond.constantLong "MakingHouse" (555 : Nat) (25000000 : Int64)) ∈ lw_all := lw_g (lw_at lw_m7 75 rfl) rfl
theorem q1701 : (Jvm.Cond.constant "MakingHouse" (557 : Nat) (40000 : Int32)) ∈ lw_all := lw_g (lw_at lw_m7 76 rfl) rfl
theorem q1702 : (Jvm.Cond.methodLink "MakingHouse" (558 : Nat) ({ cls := "MakingHouse", name := "neighbour", desc := "(JJJZ)I" } : Jvm.MethodName)) ∈ lw_all := lw_g (lw_at lw_m7 77 rfl) rfl
theorem q1703 : (Jvm.Cond.static ({ cls := "MakingHouse", name := "neighbour", desc := "(JJJZ)I" } : Jvm.MethodName)) ∈ lw_all := lw_g (lw_at lw_m7 78 rfl) rfl
theorem q1704 : (Jvm.Cond.code ({ cls := "MakingHouse", name := "neighbour", desc := "(JJJZ)I" } : Jvm.MethodName) prog_1_method_54_code (19 : Nat) (Option.some Jvm.ClassFile.FieldType.int)) ∈ lw_all := lw_g (lw_at lw_m7 79 rfl) rfl
theorem q1705 : (Jvm.Cond.methodLink "MakingHouse" (541 : Nat) ({ cls := "MakingHouse", name := "eastOf", desc := "(I)I" } : Jvm.MethodName)) ∈ lw_all := lw_g (lw_at lw_m7 80 rfl) rfl
theorem q1706 : (Jvm.Cond.static ({ cls := "MakingHouse", name := "eastOf", desc := "(I)I" } : Jvm.MethodName)) ∈ lw_all := lw_g (lw_at lw_m7 81 rfl) rfl
theorem q1707 : (Jvm.Cond.code ({ cls := "MakingHouse", name := "eastOf", desc := "(I)I" } : Jvm.MethodName) prog_1_method_52_code (1 : Nat) (Option.some Jvm.ClassFile.FieldType.int)) ∈ lw_all := lw_g (lw_at lw_m7 82 rfl) rfl
theorem q1708 : (Jvm.Cond.methodLink "MakingHouse" (544 : Nat) ({ cls := "MakingHouse", name := "northOf", desc := "(I)I" } : Jvm.MethodName)) ∈ lw_all := lw_g (lw_at lw_m7 83 rfl) rfl
theorem q1709 : (Jvm.Cond.static ({ cls := "MakingHouse", name := "northOf", desc := "(I)I" } : Jvm.MethodName)) ∈ lw_all := lw_g (lw_at lw_m7 84 rfl) rfl
theorem q1710 : (Jvm.Cond.code ({ cls := "MakingHouse", name := "northOf", desc := "(I)I" } : Jvm.MethodName) prog_1_method_53_code (1 : Nat) (Option.some Jvm.ClassFile.FieldType.int)) ∈ lw_all := lw_g (lw_at lw_m7 85 rfl) rfl
theorem q1711 : (Jvm.Cond.methodLink "MakingHouse" (547 : Nat) ({ cls := "java/lang/Math", name := "abs", desc := "(J)J" } : Jvm.MethodName)) ∈ lw_all := lw_g (lw_at lw_m7 86 rfl) rfl
theorem q1714 : (Jvm.Cond.methodLink "MakingHouse" (666 : Nat) ({ cls := "MakingHouse", name := "ends", desc := "()V" } : Jvm.MethodName)) ∈ lw_all := lw_g (lw_at lw_m7 89 rfl) rfl
theorem q1715 : (Jvm.Cond.privateMethod ({ cls := "MakingHouse", name := "ends", desc := "()V" } : Jvm.MethodName)) ∈ lw_tbl := lw_at lw_m7 90 rfl
theorem q1716 : (Jvm.Cond.instanceMethod ({ cls := "MakingHouse", name := "ends", desc := "()V" } : Jvm.MethodName)) ∈ lw_all := lw_g (lw_at lw_m7 91 rfl) rfl
theorem q1717 : (Jvm.Cond.code ({ cls := "MakingHouse", name := "ends", desc := "()V" } : Jvm.MethodName) prog_1_method_77_code (3 : Nat) (Option.none : Option Jvm.ClassFile.FieldType)) ∈ lw_all := lw_g (lw_at lw_m7 92 rfl) rfl
theorem q1719 : (Jvm.Cond.instanceMethod ({ cls := "MakingHouse", name := "told", desc := "(I)I" } : Jvm.MethodName)) ∈ lw_all := lw_g (lw_at lw_m7 94 rfl) rfl
theorem q1720 : (Jvm.Cond.selects "MakingHouse" ({ cls := "MakingHouse", name := "told", desc := "(I)I" } : Jvm.MethodName) ({ cls := "MakingHouse", name := "told", desc := "(I)I" } : Jvm.MethodName)) ∈ lw_all := lw_g (lw_at lw_m7 95 rfl) rfl
theorem q1721 : (Jvm.Cond.code ({ cls := "MakingHouse", name := "told", desc := "(I)I" } : Jvm.MethodName) prog_1_method_78_code (2 : Nat) (Option.some Jvm.ClassFile.FieldType.int)) ∈ lw_all := lw_g (lw_at lw_m7 96 rfl) rfl
theorem q1723 : (Jvm.Cond.instanceMethod ({ cls := "MakingHouse", name := "variable", desc := "(I)J" } : Jvm.MethodName)) ∈ lw_all := lw_g (lw_at lw_m7 98 rfl) rfl
theorem q1724 : (Jvm.Cond.selects "MakingHouse" ({ cls := "MakingHouse", name := "variable", desc := "(I)J" } : Jvm.MethodName) ({ cls := "MakingHouse", name := "variable", desc := "(I)J" } : Jvm.MethodName)) ∈ lw_all := lw_g (lw_at lw_m7 99 rfl) rfl
theorem q1725 : (Jvm.Cond.code ({ cls := "MakingHouse", name := "variable", desc := "(I)J" } : Jvm.MethodName) prog_1_method_79_code (2 : Nat) (Option.some Jvm.ClassFile.FieldType.long)) ∈ lw_all := lw_g (lw_at lw_m7 100 rfl) rfl
theorem q1727 : (Jvm.Cond.instanceMethod ({ cls := "MakingHouse", name := "move", desc := "(II)I" } : Jvm.MethodName)) ∈ lw_all := lw_g (lw_at lw_m7 102 rfl) rfl
theorem q1728 : (Jvm.Cond.selects "MakingHouse" ({ cls := "MakingHouse", name := "move", desc := "(II)I" } : Jvm.MethodName) ({ cls := "MakingHouse", name := "move", desc := "(II)I" } : Jvm.MethodName)) ∈ lw_all := lw_g (lw_at lw_m7 103 rfl) rfl
theorem q1729 : (Jvm.Cond.code ({ cls := "MakingHouse", name := "move", desc := "(II)I" } : Jvm.MethodName) prog_1_method_80_code (3 : Nat) (Option.some Jvm.ClassFile.FieldType.int)) ∈ lw_all := lw_g (lw_at lw_m7 104 rfl) rfl
theorem q1731 : (Jvm.Cond.instanceMethod ({ cls := "MakingHouse", name := "acceleration", desc := "(I)Z" } : Jvm.MethodName)) ∈ lw_all := lw_g (lw_at lw_m7 106 rfl) rfl
theorem q1732 : (Jvm.Cond.selects "MakingHouse" ({ cls := "MakingHouse", name := "acceleration", desc := "(I)Z" } : Jvm.MethodName) ({ cls := "MakingHouse", name := "acceleration", desc := "(I)Z" } : Jvm.MethodName)) ∈ lw_all := lw_g (lw_at lw_m7 107 rfl) rfl
theorem q1733 : (Jvm.Cond.code ({ cls := "MakingHouse", name := "acceleration", desc := "(I)Z" } : Jvm.MethodName) prog_1_method_81_code (2 : Nat) (Option.some Jvm.ClassFile.FieldType.boolean)) ∈ lw_all := lw_g (lw_at lw_m7 108 rfl) rfl
theorem q1735 : (Jvm.Cond.instanceMethod ({ cls := "MakingHouse", name := "speed", desc := "(I)I" } : Jvm.MethodName)) ∈ lw_all := lw_g (lw_at lw_m7 110 rfl) rfl
theorem q1736 : (Jvm.Cond.selects "MakingHouse" ({ cls := "MakingHouse", name := "speed", desc := "(I)I" } : Jvm.MethodName) ({ cls := "MakingHouse", name := "speed", desc := "(I)I" } : Jvm.MethodName)) ∈ lw_all := lw_g (lw_at lw_m7 111 rfl) rfl
theorem q1737 : (Jvm.Cond.code ({ cls := "MakingHouse", name := "speed", desc := "(I)I" } : Jvm.MethodName) prog_1_method_82_code (2 : Nat) (Option.some Jvm.ClassFile.FieldType.int)) ∈ lw_all := lw_g (lw_at lw_m7 112 rfl) rfl
theorem q1738 : (Jvm.Cond.methodLink "MakingHouse" (722 : Nat) ({ cls := "MakingHouse", name := "solve", desc := "()V" } : Jvm.MethodName)) ∈ lw_all := lw_g (lw_at lw_m7 113 rfl) rfl
theorem q1739 : (Jvm.Cond.privateMethod ({ cls := "MakingHouse", name := "solve", desc := "()V" } : Jvm.MethodName)) ∈ lw_tbl := lw_at lw_m7 114 rfl
theorem q1740 : (Jvm.Cond.instanceMethod ({ cls := "MakingHouse", name := "solve", desc := "()V" } : Jvm.MethodName)) ∈ lw_all := lw_g (lw_at lw_m7 115 rfl) rfl
theorem q1741 : (Jvm.Cond.code ({ cls := "MakingHouse", name := "solve", desc := "()V" } : Jvm.MethodName) prog_1_method_85_code (2 : Nat) (Option.none : Option Jvm.ClassFile.FieldType)) ∈ lw_all := lw_g (lw_at lw_m7 116 rfl) rfl
theorem q1742 : (Jvm.Cond.methodLink "MakingHouse" (731 : Nat) ({ cls := "MakingHouse", name := "limit", desc := "(I)I" } : Jvm.MethodName)) ∈ lw_all := lw_g (lw_at lw_m7 117 rfl) rfl
theorem q1743 : (Jvm.Cond.privateMethod ({ cls := "MakingHouse", name := "limit", desc := "(I)I" } : Jvm.MethodName)) ∈ lw_tbl := lw_at lw_m7 118 rfl
theorem q1744 : (Jvm.Cond.instanceMethod ({ cls := "MakingHouse", name := "limit", desc := "(I)I" } : Jvm.MethodName)) ∈ lw_all := lw_g (lw_at lw_m7 119 rfl) rfl
theorem q1745 : (Jvm.Cond.code ({ cls := "MakingHouse", name := "limit", desc := "(I)I" } : Jvm.MethodName) prog_1_method_83_code (11 : Nat) (Option.some Jvm.ClassFile.FieldType.int)) ∈ lw_all := lw_g (lw_at lw_m7 120 rfl) rfl
theorem q1746 : (Jvm.Cond.methodLink "MakingHouse" (725 : Nat) ({ cls := "java/lang/Math", name := "min", desc := "(II)I" } : Jvm.MethodName)) ∈ lw_all := lw_g (lw_at lw_m7 121 rfl) rfl
theorem q1747 : (Jvm.Cond.methodLink "MakingHouse" (734 : Nat) ({ cls := "MakingHouse", name := "reached", desc := "(II)I" } : Jvm.MethodName)) ∈ lw_all := lw_g (lw_at lw_m7 122 rfl) rfl
theorem q1748 : (Jvm.Cond.privateMethod ({ cls := "MakingHouse", name := "reached", desc := "(II)I" } : Jvm.MethodName)) ∈ lw_tbl := lw_at lw_m7 123 rfl
theorem q1749 : (Jvm.Cond.instanceMethod ({ cls := "MakingHouse", name := "reached", desc := "(II)I" } : Jvm.MethodName)) ∈ lw_all := lw_g (lw_at lw_m7 124 rfl) rfl
theorem q1750 : (Jvm.Cond.code ({ cls := "MakingHouse", name := "reached", desc := "(II)I" } : Jvm.MethodName) prog_1_method_84_code (3 : Nat) (Option.some Jvm.ClassFile.FieldType.int)) ∈ lw_all := lw_g (lw_at lw_m7 125 rfl) rfl
theorem q1751 : (Jvm.Cond.constantLong "MakingHouse" (729 : Nat) (2147483647 : Int64)) ∈ lw_all := lw_g (lw_at lw_m7 126 rfl) rfl
theorem q1753 : (Jvm.Cond.instanceMethod ({ cls := "MakingHouse", name := "strays", desc := "()I" } : Jvm.MethodName)) ∈ lw_all := lw_g (lw_at lw_m7 128 rfl) rfl
theorem q1754 : (Jvm.Cond.selects "MakingHouse" ({ cls := "MakingHouse", name := "strays", desc := "()I" } : Jvm.MethodName) ({ cls := "MakingHouse", name := "strays", desc := "()I" } : Jvm.MethodName)) ∈ lw_all := lw_g (lw_at lw_m7 129 rfl) rfl
theorem q1755 : (Jvm.Cond.code ({ cls := "MakingHouse", name := "strays", desc := "()I" } : Jvm.MethodName) prog_1_method_86_code (1 : Nat) (Option.some Jvm.ClassFile.FieldType.int)) ∈ lw_all := lw_g (lw_at lw_m7 130 rfl) rfl
theorem q2703 : (Jvm.Cond.castable "MakingHouse" "java/lang/Object") ∈ lw_tbl := lw_at lw_m11 118 rfl
theorem in_X0 : ∀ w ∈ wsX00, w ∈ lw_all := lw_in wsX00 [689, 691, 693, 695, 697, 699, 701, 703, 705, 707, 709, 711, 713, 715, 717, 719, 721, 723, 725, 727, 729, 731, 733, 735, 737, 739, 741, 743, 745, 747, 749, 751, 753, 755, 757, 759, 761, 763, 765, 767, 769, 771, 773, 775, 777, 779, 781, 783, 785, 787, 789, 791, 793, 795, 797, 799, 801, 803, 805, 807, 809, 811, 813, 815, 817, 819, 821, 823, 825, 827, 829, 831] (by decide +kernel) (by decide +kernel)
/-! java/util/AbstractCollection -/
set_option maxRecDepth 100000
def RJ0 : String := "java/util/AbstractCollection"
abbrev cJ0_init : ByteArray := prog_33_method_1_code
def yJ0_init : MethodName := ⟨RJ0, "<init>", "()V"⟩
theorem q187 : (Jvm.Cond.initialized "java/util/AbstractCollection") ∈ lw_all := lw_g (lw_at lw_m1 2 rfl) rfl
theorem q238 : (Jvm.Cond.instanceMethod ({ cls := "java/util/AbstractCollection", name := "<init>", desc := "()V" } : Jvm.MethodName)) ∈ lw_all := lw_g (lw_at lw_m1 53 rfl) rfl
theorem q239 : (Jvm.Cond.code ({ cls := "java/util/AbstractCollection", name := "<init>", desc := "()V" } : Jvm.MethodName) prog_33_method_1_code (1 : Nat) (Option.none : Option Jvm.ClassFile.FieldType)) ∈ lw_all := lw_g (lw_at lw_m1 54 rfl) rfl
theorem q240 : (Jvm.Cond.methodLink "java/util/AbstractCollection" (1 : Nat) ({ cls := "java/lang/Object", name := "<init>", desc := "()V" } : Jvm.MethodName)) ∈ lw_all := lw_g (lw_at lw_m1 55 rfl) rfl
/-! java/util/AbstractList -/
set_option maxRecDepth 100000
def RJ1 : String := "java/util/AbstractList"
abbrev cJ1_init : ByteArray := prog_34_method_1_code
def yJ1_init : MethodName := ⟨RJ1, "<init>", "()V"⟩
theorem q188 : (Jvm.Cond.initialized "java/util/AbstractList") ∈ lw_all := lw_g (lw_at lw_m1 3 rfl) rfl
theorem q235 : (Jvm.Cond.instanceMethod ({ cls := "java/util/AbstractList", name := "<init>", desc := "()V" } : Jvm.MethodName)) ∈ lw_all := lw_g (lw_at lw_m1 50 rfl) rfl
theorem q236 : (Jvm.Cond.code ({ cls := "java/util/AbstractList", name := "<init>", desc := "()V" } : Jvm.MethodName) prog_34_method_1_code (1 : Nat) (Option.none : Option Jvm.ClassFile.FieldType)) ∈ lw_all := lw_g (lw_at lw_m1 51 rfl) rfl
theorem q237 : (Jvm.Cond.methodLink "java/util/AbstractList" (1 : Nat) ({ cls := "java/util/AbstractCollection", name := "<init>", desc := "()V" } : Jvm.MethodName)) ∈ lw_all := lw_g (lw_at lw_m1 52 rfl) rfl
theorem q245 : (Jvm.Cond.fieldLink "java/util/AbstractList" (7 : Nat) "java/util/AbstractList" "modCount" "I") ∈ lw_all := lw_g (lw_at lw_m1 60 rfl) rfl
theorem q253 : (Jvm.Cond.soleField "java/util/AbstractList" "modCount") ∈ lw_all := lw_g (lw_at lw_m1 68 rfl) rfl
/-! java/util/ArrayList -/
set_option maxRecDepth 100000
def RJ2 : String := "java/util/ArrayList"
def TJ2 : u_T := fun k => match k with
  | 0 => ("java/util/AbstractList", "modCount", "I", false)
  | 1 => ("java/util/ArrayList", "elementData", "[Ljava/lang/Object;", false)
  | _ => ("java/util/ArrayList", "size", "I", false)
def tyJ2 : Nat → FieldType := fun k => match k with
  | 0 => .int
  | 1 => .array (.object "java/lang/Object")
  | _ => .int
abbrev wsJ20 : List Cond := u_ws RJ2 TJ2 3
theorem nmJ2 : ∀ a, a < 3 → ∀ b, b < 3 → a ≠ b → (TJ2 a).2.1 ≠ (TJ2 b).2.1 := by decide +kernel
theorem tyJ2_ok : ∀ k, k < 3 → parseFieldDescriptor (TJ2 k).2.2.1 = some (tyJ2 k) := by decide +kernel
abbrev cJ2_init : ByteArray := prog_35_method_2_code
def yJ2_init : MethodName := ⟨RJ2, "<init>", "()V"⟩
abbrev cJ2_size : ByteArray := prog_35_method_8_code
def yJ2_size : MethodName := ⟨RJ2, "size", "()I"⟩
abbrev cJ2_add : ByteArray := prog_35_method_25_code
def yJ2_add : MethodName := ⟨RJ2, "add", "(Ljava/lang/Object;)Z"⟩
abbrev cJ2_add_2 : ByteArray := prog_35_method_24_code
def yJ2_add_2 : MethodName := ⟨RJ2, "add", "(Ljava/lang/Object;[Ljava/lang/Object;I)V"⟩
abbrev cJ2_grow : ByteArray := prog_35_method_7_code
def yJ2_grow : MethodName := ⟨RJ2, "grow", "()[Ljava/lang/Object;"⟩
abbrev cJ2_grow_2 : ByteArray := prog_35_method_6_code
def yJ2_grow_2 : MethodName := ⟨RJ2, "grow", "(I)[Ljava/lang/Object;"⟩
abbrev cJ2_get : ByteArray := prog_35_method_20_code
def yJ2_get : MethodName := ⟨RJ2, "get", "(I)Ljava/lang/Object;"⟩
abbrev cJ2_elementData : ByteArray := prog_35_method_18_code
def yJ2_elementData : MethodName := ⟨RJ2, "elementData", "(I)Ljava/lang/Object;"⟩
theorem q189 : (Jvm.Cond.initialized "java/util/ArrayList") ∈ lw_all := lw_g (lw_at lw_m1 4 rfl) rfl
theorem q230 : (Jvm.Cond.instantiable "java/util/ArrayList" (3 : Nat)) ∈ lw_all := lw_g (lw_at lw_m1 45 rfl) rfl
theorem q232 : (Jvm.Cond.instanceMethod ({ cls := "java/util/ArrayList", name := "<init>", desc := "()V" } : Jvm.MethodName)) ∈ lw_all := lw_g (lw_at lw_m1 47 rfl) rfl
theorem q233 : (Jvm.Cond.code ({ cls := "java/util/ArrayList", name := "<init>", desc := "()V" } : Jvm.MethodName) prog_35_method_2_code (1 : Nat) (Option.none : Option Jvm.ClassFile.FieldType)) ∈ lw_all := lw_g (lw_at lw_m1 48 rfl) rfl
theorem q234 : (Jvm.Cond.methodLink "java/util/ArrayList" (1 : Nat) ({ cls := "java/util/AbstractList", name := "<init>", desc := "()V" } : Jvm.MethodName)) ∈ lw_all := lw_g (lw_at lw_m1 49 rfl) rfl
theorem q241 : (Jvm.Cond.fieldLink "java/util/ArrayList" (39 : Nat) "java/util/ArrayList" "DEFAULTCAPACITY_EMPTY_ELEMENTDATA" "[Ljava/lang/Object;") ∈ lw_all := lw_g (lw_at lw_m1 56 rfl) rfl
theorem q242 : (Jvm.Cond.laysStatic "java/util/ArrayList" "DEFAULTCAPACITY_EMPTY_ELEMENTDATA" "[Ljava/lang/Object;") ∈ lw_tbl := lw_at lw_m1 57 rfl
theorem q243 : (Jvm.Cond.fieldLink "java/util/ArrayList" (9 : Nat) "java/util/ArrayList" "elementData" "[Ljava/lang/Object;") ∈ lw_all := lw_g (lw_at lw_m1 58 rfl) rfl
theorem q244 : (Jvm.Cond.fieldLink "java/util/ArrayList" (48 : Nat) "java/util/ArrayList" "size" "I") ∈ lw_all := lw_g (lw_at lw_m1 59 rfl) rfl
theorem q246 : (Jvm.Cond.fieldLink "java/util/ArrayList" (63 : Nat) "java/util/ArrayList" "modCount" "I") ∈ lw_all := lw_g (lw_at lw_m1 61 rfl) rfl
theorem q247 : (Jvm.Cond.sameField "java/util/ArrayList" "java/util/AbstractList" "modCount" "I") ∈ lw_all := lw_g (lw_at lw_m1 62 rfl) rfl
theorem q248 : (Jvm.Cond.lays "java/util/ArrayList" "java/util/ArrayList" "elementData" "[Ljava/lang/Object;") ∈ lw_all := lw_g (lw_at lw_m1 63 rfl) rfl
theorem q249 : (Jvm.Cond.soleField "java/util/ArrayList" "elementData") ∈ lw_all := lw_g (lw_at lw_m1 64 rfl) rfl
theorem q250 : (Jvm.Cond.lays "java/util/ArrayList" "java/util/ArrayList" "size" "I") ∈ lw_all := lw_g (lw_at lw_m1 65 rfl) rfl
theorem q251 : (Jvm.Cond.soleField "java/util/ArrayList" "size") ∈ lw_all := lw_g (lw_at lw_m1 66 rfl) rfl
theorem q252 : (Jvm.Cond.lays "java/util/ArrayList" "java/util/AbstractList" "modCount" "I") ∈ lw_all := lw_g (lw_at lw_m1 67 rfl) rfl
theorem q254 : (Jvm.Cond.superclass "java/util/ArrayList" "java/util/AbstractList") ∈ lw_all := lw_g (lw_at lw_m1 69 rfl) rfl
theorem q843 : (Jvm.Cond.instanceMethod ({ cls := "java/util/ArrayList", name := "size", desc := "()I" } : Jvm.MethodName)) ∈ lw_all := lw_g (lw_at lw_m3 178 rfl) rfl
theorem q844 : (Jvm.Cond.selects "java/util/ArrayList" ({ cls := "java/util/ArrayList", name := "size", desc := "()I" } : Jvm.MethodName) ({ cls := "java/util/ArrayList", name := "size", desc := "()I" } : Jvm.MethodName)) ∈ lw_all := lw_g (lw_at lw_m3 179 rfl) rfl
theorem q845 : (Jvm.Cond.code ({ cls := "java/util/ArrayList", name := "size", desc := "()I" } : Jvm.MethodName) prog_35_method_8_code (1 : Nat) (Option.some Jvm.ClassFile.FieldType.int)) ∈ lw_all := lw_g (lw_at lw_m3 180 rfl) rfl
theorem q911 : (Jvm.Cond.instanceMethod ({ cls := "java/util/ArrayList", name := "add", desc := "(Ljava/lang/Object;)Z" } : Jvm.MethodName)) ∈ lw_all := lw_g (lw_at lw_m4 6 rfl) rfl
theorem q912 : (Jvm.Cond.selects "java/util/ArrayList" ({ cls := "java/util/ArrayList", name := "add", desc := "(Ljava/lang/Object;)Z" } : Jvm.MethodName) ({ cls := "java/util/ArrayList", name := "add", desc := "(Ljava/lang/Object;)Z" } : Jvm.MethodName)) ∈ lw_all := lw_g (lw_at lw_m4 7 rfl) rfl
theorem q913 : (Jvm.Cond.code ({ cls := "java/util/ArrayList", name := "add", desc := "(Ljava/lang/Object;)Z" } : Jvm.MethodName) prog_35_method_25_code (2 : Nat) (Option.some Jvm.ClassFile.FieldType.boolean)) ∈ lw_all := lw_g (lw_at lw_m4 8 rfl) rfl
theorem q914 : (Jvm.Cond.methodLink "java/util/ArrayList" (131 : Nat) ({ cls := "java/util/ArrayList", name := "add", desc := "(Ljava/lang/Object;[Ljava/lang/Object;I)V" } : Jvm.MethodName)) ∈ lw_all := lw_g (lw_at lw_m4 9 rfl) rfl
theorem q915 : (Jvm.Cond.privateMethod ({ cls := "java/util/ArrayList", name := "add", desc := "(Ljava/lang/Object;[Ljava/lang/Object;I)V" } : Jvm.MethodName)) ∈ lw_tbl := lw_at lw_m4 10 rfl
theorem q916 : (Jvm.Cond.instanceMethod ({ cls := "java/util/ArrayList", name := "add", desc := "(Ljava/lang/Object;[Ljava/lang/Object;I)V" } : Jvm.MethodName)) ∈ lw_all := lw_g (lw_at lw_m4 11 rfl) rfl
theorem q917 : (Jvm.Cond.code ({ cls := "java/util/ArrayList", name := "add", desc := "(Ljava/lang/Object;[Ljava/lang/Object;I)V" } : Jvm.MethodName) prog_35_method_24_code (4 : Nat) (Option.none : Option Jvm.ClassFile.FieldType)) ∈ lw_all := lw_g (lw_at lw_m4 12 rfl) rfl
theorem q918 : (Jvm.Cond.methodLink "java/util/ArrayList" (129 : Nat) ({ cls := "java/util/ArrayList", name := "grow", desc := "()[Ljava/lang/Object;" } : Jvm.MethodName)) ∈ lw_all := lw_g (lw_at lw_m4 13 rfl) rfl
theorem q919 : (Jvm.Cond.privateMethod ({ cls := "java/util/ArrayList", name := "grow", desc := "()[Ljava/lang/Object;" } : Jvm.MethodName)) ∈ lw_tbl := lw_at lw_m4 14 rfl
theorem q920 : (Jvm.Cond.instanceMethod ({ cls := "java/util/ArrayList", name := "grow", desc := "()[Ljava/lang/Object;" } : Jvm.MethodName)) ∈ lw_all := lw_g (lw_at lw_m4 15 rfl) rfl
theorem q921 : (Jvm.Cond.code ({ cls := "java/util/ArrayList", name := "grow", desc := "()[Ljava/lang/Object;" } : Jvm.MethodName) prog_35_method_7_code (1 : Nat) (Option.some (Jvm.ClassFile.FieldType.array (Jvm.ClassFile.FieldType.object "java/lang/Object")))) ∈ lw_all := lw_g (lw_at lw_m4 16 rfl) rfl
theorem q922 : (Jvm.Cond.methodLink "java/util/ArrayList" (69 : Nat) ({ cls := "java/util/ArrayList", name := "grow", desc := "(I)[Ljava/lang/Object;" } : Jvm.MethodName)) ∈ lw_all := lw_g (lw_at lw_m4 17 rfl) rfl
theorem q923 : (Jvm.Cond.privateMethod ({ cls := "java/util/ArrayList", name := "grow", desc := "(I)[Ljava/lang/Object;" } : Jvm.MethodName)) ∈ lw_tbl := lw_at lw_m4 18 rfl
theorem q924 : (Jvm.Cond.instanceMethod ({ cls := "java/util/ArrayList", name := "grow", desc := "(I)[Ljava/lang/Object;" } : Jvm.MethodName)) ∈ lw_all := lw_g (lw_at lw_m4 19 rfl) rfl
theorem q925 : (Jvm.Cond.code ({ cls := "java/util/ArrayList", name := "grow", desc := "(I)[Ljava/lang/Object;" } : Jvm.MethodName) prog_35_method_6_code (4 : Nat) (Option.some (Jvm.ClassFile.FieldType.array (Jvm.ClassFile.FieldType.object "java/lang/Object")))) ∈ lw_all := lw_g (lw_at lw_m4 20 rfl) rfl
theorem q926 : (Jvm.Cond.methodLink "java/util/ArrayList" (73 : Nat) ({ cls := "jdk/internal/util/ArraysSupport", name := "newLength", desc := "(III)I" } : Jvm.MethodName)) ∈ lw_all := lw_g (lw_at lw_m4 21 rfl) rfl
theorem q936 : (Jvm.Cond.methodLink "java/util/ArrayList" (66 : Nat) ({ cls := "java/util/Arrays", name := "copyOf", desc := "([Ljava/lang/Object;I)[Ljava/lang/Object;" } : Jvm.MethodName)) ∈ lw_all := lw_g (lw_at lw_m4 31 rfl) rfl
theorem q961 : (Jvm.Cond.selects "java/util/ArrayList" ({ cls := "java/lang/Object", name := "getClass", desc := "()Ljava/lang/Class;" } : Jvm.MethodName) ({ cls := "java/lang/Object", name := "getClass", desc := "()Ljava/lang/Class;" } : Jvm.MethodName)) ∈ lw_all := lw_g (lw_at lw_m4 56 rfl) rfl
theorem q973 : (Jvm.Cond.methodLink "java/util/ArrayList" (79 : Nat) ({ cls := "java/lang/Math", name := "max", desc := "(II)I" } : Jvm.MethodName)) ∈ lw_all := lw_g (lw_at lw_m4 68 rfl) rfl
theorem q974 : (Jvm.Cond.classLink "java/util/ArrayList" (7 : Nat) "java/lang/Object") ∈ lw_all := lw_g (lw_at lw_m4 69 rfl) rfl
theorem q988 : (Jvm.Cond.instanceMethod ({ cls := "java/util/ArrayList", name := "get", desc := "(I)Ljava/lang/Object;" } : Jvm.MethodName)) ∈ lw_all := lw_g (lw_at lw_m4 83 rfl) rfl
theorem q989 : (Jvm.Cond.selects "java/util/ArrayList" ({ cls := "java/util/ArrayList", name := "get", desc := "(I)Ljava/lang/Object;" } : Jvm.MethodName) ({ cls := "java/util/ArrayList", name := "get", desc := "(I)Ljava/lang/Object;" } : Jvm.MethodName)) ∈ lw_all := lw_g (lw_at lw_m4 84 rfl) rfl
theorem q990 : (Jvm.Cond.code ({ cls := "java/util/ArrayList", name := "get", desc := "(I)Ljava/lang/Object;" } : Jvm.MethodName) prog_35_method_20_code (2 : Nat) (Option.some (Jvm.ClassFile.FieldType.object "java/lang/Object"))) ∈ lw_all := lw_g (lw_at lw_m4 85 rfl) rfl
theorem q991 : (Jvm.Cond.methodLink "java/util/ArrayList" (118 : Nat) ({ cls := "java/util/Objects", name := "checkIndex", desc := "(II)I" } : Jvm.MethodName)) ∈ lw_all := lw_g (lw_at lw_m4 86 rfl) rfl
theorem q997 : (Jvm.Cond.methodLink "java/util/ArrayList" (123 : Nat) ({ cls := "java/util/ArrayList", name := "elementData", desc := "(I)Ljava/lang/Object;" } : Jvm.MethodName)) ∈ lw_all := lw_g (lw_at lw_m4 92 rfl) rfl
theorem q998 : (Jvm.Cond.instanceMethod ({ cls := "java/util/ArrayList", name := "elementData", desc := "(I)Ljava/lang/Object;" } : Jvm.MethodName)) ∈ lw_all := lw_g (lw_at lw_m4 93 rfl) rfl
theorem q999 : (Jvm.Cond.selects "java/util/ArrayList" ({ cls := "java/util/ArrayList", name := "elementData", desc := "(I)Ljava/lang/Object;" } : Jvm.MethodName) ({ cls := "java/util/ArrayList", name := "elementData", desc := "(I)Ljava/lang/Object;" } : Jvm.MethodName)) ∈ lw_all := lw_g (lw_at lw_m4 94 rfl) rfl
theorem q1000 : (Jvm.Cond.code ({ cls := "java/util/ArrayList", name := "elementData", desc := "(I)Ljava/lang/Object;" } : Jvm.MethodName) prog_35_method_18_code (2 : Nat) (Option.some (Jvm.ClassFile.FieldType.object "java/lang/Object"))) ∈ lw_all := lw_g (lw_at lw_m4 95 rfl) rfl
theorem q2704 : (Jvm.Cond.castable "java/util/ArrayList" "java/lang/Object") ∈ lw_tbl := lw_at lw_m11 119 rfl
theorem in_J2 : ∀ w ∈ wsJ20, w ∈ lw_all := lw_in wsJ20 [252, 248, 250] (by decide +kernel) (by decide +kernel)
/-! MakingHouse$Spans -/
set_option maxRecDepth 100000
def RX1 : String := "MakingHouse$Spans"
def TX1 : u_T := fun k => match k with
  | 0 => ("MakingHouse$Spans", "from", "[J", true)
  | 1 => ("MakingHouse$Spans", "to", "[J", true)
  | _ => ("MakingHouse$Spans", "count", "I", false)
def tyX1 : Nat → FieldType := fun k => match k with
  | 0 => .array .long
  | 1 => .array .long
  | _ => .int
abbrev wsX10 : List Cond := u_ws RX1 TX1 3
theorem nmX1 : ∀ a, a < 3 → ∀ b, b < 3 → a ≠ b → (TX1 a).2.1 ≠ (TX1 b).2.1 := by decide +kernel
theorem tyX1_ok : ∀ k, k < 3 → parseFieldDescriptor (TX1 k).2.2.1 = some (tyX1 k) := by decide +kernel
abbrev cX1_init : ByteArray := prog_13_method_1_code
def yX1_init : MethodName := ⟨RX1, "<init>", "()V"⟩
abbrev cX1_add : ByteArray := prog_13_method_2_code
def yX1_add : MethodName := ⟨RX1, "add", "(JJ)V"⟩
abbrev cX1_moved : ByteArray := prog_13_method_5_code
def yX1_moved : MethodName := ⟨RX1, "moved", "(J)V"⟩
abbrev cX1_joined : ByteArray := prog_13_method_3_code
def yX1_joined : MethodName := ⟨RX1, "joined", "(LMakingHouse$Spans;LMakingHouse$Spans;I)V"⟩
abbrev cX1_push : ByteArray := prog_13_method_4_code
def yX1_push : MethodName := ⟨RX1, "push", "(JJ)V"⟩
theorem q190 : (Jvm.Cond.initialized "MakingHouse$Spans") ∈ lw_all := lw_g (lw_at lw_m1 5 rfl) rfl
theorem q256 : (Jvm.Cond.instantiable "MakingHouse$Spans" (3 : Nat)) ∈ lw_all := lw_g (lw_at lw_m1 71 rfl) rfl
theorem q258 : (Jvm.Cond.instanceMethod ({ cls := "MakingHouse$Spans", name := "<init>", desc := "()V" } : Jvm.MethodName)) ∈ lw_all := lw_g (lw_at lw_m1 73 rfl) rfl
theorem q259 : (Jvm.Cond.code ({ cls := "MakingHouse$Spans", name := "<init>", desc := "()V" } : Jvm.MethodName) prog_13_method_1_code (1 : Nat) (Option.none : Option Jvm.ClassFile.FieldType)) ∈ lw_all := lw_g (lw_at lw_m1 74 rfl) rfl
theorem q260 : (Jvm.Cond.methodLink "MakingHouse$Spans" (3 : Nat) ({ cls := "java/lang/Object", name := "<init>", desc := "()V" } : Jvm.MethodName)) ∈ lw_all := lw_g (lw_at lw_m1 75 rfl) rfl
theorem q261 : (Jvm.Cond.fieldLink "MakingHouse$Spans" (9 : Nat) "MakingHouse$Spans" "from" "[J") ∈ lw_all := lw_g (lw_at lw_m1 76 rfl) rfl
theorem q263 : (Jvm.Cond.fieldLink "MakingHouse$Spans" (15 : Nat) "MakingHouse$Spans" "to" "[J") ∈ lw_all := lw_g (lw_at lw_m1 78 rfl) rfl
theorem q265 : (Jvm.Cond.fieldLink "MakingHouse$Spans" (18 : Nat) "MakingHouse$Spans" "count" "I") ∈ lw_all := lw_g (lw_at lw_m1 80 rfl) rfl
theorem q271 : (Jvm.Cond.laysFinal "MakingHouse$Spans" "MakingHouse$Spans" "from" "[J") ∈ lw_all := lw_g (lw_at lw_m1 86 rfl) rfl
theorem q272 : (Jvm.Cond.soleField "MakingHouse$Spans" "from") ∈ lw_all := lw_g (lw_at lw_m1 87 rfl) rfl
theorem q273 : (Jvm.Cond.laysFinal "MakingHouse$Spans" "MakingHouse$Spans" "to" "[J") ∈ lw_all := lw_g (lw_at lw_m1 88 rfl) rfl
theorem q274 : (Jvm.Cond.soleField "MakingHouse$Spans" "to") ∈ lw_all := lw_g (lw_at lw_m1 89 rfl) rfl
theorem q275 : (Jvm.Cond.lays "MakingHouse$Spans" "MakingHouse$Spans" "count" "I") ∈ lw_all := lw_g (lw_at lw_m1 90 rfl) rfl
theorem q276 : (Jvm.Cond.soleField "MakingHouse$Spans" "count") ∈ lw_all := lw_g (lw_at lw_m1 91 rfl) rfl
theorem q277 : (Jvm.Cond.superclass "MakingHouse$Spans" "java/lang/Object") ∈ lw_all := lw_g (lw_at lw_m1 92 rfl) rfl
theorem q953 : (Jvm.Cond.selects "MakingHouse$Spans" ({ cls := "java/lang/Object", name := "getClass", desc := "()Ljava/lang/Class;" } : Jvm.MethodName) ({ cls := "java/lang/Object", name := "getClass", desc := "()Ljava/lang/Class;" } : Jvm.MethodName)) ∈ lw_all := lw_g (lw_at lw_m4 48 rfl) rfl
theorem q1116 : (Jvm.Cond.instanceMethod ({ cls := "MakingHouse$Spans", name := "add", desc := "(JJ)V" } : Jvm.MethodName)) ∈ lw_all := lw_g (lw_at lw_m4 211 rfl) rfl
theorem q1117 : (Jvm.Cond.selects "MakingHouse$Spans" ({ cls := "MakingHouse$Spans", name := "add", desc := "(JJ)V" } : Jvm.MethodName) ({ cls := "MakingHouse$Spans", name := "add", desc := "(JJ)V" } : Jvm.MethodName)) ∈ lw_all := lw_g (lw_at lw_m4 212 rfl) rfl
theorem q1118 : (Jvm.Cond.code ({ cls := "MakingHouse$Spans", name := "add", desc := "(JJ)V" } : Jvm.MethodName) prog_13_method_2_code (5 : Nat) (Option.none : Option Jvm.ClassFile.FieldType)) ∈ lw_all := lw_g (lw_at lw_m4 213 rfl) rfl
theorem q1142 : (Jvm.Cond.instanceMethod ({ cls := "MakingHouse$Spans", name := "moved", desc := "(J)V" } : Jvm.MethodName)) ∈ lw_all := lw_g (lw_at lw_m4 237 rfl) rfl
theorem q1143 : (Jvm.Cond.selects "MakingHouse$Spans" ({ cls := "MakingHouse$Spans", name := "moved", desc := "(J)V" } : Jvm.MethodName) ({ cls := "MakingHouse$Spans", name := "moved", desc := "(J)V" } : Jvm.MethodName)) ∈ lw_all := lw_g (lw_at lw_m4 238 rfl) rfl
theorem q1144 : (Jvm.Cond.code ({ cls := "MakingHouse$Spans", name := "moved", desc := "(J)V" } : Jvm.MethodName) prog_13_method_5_code (4 : Nat) (Option.none : Option Jvm.ClassFile.FieldType)) ∈ lw_all := lw_g (lw_at lw_m4 239 rfl) rfl
theorem q1146 : (Jvm.Cond.instanceMethod ({ cls := "MakingHouse$Spans", name := "joined", desc := "(LMakingHouse$Spans;LMakingHouse$Spans;I)V" } : Jvm.MethodName)) ∈ lw_all := lw_g (lw_at lw_m5 1 rfl) rfl
theorem q1147 : (Jvm.Cond.selects "MakingHouse$Spans" ({ cls := "MakingHouse$Spans", name := "joined", desc := "(LMakingHouse$Spans;LMakingHouse$Spans;I)V" } : Jvm.MethodName) ({ cls := "MakingHouse$Spans", name := "joined", desc := "(LMakingHouse$Spans;LMakingHouse$Spans;I)V" } : Jvm.MethodName)) ∈ lw_all := lw_g (lw_at lw_m5 2 rfl) rfl
theorem q1148 : (Jvm.Cond.code ({ cls := "MakingHouse$Spans", name := "joined", desc := "(LMakingHouse$Spans;LMakingHouse$Spans;I)V" } : Jvm.MethodName) prog_13_method_3_code (18 : Nat) (Option.none : Option Jvm.ClassFile.FieldType)) ∈ lw_all := lw_g (lw_at lw_m5 3 rfl) rfl
theorem q1149 : (Jvm.Cond.constantLong "MakingHouse$Spans" (24 : Nat) (9223372036854775807 : Int64)) ∈ lw_all := lw_g (lw_at lw_m5 4 rfl) rfl
theorem q1150 : (Jvm.Cond.methodLink "MakingHouse$Spans" (26 : Nat) ({ cls := "java/lang/Math", name := "min", desc := "(JJ)J" } : Jvm.MethodName)) ∈ lw_all := lw_g (lw_at lw_m5 5 rfl) rfl
theorem q1153 : (Jvm.Cond.methodLink "MakingHouse$Spans" (32 : Nat) ({ cls := "MakingHouse$Spans", name := "push", desc := "(JJ)V" } : Jvm.MethodName)) ∈ lw_all := lw_g (lw_at lw_m5 8 rfl) rfl
theorem q1154 : (Jvm.Cond.privateMethod ({ cls := "MakingHouse$Spans", name := "push", desc := "(JJ)V" } : Jvm.MethodName)) ∈ lw_tbl := lw_at lw_m5 9 rfl
theorem q1155 : (Jvm.Cond.instanceMethod ({ cls := "MakingHouse$Spans", name := "push", desc := "(JJ)V" } : Jvm.MethodName)) ∈ lw_all := lw_g (lw_at lw_m5 10 rfl) rfl
theorem q1156 : (Jvm.Cond.code ({ cls := "MakingHouse$Spans", name := "push", desc := "(JJ)V" } : Jvm.MethodName) prog_13_method_4_code (5 : Nat) (Option.none : Option Jvm.ClassFile.FieldType)) ∈ lw_all := lw_g (lw_at lw_m5 11 rfl) rfl
theorem q1157 : (Jvm.Cond.methodLink "MakingHouse$Spans" (36 : Nat) ({ cls := "MakingHouse$Spans", name := "add", desc := "(JJ)V" } : Jvm.MethodName)) ∈ lw_all := lw_g (lw_at lw_m5 12 rfl) rfl
theorem q2701 : (Jvm.Cond.castable "MakingHouse$Spans" "java/lang/Object") ∈ lw_tbl := lw_at lw_m11 116 rfl
theorem in_X1 : ∀ w ∈ wsX10, w ∈ lw_all := lw_in wsX10 [271, 273, 275] (by decide +kernel) (by decide +kernel)
/-! MakingHouse$Layer -/
set_option maxRecDepth 100000
def RX2 : String := "MakingHouse$Layer"
def TX2 : u_T := fun k => match k with
  | 0 => ("MakingHouse$Layer", "n", "I", false)
  | 1 => ("MakingHouse$Layer", "m", "I", false)
  | 2 => ("MakingHouse$Layer", "in", "[Z", true)
  | 3 => ("MakingHouse$Layer", "filled", "[Z", true)
  | 4 => ("MakingHouse$Layer", "half", "[Z", true)
  | 5 => ("MakingHouse$Layer", "row", "[I", true)
  | 6 => ("MakingHouse$Layer", "from", "[I", true)
  | 7 => ("MakingHouse$Layer", "to", "[I", true)
  | 8 => ("MakingHouse$Layer", "above", "[I", true)
  | 9 => ("MakingHouse$Layer", "isOpen", "[Z", true)
  | 10 => ("MakingHouse$Layer", "runs", "I", false)
  | 11 => ("MakingHouse$Layer", "islands", "I", false)
  | 12 => ("MakingHouse$Layer", "holes", "I", false)
  | 13 => ("MakingHouse$Layer", "cells", "I", false)
  | 14 => ("MakingHouse$Layer", "fillCells", "I", false)
  | 15 => ("MakingHouse$Layer", "fillRuns", "I", false)
  | 16 => ("MakingHouse$Layer", "fillRow", "[I", true)
  | 17 => ("MakingHouse$Layer", "fillFrom", "[I", true)
  | _ => ("MakingHouse$Layer", "fillTo", "[I", true)
def tyX2 : Nat → FieldType := fun k => match k with
  | 0 => .int
  | 1 => .int
  | 2 => .array .boolean
  | 3 => .array .boolean
  | 4 => .array .boolean
  | 5 => .array .int
  | 6 => .array .int
  | 7 => .array .int
  | 8 => .array .int
  | 9 => .array .boolean
  | 10 => .int
  | 11 => .int
  | 12 => .int
  | 13 => .int
  | 14 => .int
  | 15 => .int
  | 16 => .array .int
  | 17 => .array .int
  | _ => .array .int
abbrev wsX20 : List Cond := u_ws RX2 TX2 19
set_option maxRecDepth 100000 in
theorem nmX2 : ∀ a, a < 19 → ∀ b, b < 19 → a ≠ b → (TX2 a).2.1 ≠ (TX2 b).2.1 := by decide +kernel
set_option maxRecDepth 100000 in
theorem tyX2_ok : ∀ k, k < 19 → parseFieldDescriptor (TX2 k).2.2.1 = some (tyX2 k) := by decide +kernel
abbrev cX2_init : ByteArray := prog_6_method_1_code
def yX2_init : MethodName := ⟨RX2, "<init>", "()V"⟩
abbrev cX2_begin : ByteArray := prog_6_method_2_code
def yX2_begin : MethodName := ⟨RX2, "begin", "(II)V"⟩
abbrev cX2_set : ByteArray := prog_6_method_3_code
def yX2_set : MethodName := ⟨RX2, "set", "(IIZ)V"⟩
abbrev cX2_done : ByteArray := prog_6_method_4_code
def yX2_done : MethodName := ⟨RX2, "done", "(I)V"⟩
abbrev cX2_find : ByteArray := prog_6_method_5_code
def yX2_find : MethodName := ⟨RX2, "find", "(Z)V"⟩
abbrev cX2_parts : ByteArray := prog_6_method_7_code
def yX2_parts : MethodName := ⟨RX2, "parts", "(Z)I"⟩
abbrev cX2_join : ByteArray := prog_6_method_8_code
def yX2_join : MethodName := ⟨RX2, "join", "(II)V"⟩
abbrev cX2_top : ByteArray := prog_6_method_6_code
def yX2_top : MethodName := ⟨RX2, "top", "(I)I"⟩
abbrev cX2_fill : ByteArray := prog_6_method_9_code
def yX2_fill : MethodName := ⟨RX2, "fill", "(I)V"⟩
abbrev cX2_lines : ByteArray := prog_6_method_10_code
def yX2_lines : MethodName := ⟨RX2, "lines", "(I)V"⟩
theorem q191 : (Jvm.Cond.initialized "MakingHouse$Layer") ∈ lw_all := lw_g (lw_at lw_m1 6 rfl) rfl
theorem q285 : (Jvm.Cond.instantiable "MakingHouse$Layer" (19 : Nat)) ∈ lw_all := lw_g (lw_at lw_m1 100 rfl) rfl
theorem q287 : (Jvm.Cond.instanceMethod ({ cls := "MakingHouse$Layer", name := "<init>", desc := "()V" } : Jvm.MethodName)) ∈ lw_all := lw_g (lw_at lw_m1 102 rfl) rfl
theorem q288 : (Jvm.Cond.code ({ cls := "MakingHouse$Layer", name := "<init>", desc := "()V" } : Jvm.MethodName) prog_6_method_1_code (1 : Nat) (Option.none : Option Jvm.ClassFile.FieldType)) ∈ lw_all := lw_g (lw_at lw_m1 103 rfl) rfl
theorem q289 : (Jvm.Cond.methodLink "MakingHouse$Layer" (3 : Nat) ({ cls := "java/lang/Object", name := "<init>", desc := "()V" } : Jvm.MethodName)) ∈ lw_all := lw_g (lw_at lw_m1 104 rfl) rfl
theorem q290 : (Jvm.Cond.fieldLink "MakingHouse$Layer" (46 : Nat) "MakingHouse$Layer" "n" "I") ∈ lw_all := lw_g (lw_at lw_m1 105 rfl) rfl
theorem q291 : (Jvm.Cond.fieldLink "MakingHouse$Layer" (50 : Nat) "MakingHouse$Layer" "m" "I") ∈ lw_all := lw_g (lw_at lw_m1 106 rfl) rfl
theorem q292 : (Jvm.Cond.fieldLink "MakingHouse$Layer" (9 : Nat) "MakingHouse$Layer" "in" "[Z") ∈ lw_all := lw_g (lw_at lw_m1 107 rfl) rfl
theorem q293 : (Jvm.Cond.fieldLink "MakingHouse$Layer" (15 : Nat) "MakingHouse$Layer" "filled" "[Z") ∈ lw_all := lw_g (lw_at lw_m1 108 rfl) rfl
theorem q294 : (Jvm.Cond.fieldLink "MakingHouse$Layer" (18 : Nat) "MakingHouse$Layer" "half" "[Z") ∈ lw_all := lw_g (lw_at lw_m1 109 rfl) rfl
theorem q295 : (Jvm.Cond.fieldLink "MakingHouse$Layer" (21 : Nat) "MakingHouse$Layer" "row" "[I") ∈ lw_all := lw_g (lw_at lw_m1 110 rfl) rfl
theorem q296 : (Jvm.Cond.fieldLink "MakingHouse$Layer" (25 : Nat) "MakingHouse$Layer" "from" "[I") ∈ lw_all := lw_g (lw_at lw_m1 111 rfl) rfl
theorem q297 : (Jvm.Cond.fieldLink "MakingHouse$Layer" (28 : Nat) "MakingHouse$Layer" "to" "[I") ∈ lw_all := lw_g (lw_at lw_m1 112 rfl) rfl
theorem q298 : (Jvm.Cond.fieldLink "MakingHouse$Layer" (31 : Nat) "MakingHouse$Layer" "above" "[I") ∈ lw_all := lw_g (lw_at lw_m1 113 rfl) rfl
theorem q299 : (Jvm.Cond.fieldLink "MakingHouse$Layer" (34 : Nat) "MakingHouse$Layer" "isOpen" "[Z") ∈ lw_all := lw_g (lw_at lw_m1 114 rfl) rfl
theorem q300 : (Jvm.Cond.fieldLink "MakingHouse$Layer" (74 : Nat) "MakingHouse$Layer" "runs" "I") ∈ lw_all := lw_g (lw_at lw_m1 115 rfl) rfl
theorem q301 : (Jvm.Cond.fieldLink "MakingHouse$Layer" (64 : Nat) "MakingHouse$Layer" "islands" "I") ∈ lw_all := lw_g (lw_at lw_m1 116 rfl) rfl
theorem q303 : (Jvm.Cond.fieldLink "MakingHouse$Layer" (67 : Nat) "MakingHouse$Layer" "holes" "I") ∈ lw_all := lw_g (lw_at lw_m1 118 rfl) rfl
theorem q305 : (Jvm.Cond.fieldLink "MakingHouse$Layer" (53 : Nat) "MakingHouse$Layer" "cells" "I") ∈ lw_all := lw_g (lw_at lw_m1 120 rfl) rfl
theorem q307 : (Jvm.Cond.fieldLink "MakingHouse$Layer" (85 : Nat) "MakingHouse$Layer" "fillCells" "I") ∈ lw_all := lw_g (lw_at lw_m1 122 rfl) rfl
theorem q309 : (Jvm.Cond.fieldLink "MakingHouse$Layer" (88 : Nat) "MakingHouse$Layer" "fillRuns" "I") ∈ lw_all := lw_g (lw_at lw_m1 124 rfl) rfl
theorem q311 : (Jvm.Cond.fieldLink "MakingHouse$Layer" (37 : Nat) "MakingHouse$Layer" "fillRow" "[I") ∈ lw_all := lw_g (lw_at lw_m1 126 rfl) rfl
theorem q313 : (Jvm.Cond.fieldLink "MakingHouse$Layer" (40 : Nat) "MakingHouse$Layer" "fillFrom" "[I") ∈ lw_all := lw_g (lw_at lw_m1 128 rfl) rfl
theorem q315 : (Jvm.Cond.fieldLink "MakingHouse$Layer" (43 : Nat) "MakingHouse$Layer" "fillTo" "[I") ∈ lw_all := lw_g (lw_at lw_m1 130 rfl) rfl
theorem q317 : (Jvm.Cond.lays "MakingHouse$Layer" "MakingHouse$Layer" "n" "I") ∈ lw_all := lw_g (lw_at lw_m1 132 rfl) rfl
theorem q318 : (Jvm.Cond.soleField "MakingHouse$Layer" "n") ∈ lw_all := lw_g (lw_at lw_m1 133 rfl) rfl
theorem q319 : (Jvm.Cond.lays "MakingHouse$Layer" "MakingHouse$Layer" "m" "I") ∈ lw_all := lw_g (lw_at lw_m1 134 rfl) rfl
theorem q320 : (Jvm.Cond.soleField "MakingHouse$Layer" "m") ∈ lw_all := lw_g (lw_at lw_m1 135 rfl) rfl
theorem q321 : (Jvm.Cond.laysFinal "MakingHouse$Layer" "MakingHouse$Layer" "in" "[Z") ∈ lw_all := lw_g (lw_at lw_m1 136 rfl) rfl
theorem q322 : (Jvm.Cond.soleField "MakingHouse$Layer" "in") ∈ lw_all := lw_g (lw_at lw_m1 137 rfl) rfl
theorem q323 : (Jvm.Cond.laysFinal "MakingHouse$Layer" "MakingHouse$Layer" "filled" "[Z") ∈ lw_all := lw_g (lw_at lw_m1 138 rfl) rfl
theorem q324 : (Jvm.Cond.soleField "MakingHouse$Layer" "filled") ∈ lw_all := lw_g (lw_at lw_m1 139 rfl) rfl
theorem q325 : (Jvm.Cond.laysFinal "MakingHouse$Layer" "MakingHouse$Layer" "half" "[Z") ∈ lw_all := lw_g (lw_at lw_m1 140 rfl) rfl
theorem q326 : (Jvm.Cond.soleField "MakingHouse$Layer" "half") ∈ lw_all := lw_g (lw_at lw_m1 141 rfl) rfl
theorem q327 : (Jvm.Cond.laysFinal "MakingHouse$Layer" "MakingHouse$Layer" "row" "[I") ∈ lw_all := lw_g (lw_at lw_m1 142 rfl) rfl
theorem q328 : (Jvm.Cond.soleField "MakingHouse$Layer" "row") ∈ lw_all := lw_g (lw_at lw_m1 143 rfl) rfl
theorem q329 : (Jvm.Cond.laysFinal "MakingHouse$Layer" "MakingHouse$Layer" "from" "[I") ∈ lw_all := lw_g (lw_at lw_m1 144 rfl) rfl
theorem q330 : (Jvm.Cond.soleField "MakingHouse$Layer" "from") ∈ lw_all := lw_g (lw_at lw_m1 145 rfl) rfl
theorem q331 : (Jvm.Cond.laysFinal "MakingHouse$Layer" "MakingHouse$Layer" "to" "[I") ∈ lw_all := lw_g (lw_at lw_m1 146 rfl) rfl
theorem q332 : (Jvm.Cond.soleField "MakingHouse$Layer" "to") ∈ lw_all := lw_g (lw_at lw_m1 147 rfl) rfl
theorem q333 : (Jvm.Cond.laysFinal "MakingHouse$Layer" "MakingHouse$Layer" "above" "[I") ∈ lw_all := lw_g (lw_at lw_m1 148 rfl) rfl
theorem q334 : (Jvm.Cond.soleField "MakingHouse$Layer" "above") ∈ lw_all := lw_g (lw_at lw_m1 149 rfl) rfl
theorem q335 : (Jvm.Cond.laysFinal "MakingHouse$Layer" "MakingHouse$Layer" "isOpen" "[Z") ∈ lw_all := lw_g (lw_at lw_m1 150 rfl) rfl
theorem q336 : (Jvm.Cond.soleField "MakingHouse$Layer" "isOpen") ∈ lw_all := lw_g (lw_at lw_m1 151 rfl) rfl
theorem q337 : (Jvm.Cond.lays "MakingHouse$Layer" "MakingHouse$Layer" "runs" "I") ∈ lw_all := lw_g (lw_at lw_m1 152 rfl) rfl
theorem q338 : (Jvm.Cond.soleField "MakingHouse$Layer" "runs") ∈ lw_all := lw_g (lw_at lw_m1 153 rfl) rfl
theorem q339 : (Jvm.Cond.lays "MakingHouse$Layer" "MakingHouse$Layer" "islands" "I") ∈ lw_all := lw_g (lw_at lw_m1 154 rfl) rfl
theorem q340 : (Jvm.Cond.soleField "MakingHouse$Layer" "islands") ∈ lw_all := lw_g (lw_at lw_m1 155 rfl) rfl
theorem q341 : (Jvm.Cond.lays "MakingHouse$Layer" "MakingHouse$Layer" "holes" "I") ∈ lw_all := lw_g (lw_at lw_m1 156 rfl) rfl
theorem q342 : (Jvm.Cond.soleField "MakingHouse$Layer" "holes") ∈ lw_all := lw_g (lw_at lw_m1 157 rfl) rfl
theorem q343 : (Jvm.Cond.lays "MakingHouse$Layer" "MakingHouse$Layer" "cells" "I") ∈ lw_all := lw_g (lw_at lw_m1 158 rfl) rfl
theorem q344 : (Jvm.Cond.soleField "MakingHouse$Layer" "cells") ∈ lw_all := lw_g (lw_at lw_m1 159 rfl) rfl
theorem q345 : (Jvm.Cond.lays "MakingHouse$Layer" "MakingHouse$Layer" "fillCells" "I") ∈ lw_all := lw_g (lw_at lw_m1 160 rfl) rfl
theorem q346 : (Jvm.Cond.soleField "MakingHouse$Layer" "fillCells") ∈ lw_all := lw_g (lw_at lw_m1 161 rfl) rfl
theorem q347 : (Jvm.Cond.lays "MakingHouse$Layer" "MakingHouse$Layer" "fillRuns" "I") ∈ lw_all := lw_g (lw_at lw_m1 162 rfl) rfl
theorem q348 : (Jvm.Cond.soleField "MakingHouse$Layer" "fillRuns") ∈ lw_all := lw_g (lw_at lw_m1 163 rfl) rfl
theorem q349 : (Jvm.Cond.laysFinal "MakingHouse$Layer" "MakingHouse$Layer" "fillRow" "[I") ∈ lw_all := lw_g (lw_at lw_m1 164 rfl) rfl
theorem q350 : (Jvm.Cond.soleField "MakingHouse$Layer" "fillRow") ∈ lw_all := lw_g (lw_at lw_m1 165 rfl) rfl
theorem q351 : (Jvm.Cond.laysFinal "MakingHouse$Layer" "MakingHouse$Layer" "fillFrom" "[I") ∈ lw_all := lw_g (lw_at lw_m1 166 rfl) rfl
theorem q352 : (Jvm.Cond.soleField "MakingHouse$Layer" "fillFrom") ∈ lw_all := lw_g (lw_at lw_m1 167 rfl) rfl
theorem q353 : (Jvm.Cond.laysFinal "MakingHouse$Layer" "MakingHouse$Layer" "fillTo" "[I") ∈ lw_all := lw_g (lw_at lw_m1 168 rfl) rfl
theorem q354 : (Jvm.Cond.soleField "MakingHouse$Layer" "fillTo") ∈ lw_all := lw_g (lw_at lw_m1 169 rfl) rfl
theorem q355 : (Jvm.Cond.superclass "MakingHouse$Layer" "java/lang/Object") ∈ lw_all := lw_g (lw_at lw_m1 170 rfl) rfl
theorem q947 : (Jvm.Cond.selects "MakingHouse$Layer" ({ cls := "java/lang/Object", name := "getClass", desc := "()Ljava/lang/Class;" } : Jvm.MethodName) ({ cls := "java/lang/Object", name := "getClass", desc := "()Ljava/lang/Class;" } : Jvm.MethodName)) ∈ lw_all := lw_g (lw_at lw_m4 42 rfl) rfl
theorem q1168 : (Jvm.Cond.instanceMethod ({ cls := "MakingHouse$Layer", name := "begin", desc := "(II)V" } : Jvm.MethodName)) ∈ lw_all := lw_g (lw_at lw_m5 23 rfl) rfl
theorem q1169 : (Jvm.Cond.selects "MakingHouse$Layer" ({ cls := "MakingHouse$Layer", name := "begin", desc := "(II)V" } : Jvm.MethodName) ({ cls := "MakingHouse$Layer", name := "begin", desc := "(II)V" } : Jvm.MethodName)) ∈ lw_all := lw_g (lw_at lw_m5 24 rfl) rfl
theorem q1170 : (Jvm.Cond.code ({ cls := "MakingHouse$Layer", name := "begin", desc := "(II)V" } : Jvm.MethodName) prog_6_method_2_code (3 : Nat) (Option.none : Option Jvm.ClassFile.FieldType)) ∈ lw_all := lw_g (lw_at lw_m5 25 rfl) rfl
theorem q1172 : (Jvm.Cond.instanceMethod ({ cls := "MakingHouse$Layer", name := "set", desc := "(IIZ)V" } : Jvm.MethodName)) ∈ lw_all := lw_g (lw_at lw_m5 27 rfl) rfl
theorem q1173 : (Jvm.Cond.selects "MakingHouse$Layer" ({ cls := "MakingHouse$Layer", name := "set", desc := "(IIZ)V" } : Jvm.MethodName) ({ cls := "MakingHouse$Layer", name := "set", desc := "(IIZ)V" } : Jvm.MethodName)) ∈ lw_all := lw_g (lw_at lw_m5 28 rfl) rfl
theorem q1174 : (Jvm.Cond.code ({ cls := "MakingHouse$Layer", name := "set", desc := "(IIZ)V" } : Jvm.MethodName) prog_6_method_3_code (4 : Nat) (Option.none : Option Jvm.ClassFile.FieldType)) ∈ lw_all := lw_g (lw_at lw_m5 29 rfl) rfl
theorem q1176 : (Jvm.Cond.instanceMethod ({ cls := "MakingHouse$Layer", name := "done", desc := "(I)V" } : Jvm.MethodName)) ∈ lw_all := lw_g (lw_at lw_m5 31 rfl) rfl
theorem q1177 : (Jvm.Cond.selects "MakingHouse$Layer" ({ cls := "MakingHouse$Layer", name := "done", desc := "(I)V" } : Jvm.MethodName) ({ cls := "MakingHouse$Layer", name := "done", desc := "(I)V" } : Jvm.MethodName)) ∈ lw_all := lw_g (lw_at lw_m5 32 rfl) rfl
theorem q1178 : (Jvm.Cond.code ({ cls := "MakingHouse$Layer", name := "done", desc := "(I)V" } : Jvm.MethodName) prog_6_method_4_code (2 : Nat) (Option.none : Option Jvm.ClassFile.FieldType)) ∈ lw_all := lw_g (lw_at lw_m5 33 rfl) rfl
theorem q1179 : (Jvm.Cond.methodLink "MakingHouse$Layer" (56 : Nat) ({ cls := "MakingHouse$Layer", name := "find", desc := "(Z)V" } : Jvm.MethodName)) ∈ lw_all := lw_g (lw_at lw_m5 34 rfl) rfl
theorem q1180 : (Jvm.Cond.privateMethod ({ cls := "MakingHouse$Layer", name := "find", desc := "(Z)V" } : Jvm.MethodName)) ∈ lw_tbl := lw_at lw_m5 35 rfl
theorem q1181 : (Jvm.Cond.instanceMethod ({ cls := "MakingHouse$Layer", name := "find", desc := "(Z)V" } : Jvm.MethodName)) ∈ lw_all := lw_g (lw_at lw_m5 36 rfl) rfl
theorem q1182 : (Jvm.Cond.code ({ cls := "MakingHouse$Layer", name := "find", desc := "(Z)V" } : Jvm.MethodName) prog_6_method_5_code (5 : Nat) (Option.none : Option Jvm.ClassFile.FieldType)) ∈ lw_all := lw_g (lw_at lw_m5 37 rfl) rfl
theorem q1183 : (Jvm.Cond.methodLink "MakingHouse$Layer" (60 : Nat) ({ cls := "MakingHouse$Layer", name := "parts", desc := "(Z)I" } : Jvm.MethodName)) ∈ lw_all := lw_g (lw_at lw_m5 38 rfl) rfl
theorem q1184 : (Jvm.Cond.privateMethod ({ cls := "MakingHouse$Layer", name := "parts", desc := "(Z)I" } : Jvm.MethodName)) ∈ lw_tbl := lw_at lw_m5 39 rfl
theorem q1185 : (Jvm.Cond.instanceMethod ({ cls := "MakingHouse$Layer", name := "parts", desc := "(Z)I" } : Jvm.MethodName)) ∈ lw_all := lw_g (lw_at lw_m5 40 rfl) rfl
theorem q1186 : (Jvm.Cond.code ({ cls := "MakingHouse$Layer", name := "parts", desc := "(Z)I" } : Jvm.MethodName) prog_6_method_7_code (6 : Nat) (Option.some Jvm.ClassFile.FieldType.int)) ∈ lw_all := lw_g (lw_at lw_m5 41 rfl) rfl
theorem q1187 : (Jvm.Cond.methodLink "MakingHouse$Layer" (77 : Nat) ({ cls := "MakingHouse$Layer", name := "join", desc := "(II)V" } : Jvm.MethodName)) ∈ lw_all := lw_g (lw_at lw_m5 42 rfl) rfl
theorem q1188 : (Jvm.Cond.privateMethod ({ cls := "MakingHouse$Layer", name := "join", desc := "(II)V" } : Jvm.MethodName)) ∈ lw_tbl := lw_at lw_m5 43 rfl
theorem q1189 : (Jvm.Cond.instanceMethod ({ cls := "MakingHouse$Layer", name := "join", desc := "(II)V" } : Jvm.MethodName)) ∈ lw_all := lw_g (lw_at lw_m5 44 rfl) rfl
theorem q1190 : (Jvm.Cond.code ({ cls := "MakingHouse$Layer", name := "join", desc := "(II)V" } : Jvm.MethodName) prog_6_method_8_code (5 : Nat) (Option.none : Option Jvm.ClassFile.FieldType)) ∈ lw_all := lw_g (lw_at lw_m5 45 rfl) rfl
theorem q1191 : (Jvm.Cond.methodLink "MakingHouse$Layer" (81 : Nat) ({ cls := "MakingHouse$Layer", name := "top", desc := "(I)I" } : Jvm.MethodName)) ∈ lw_all := lw_g (lw_at lw_m5 46 rfl) rfl
theorem q1192 : (Jvm.Cond.privateMethod ({ cls := "MakingHouse$Layer", name := "top", desc := "(I)I" } : Jvm.MethodName)) ∈ lw_tbl := lw_at lw_m5 47 rfl
theorem q1193 : (Jvm.Cond.instanceMethod ({ cls := "MakingHouse$Layer", name := "top", desc := "(I)I" } : Jvm.MethodName)) ∈ lw_all := lw_g (lw_at lw_m5 48 rfl) rfl
theorem q1194 : (Jvm.Cond.code ({ cls := "MakingHouse$Layer", name := "top", desc := "(I)I" } : Jvm.MethodName) prog_6_method_6_code (3 : Nat) (Option.some Jvm.ClassFile.FieldType.int)) ∈ lw_all := lw_g (lw_at lw_m5 49 rfl) rfl
theorem q1195 : (Jvm.Cond.methodLink "MakingHouse$Layer" (70 : Nat) ({ cls := "MakingHouse$Layer", name := "fill", desc := "(I)V" } : Jvm.MethodName)) ∈ lw_all := lw_g (lw_at lw_m5 50 rfl) rfl
theorem q1196 : (Jvm.Cond.privateMethod ({ cls := "MakingHouse$Layer", name := "fill", desc := "(I)V" } : Jvm.MethodName)) ∈ lw_tbl := lw_at lw_m5 51 rfl
theorem q1197 : (Jvm.Cond.instanceMethod ({ cls := "MakingHouse$Layer", name := "fill", desc := "(I)V" } : Jvm.MethodName)) ∈ lw_all := lw_g (lw_at lw_m5 52 rfl) rfl
theorem q1198 : (Jvm.Cond.code ({ cls := "MakingHouse$Layer", name := "fill", desc := "(I)V" } : Jvm.MethodName) prog_6_method_9_code (5 : Nat) (Option.none : Option Jvm.ClassFile.FieldType)) ∈ lw_all := lw_g (lw_at lw_m5 53 rfl) rfl
theorem q1199 : (Jvm.Cond.methodLink "MakingHouse$Layer" (91 : Nat) ({ cls := "MakingHouse$Layer", name := "lines", desc := "(I)V" } : Jvm.MethodName)) ∈ lw_all := lw_g (lw_at lw_m5 54 rfl) rfl
theorem q1200 : (Jvm.Cond.privateMethod ({ cls := "MakingHouse$Layer", name := "lines", desc := "(I)V" } : Jvm.MethodName)) ∈ lw_tbl := lw_at lw_m5 55 rfl
theorem q1201 : (Jvm.Cond.instanceMethod ({ cls := "MakingHouse$Layer", name := "lines", desc := "(I)V" } : Jvm.MethodName)) ∈ lw_all := lw_g (lw_at lw_m5 56 rfl) rfl
theorem q1202 : (Jvm.Cond.code ({ cls := "MakingHouse$Layer", name := "lines", desc := "(I)V" } : Jvm.MethodName) prog_6_method_10_code (5 : Nat) (Option.none : Option Jvm.ClassFile.FieldType)) ∈ lw_all := lw_g (lw_at lw_m5 57 rfl) rfl
theorem q2705 : (Jvm.Cond.castable "MakingHouse$Layer" "java/lang/Object") ∈ lw_tbl := lw_at lw_m11 120 rfl
theorem in_X2 : ∀ w ∈ wsX20, w ∈ lw_all := lw_in wsX20 [317, 319, 321, 323, 325, 327, 329, 331, 333, 335, 337, 339, 341, 343, 345, 347, 349, 351, 353] (by decide +kernel) (by decide +kernel)
/-! MakingHouse$Stock -/
set_option maxRecDepth 100000
def RX3 : String := "MakingHouse$Stock"
def TX3 : u_T := fun k => match k with
  | 0 => ("MakingHouse$Stock", "n", "I", false)
  | 1 => ("MakingHouse$Stock", "m", "I", false)
  | 2 => ("MakingHouse$Stock", "pitch", "I", false)
  | 3 => ("MakingHouse$Stock", "at", "I", false)
  | 4 => ("MakingHouse$Stock", "height", "[I", true)
  | 5 => ("MakingHouse$Stock", "clamp", "[I", true)
  | 6 => ("MakingHouse$Stock", "wanted", "[I", true)
  | 7 => ("MakingHouse$Stock", "clamps", "I", false)
  | 8 => ("MakingHouse$Stock", "removed", "J", false)
  | _ => ("MakingHouse$Stock", "isWanted", "Z", false)
def tyX3 : Nat → FieldType := fun k => match k with
  | 0 => .int
  | 1 => .int
  | 2 => .int
  | 3 => .int
  | 4 => .array .int
  | 5 => .array .int
  | 6 => .array .int
  | 7 => .int
  | 8 => .long
  | _ => .boolean
abbrev wsX30 : List Cond := u_ws RX3 TX3 10
theorem nmX3 : ∀ a, a < 10 → ∀ b, b < 10 → a ≠ b → (TX3 a).2.1 ≠ (TX3 b).2.1 := by decide +kernel
theorem tyX3_ok : ∀ k, k < 10 → parseFieldDescriptor (TX3 k).2.2.1 = some (tyX3 k) := by decide +kernel
abbrev cX3_init : ByteArray := prog_14_method_1_code
def yX3_init : MethodName := ⟨RX3, "<init>", "()V"⟩
abbrev cX3_begin : ByteArray := prog_14_method_2_code
def yX3_begin : MethodName := ⟨RX3, "begin", "(IIII)V"⟩
abbrev cX3_isColumn : ByteArray := prog_14_method_3_code
def yX3_isColumn : MethodName := ⟨RX3, "isColumn", "(II)Z"⟩
abbrev cX3_least : ByteArray := prog_14_method_4_code
def yX3_least : MethodName := ⟨RX3, "least", "(III)I"⟩
abbrev cX3_last : ByteArray := prog_14_method_5_code
def yX3_last : MethodName := ⟨RX3, "last", "(III)I"⟩
abbrev cX3_square : ByteArray := prog_14_method_6_code
def yX3_square : MethodName := ⟨RX3, "square", "(IIII)J"⟩
theorem q192 : (Jvm.Cond.initialized "MakingHouse$Stock") ∈ lw_all := lw_g (lw_at lw_m1 7 rfl) rfl
theorem q358 : (Jvm.Cond.instantiable "MakingHouse$Stock" (10 : Nat)) ∈ lw_all := lw_g (lw_at lw_m1 173 rfl) rfl
theorem q360 : (Jvm.Cond.instanceMethod ({ cls := "MakingHouse$Stock", name := "<init>", desc := "()V" } : Jvm.MethodName)) ∈ lw_all := lw_g (lw_at lw_m1 175 rfl) rfl
theorem q361 : (Jvm.Cond.code ({ cls := "MakingHouse$Stock", name := "<init>", desc := "()V" } : Jvm.MethodName) prog_14_method_1_code (1 : Nat) (Option.none : Option Jvm.ClassFile.FieldType)) ∈ lw_all := lw_g (lw_at lw_m1 176 rfl) rfl
theorem q362 : (Jvm.Cond.methodLink "MakingHouse$Stock" (3 : Nat) ({ cls := "java/lang/Object", name := "<init>", desc := "()V" } : Jvm.MethodName)) ∈ lw_all := lw_g (lw_at lw_m1 177 rfl) rfl
theorem q363 : (Jvm.Cond.fieldLink "MakingHouse$Stock" (21 : Nat) "MakingHouse$Stock" "n" "I") ∈ lw_all := lw_g (lw_at lw_m1 178 rfl) rfl
theorem q365 : (Jvm.Cond.fieldLink "MakingHouse$Stock" (25 : Nat) "MakingHouse$Stock" "m" "I") ∈ lw_all := lw_g (lw_at lw_m1 180 rfl) rfl
theorem q367 : (Jvm.Cond.fieldLink "MakingHouse$Stock" (28 : Nat) "MakingHouse$Stock" "pitch" "I") ∈ lw_all := lw_g (lw_at lw_m1 182 rfl) rfl
theorem q369 : (Jvm.Cond.fieldLink "MakingHouse$Stock" (31 : Nat) "MakingHouse$Stock" "at" "I") ∈ lw_all := lw_g (lw_at lw_m1 184 rfl) rfl
theorem q371 : (Jvm.Cond.fieldLink "MakingHouse$Stock" (11 : Nat) "MakingHouse$Stock" "height" "[I") ∈ lw_all := lw_g (lw_at lw_m1 186 rfl) rfl
theorem q373 : (Jvm.Cond.fieldLink "MakingHouse$Stock" (15 : Nat) "MakingHouse$Stock" "clamp" "[I") ∈ lw_all := lw_g (lw_at lw_m1 188 rfl) rfl
theorem q375 : (Jvm.Cond.fieldLink "MakingHouse$Stock" (18 : Nat) "MakingHouse$Stock" "wanted" "[I") ∈ lw_all := lw_g (lw_at lw_m1 190 rfl) rfl
theorem q377 : (Jvm.Cond.fieldLink "MakingHouse$Stock" (34 : Nat) "MakingHouse$Stock" "clamps" "I") ∈ lw_all := lw_g (lw_at lw_m1 192 rfl) rfl
theorem q379 : (Jvm.Cond.fieldLink "MakingHouse$Stock" (37 : Nat) "MakingHouse$Stock" "removed" "J") ∈ lw_all := lw_g (lw_at lw_m1 194 rfl) rfl
theorem q381 : (Jvm.Cond.fieldLink "MakingHouse$Stock" (41 : Nat) "MakingHouse$Stock" "isWanted" "Z") ∈ lw_all := lw_g (lw_at lw_m1 196 rfl) rfl
theorem q383 : (Jvm.Cond.lays "MakingHouse$Stock" "MakingHouse$Stock" "n" "I") ∈ lw_all := lw_g (lw_at lw_m1 198 rfl) rfl
theorem q384 : (Jvm.Cond.soleField "MakingHouse$Stock" "n") ∈ lw_all := lw_g (lw_at lw_m1 199 rfl) rfl
theorem q385 : (Jvm.Cond.lays "MakingHouse$Stock" "MakingHouse$Stock" "m" "I") ∈ lw_all := lw_g (lw_at lw_m1 200 rfl) rfl
theorem q386 : (Jvm.Cond.soleField "MakingHouse$Stock" "m") ∈ lw_all := lw_g (lw_at lw_m1 201 rfl) rfl
theorem q387 : (Jvm.Cond.lays "MakingHouse$Stock" "MakingHouse$Stock" "pitch" "I") ∈ lw_all := lw_g (lw_at lw_m1 202 rfl) rfl
theorem q388 : (Jvm.Cond.soleField "MakingHouse$Stock" "pitch") ∈ lw_all := lw_g (lw_at lw_m1 203 rfl) rfl
theorem q389 : (Jvm.Cond.lays "MakingHouse$Stock" "MakingHouse$Stock" "at" "I") ∈ lw_all := lw_g (lw_at lw_m1 204 rfl) rfl
theorem q390 : (Jvm.Cond.soleField "MakingHouse$Stock" "at") ∈ lw_all := lw_g (lw_at lw_m1 205 rfl) rfl
theorem q391 : (Jvm.Cond.laysFinal "MakingHouse$Stock" "MakingHouse$Stock" "height" "[I") ∈ lw_all := lw_g (lw_at lw_m1 206 rfl) rfl
theorem q392 : (Jvm.Cond.soleField "MakingHouse$Stock" "height") ∈ lw_all := lw_g (lw_at lw_m1 207 rfl) rfl
theorem q393 : (Jvm.Cond.laysFinal "MakingHouse$Stock" "MakingHouse$Stock" "clamp" "[I") ∈ lw_all := lw_g (lw_at lw_m1 208 rfl) rfl
theorem q394 : (Jvm.Cond.soleField "MakingHouse$Stock" "clamp") ∈ lw_all := lw_g (lw_at lw_m1 209 rfl) rfl
theorem q395 : (Jvm.Cond.laysFinal "MakingHouse$Stock" "MakingHouse$Stock" "wanted" "[I") ∈ lw_all := lw_g (lw_at lw_m1 210 rfl) rfl
theorem q396 : (Jvm.Cond.soleField "MakingHouse$Stock" "wanted") ∈ lw_all := lw_g (lw_at lw_m1 211 rfl) rfl
theorem q397 : (Jvm.Cond.lays "MakingHouse$Stock" "MakingHouse$Stock" "clamps" "I") ∈ lw_all := lw_g (lw_at lw_m1 212 rfl) rfl
theorem q398 : (Jvm.Cond.soleField "MakingHouse$Stock" "clamps") ∈ lw_all := lw_g (lw_at lw_m1 213 rfl) rfl
theorem q399 : (Jvm.Cond.lays "MakingHouse$Stock" "MakingHouse$Stock" "removed" "J") ∈ lw_all := lw_g (lw_at lw_m1 214 rfl) rfl
theorem q400 : (Jvm.Cond.soleField "MakingHouse$Stock" "removed") ∈ lw_all := lw_g (lw_at lw_m1 215 rfl) rfl
theorem q401 : (Jvm.Cond.lays "MakingHouse$Stock" "MakingHouse$Stock" "isWanted" "Z") ∈ lw_all := lw_g (lw_at lw_m1 216 rfl) rfl
theorem q402 : (Jvm.Cond.soleField "MakingHouse$Stock" "isWanted") ∈ lw_all := lw_g (lw_at lw_m1 217 rfl) rfl
theorem q403 : (Jvm.Cond.superclass "MakingHouse$Stock" "java/lang/Object") ∈ lw_all := lw_g (lw_at lw_m1 218 rfl) rfl
theorem q954 : (Jvm.Cond.selects "MakingHouse$Stock" ({ cls := "java/lang/Object", name := "getClass", desc := "()Ljava/lang/Class;" } : Jvm.MethodName) ({ cls := "java/lang/Object", name := "getClass", desc := "()Ljava/lang/Class;" } : Jvm.MethodName)) ∈ lw_all := lw_g (lw_at lw_m4 49 rfl) rfl
theorem q1216 : (Jvm.Cond.instanceMethod ({ cls := "MakingHouse$Stock", name := "begin", desc := "(IIII)V" } : Jvm.MethodName)) ∈ lw_all := lw_g (lw_at lw_m5 71 rfl) rfl
theorem q1217 : (Jvm.Cond.selects "MakingHouse$Stock" ({ cls := "MakingHouse$Stock", name := "begin", desc := "(IIII)V" } : Jvm.MethodName) ({ cls := "MakingHouse$Stock", name := "begin", desc := "(IIII)V" } : Jvm.MethodName)) ∈ lw_all := lw_g (lw_at lw_m5 72 rfl) rfl
theorem q1218 : (Jvm.Cond.code ({ cls := "MakingHouse$Stock", name := "begin", desc := "(IIII)V" } : Jvm.MethodName) prog_14_method_2_code (6 : Nat) (Option.none : Option Jvm.ClassFile.FieldType)) ∈ lw_all := lw_g (lw_at lw_m5 73 rfl) rfl
theorem q1224 : (Jvm.Cond.instanceMethod ({ cls := "MakingHouse$Stock", name := "isColumn", desc := "(II)Z" } : Jvm.MethodName)) ∈ lw_all := lw_g (lw_at lw_m5 79 rfl) rfl
theorem q1225 : (Jvm.Cond.selects "MakingHouse$Stock" ({ cls := "MakingHouse$Stock", name := "isColumn", desc := "(II)Z" } : Jvm.MethodName) ({ cls := "MakingHouse$Stock", name := "isColumn", desc := "(II)Z" } : Jvm.MethodName)) ∈ lw_all := lw_g (lw_at lw_m5 80 rfl) rfl
theorem q1226 : (Jvm.Cond.code ({ cls := "MakingHouse$Stock", name := "isColumn", desc := "(II)Z" } : Jvm.MethodName) prog_14_method_3_code (3 : Nat) (Option.some Jvm.ClassFile.FieldType.boolean)) ∈ lw_all := lw_g (lw_at lw_m5 81 rfl) rfl
theorem q1660 : (Jvm.Cond.instanceMethod ({ cls := "MakingHouse$Stock", name := "least", desc := "(III)I" } : Jvm.MethodName)) ∈ lw_all := lw_g (lw_at lw_m7 35 rfl) rfl
theorem q1661 : (Jvm.Cond.selects "MakingHouse$Stock" ({ cls := "MakingHouse$Stock", name := "least", desc := "(III)I" } : Jvm.MethodName) ({ cls := "MakingHouse$Stock", name := "least", desc := "(III)I" } : Jvm.MethodName)) ∈ lw_all := lw_g (lw_at lw_m7 36 rfl) rfl
theorem q1662 : (Jvm.Cond.code ({ cls := "MakingHouse$Stock", name := "least", desc := "(III)I" } : Jvm.MethodName) prog_14_method_4_code (4 : Nat) (Option.some Jvm.ClassFile.FieldType.int)) ∈ lw_all := lw_g (lw_at lw_m7 37 rfl) rfl
theorem q1663 : (Jvm.Cond.methodLinkNest "MakingHouse$Stock" (45 : Nat) ({ cls := "MakingHouse", name := "floor", desc := "(JJ)J" } : Jvm.MethodName) "MakingHouse") ∈ lw_tbl := lw_at lw_m7 38 rfl
theorem q1664 : (Jvm.Cond.methodLink "MakingHouse$Stock" (49 : Nat) ({ cls := "java/lang/Math", name := "min", desc := "(JJ)J" } : Jvm.MethodName)) ∈ lw_all := lw_g (lw_at lw_m7 39 rfl) rfl
theorem q1665 : (Jvm.Cond.methodLink "MakingHouse$Stock" (54 : Nat) ({ cls := "java/lang/Math", name := "max", desc := "(JJ)J" } : Jvm.MethodName)) ∈ lw_all := lw_g (lw_at lw_m7 40 rfl) rfl
theorem q1667 : (Jvm.Cond.instanceMethod ({ cls := "MakingHouse$Stock", name := "last", desc := "(III)I" } : Jvm.MethodName)) ∈ lw_all := lw_g (lw_at lw_m7 42 rfl) rfl
theorem q1668 : (Jvm.Cond.selects "MakingHouse$Stock" ({ cls := "MakingHouse$Stock", name := "last", desc := "(III)I" } : Jvm.MethodName) ({ cls := "MakingHouse$Stock", name := "last", desc := "(III)I" } : Jvm.MethodName)) ∈ lw_all := lw_g (lw_at lw_m7 43 rfl) rfl
theorem q1669 : (Jvm.Cond.code ({ cls := "MakingHouse$Stock", name := "last", desc := "(III)I" } : Jvm.MethodName) prog_14_method_5_code (4 : Nat) (Option.some Jvm.ClassFile.FieldType.int)) ∈ lw_all := lw_g (lw_at lw_m7 44 rfl) rfl
theorem q1671 : (Jvm.Cond.instanceMethod ({ cls := "MakingHouse$Stock", name := "square", desc := "(IIII)J" } : Jvm.MethodName)) ∈ lw_all := lw_g (lw_at lw_m7 46 rfl) rfl
theorem q1672 : (Jvm.Cond.selects "MakingHouse$Stock" ({ cls := "MakingHouse$Stock", name := "square", desc := "(IIII)J" } : Jvm.MethodName) ({ cls := "MakingHouse$Stock", name := "square", desc := "(IIII)J" } : Jvm.MethodName)) ∈ lw_all := lw_g (lw_at lw_m7 47 rfl) rfl
theorem q1673 : (Jvm.Cond.code ({ cls := "MakingHouse$Stock", name := "square", desc := "(IIII)J" } : Jvm.MethodName) prog_14_method_6_code (5 : Nat) (Option.some Jvm.ClassFile.FieldType.long)) ∈ lw_all := lw_g (lw_at lw_m7 48 rfl) rfl
theorem q1674 : (Jvm.Cond.methodLinkNest "MakingHouse$Stock" (57 : Nat) ({ cls := "MakingHouse", name := "square", desc := "(JJ)J" } : Jvm.MethodName) "MakingHouse") ∈ lw_tbl := lw_at lw_m7 49 rfl
theorem q2706 : (Jvm.Cond.castable "MakingHouse$Stock" "java/lang/Object") ∈ lw_tbl := lw_at lw_m11 121 rfl
theorem in_X3 : ∀ w ∈ wsX30, w ∈ lw_all := lw_in wsX30 [383, 385, 387, 389, 391, 393, 395, 397, 399, 401] (by decide +kernel) (by decide +kernel)
/-! MakingHouse$Trouble -/
set_option maxRecDepth 100000
def RX4 : String := "MakingHouse$Trouble"
def TX4 : u_T := fun k => match k with
  | 0 => ("MakingHouse$Trouble", "kind", "I", false)
  | 1 => ("MakingHouse$Trouble", "place", "I", false)
  | _ => ("MakingHouse$Trouble", "stop", "Ljava/lang/IllegalStateException;", true)
def tyX4 : Nat → FieldType := fun k => match k with
  | 0 => .int
  | 1 => .int
  | _ => .object "java/lang/IllegalStateException"
abbrev wsX40 : List Cond := u_ws RX4 TX4 3
theorem nmX4 : ∀ a, a < 3 → ∀ b, b < 3 → a ≠ b → (TX4 a).2.1 ≠ (TX4 b).2.1 := by decide +kernel
theorem tyX4_ok : ∀ k, k < 3 → parseFieldDescriptor (TX4 k).2.2.1 = some (tyX4 k) := by decide +kernel
abbrev cX4_init : ByteArray := prog_16_method_1_code
def yX4_init : MethodName := ⟨RX4, "<init>", "()V"⟩
abbrev cX4_at : ByteArray := prog_16_method_2_code
def yX4_at : MethodName := ⟨RX4, "at", "(II)Ljava/lang/IllegalStateException;"⟩
theorem q193 : (Jvm.Cond.initialized "MakingHouse$Trouble") ∈ lw_all := lw_g (lw_at lw_m1 8 rfl) rfl
theorem q407 : (Jvm.Cond.instantiable "MakingHouse$Trouble" (3 : Nat)) ∈ lw_all := lw_g (lw_at lw_m1 222 rfl) rfl
theorem q409 : (Jvm.Cond.instanceMethod ({ cls := "MakingHouse$Trouble", name := "<init>", desc := "()V" } : Jvm.MethodName)) ∈ lw_all := lw_g (lw_at lw_m1 224 rfl) rfl
theorem q410 : (Jvm.Cond.code ({ cls := "MakingHouse$Trouble", name := "<init>", desc := "()V" } : Jvm.MethodName) prog_16_method_1_code (1 : Nat) (Option.none : Option Jvm.ClassFile.FieldType)) ∈ lw_all := lw_g (lw_at lw_m1 225 rfl) rfl
theorem q411 : (Jvm.Cond.methodLink "MakingHouse$Trouble" (1 : Nat) ({ cls := "java/lang/Object", name := "<init>", desc := "()V" } : Jvm.MethodName)) ∈ lw_all := lw_g (lw_at lw_m1 226 rfl) rfl
theorem q412 : (Jvm.Cond.classLink "MakingHouse$Trouble" (7 : Nat) "java/lang/IllegalStateException") ∈ lw_all := lw_g (lw_at lw_m1 227 rfl) rfl
theorem q451 : (Jvm.Cond.methodLink "MakingHouse$Trouble" (9 : Nat) ({ cls := "java/lang/IllegalStateException", name := "<init>", desc := "()V" } : Jvm.MethodName)) ∈ lw_all := lw_g (lw_at lw_m2 26 rfl) rfl
theorem q474 : (Jvm.Cond.fieldLink "MakingHouse$Trouble" (16 : Nat) "MakingHouse$Trouble" "kind" "I") ∈ lw_all := lw_g (lw_at lw_m2 49 rfl) rfl
theorem q476 : (Jvm.Cond.fieldLink "MakingHouse$Trouble" (20 : Nat) "MakingHouse$Trouble" "place" "I") ∈ lw_all := lw_g (lw_at lw_m2 51 rfl) rfl
theorem q478 : (Jvm.Cond.fieldLink "MakingHouse$Trouble" (10 : Nat) "MakingHouse$Trouble" "stop" "Ljava/lang/IllegalStateException;") ∈ lw_all := lw_g (lw_at lw_m2 53 rfl) rfl
theorem q479 : (Jvm.Cond.lays "MakingHouse$Trouble" "MakingHouse$Trouble" "kind" "I") ∈ lw_all := lw_g (lw_at lw_m2 54 rfl) rfl
theorem q480 : (Jvm.Cond.soleField "MakingHouse$Trouble" "kind") ∈ lw_all := lw_g (lw_at lw_m2 55 rfl) rfl
theorem q481 : (Jvm.Cond.lays "MakingHouse$Trouble" "MakingHouse$Trouble" "place" "I") ∈ lw_all := lw_g (lw_at lw_m2 56 rfl) rfl
theorem q482 : (Jvm.Cond.soleField "MakingHouse$Trouble" "place") ∈ lw_all := lw_g (lw_at lw_m2 57 rfl) rfl
theorem q483 : (Jvm.Cond.laysFinal "MakingHouse$Trouble" "MakingHouse$Trouble" "stop" "Ljava/lang/IllegalStateException;") ∈ lw_all := lw_g (lw_at lw_m2 58 rfl) rfl
theorem q484 : (Jvm.Cond.soleField "MakingHouse$Trouble" "stop") ∈ lw_all := lw_g (lw_at lw_m2 59 rfl) rfl
theorem q485 : (Jvm.Cond.superclass "MakingHouse$Trouble" "java/lang/Object") ∈ lw_all := lw_g (lw_at lw_m2 60 rfl) rfl
theorem q956 : (Jvm.Cond.selects "MakingHouse$Trouble" ({ cls := "java/lang/Object", name := "getClass", desc := "()Ljava/lang/Class;" } : Jvm.MethodName) ({ cls := "java/lang/Object", name := "getClass", desc := "()Ljava/lang/Class;" } : Jvm.MethodName)) ∈ lw_all := lw_g (lw_at lw_m4 51 rfl) rfl
theorem q1316 : (Jvm.Cond.instanceMethod ({ cls := "MakingHouse$Trouble", name := "at", desc := "(II)Ljava/lang/IllegalStateException;" } : Jvm.MethodName)) ∈ lw_all := lw_g (lw_at lw_m5 171 rfl) rfl
theorem q1317 : (Jvm.Cond.selects "MakingHouse$Trouble" ({ cls := "MakingHouse$Trouble", name := "at", desc := "(II)Ljava/lang/IllegalStateException;" } : Jvm.MethodName) ({ cls := "MakingHouse$Trouble", name := "at", desc := "(II)Ljava/lang/IllegalStateException;" } : Jvm.MethodName)) ∈ lw_all := lw_g (lw_at lw_m5 172 rfl) rfl
theorem q1318 : (Jvm.Cond.code ({ cls := "MakingHouse$Trouble", name := "at", desc := "(II)Ljava/lang/IllegalStateException;" } : Jvm.MethodName) prog_16_method_2_code (3 : Nat) (Option.some (Jvm.ClassFile.FieldType.object "java/lang/IllegalStateException"))) ∈ lw_all := lw_g (lw_at lw_m5 173 rfl) rfl
theorem q2707 : (Jvm.Cond.castable "MakingHouse$Trouble" "java/lang/Object") ∈ lw_tbl := lw_at lw_m11 122 rfl
theorem in_X4 : ∀ w ∈ wsX40, w ∈ lw_all := lw_in wsX40 [479, 481, 483] (by decide +kernel) (by decide +kernel)
/-! java/lang/Throwable -/
set_option maxRecDepth 100000
def RJ3 : String := "java/lang/Throwable"
def TJ3 : u_T := fun k => match k with
  | 0 => ("java/lang/Throwable", "cause", "Ljava/lang/Throwable;", false)
  | 1 => ("java/lang/Throwable", "stackTrace", "[Ljava/lang/StackTraceElement;", false)
  | 2 => ("java/lang/Throwable", "suppressedExceptions", "Ljava/util/List;", false)
  | 3 => ("java/lang/Throwable", "detailMessage", "Ljava/lang/String;", false)
  | _ => ("java/lang/Throwable", "backtrace", "Ljava/lang/Object;", false)
def tyJ3 : Nat → FieldType := fun k => match k with
  | 0 => .object "java/lang/Throwable"
  | 1 => .array (.object "java/lang/StackTraceElement")
  | 2 => .object "java/util/List"
  | 3 => .object "java/lang/String"
  | _ => .object "java/lang/Object"
abbrev wsJ30 : List Cond := u_ws RJ3 TJ3 5
theorem nmJ3 : ∀ a, a < 5 → ∀ b, b < 5 → a ≠ b → (TJ3 a).2.1 ≠ (TJ3 b).2.1 := by decide +kernel
theorem tyJ3_ok : ∀ k, k < 5 → parseFieldDescriptor (TJ3 k).2.2.1 = some (tyJ3 k) := by decide +kernel
abbrev cJ3_init : ByteArray := prog_32_method_1_code
def yJ3_init : MethodName := ⟨RJ3, "<init>", "()V"⟩
theorem q194 : (Jvm.Cond.initialized "java/lang/Throwable") ∈ lw_all := lw_g (lw_at lw_m1 9 rfl) rfl
theorem q419 : (Jvm.Cond.declares ({ cls := "java/lang/Throwable", name := "<init>", desc := "()V" } : Jvm.MethodName)) ∈ lw_tbl := lw_at lw_m1 234 rfl
theorem q420 : (Jvm.Cond.declares ({ cls := "java/lang/Throwable", name := "<init>", desc := "(Ljava/lang/String;)V" } : Jvm.MethodName)) ∈ lw_tbl := lw_at lw_m1 235 rfl
theorem q424 : (Jvm.Cond.lays "java/lang/Throwable" "java/lang/Throwable" "cause" "Ljava/lang/Throwable;") ∈ lw_all := lw_g (lw_at lw_m1 239 rfl) rfl
theorem q426 : (Jvm.Cond.lays "java/lang/Throwable" "java/lang/Throwable" "stackTrace" "[Ljava/lang/StackTraceElement;") ∈ lw_all := lw_g (lw_at lw_m2 1 rfl) rfl
theorem q428 : (Jvm.Cond.lays "java/lang/Throwable" "java/lang/Throwable" "suppressedExceptions" "Ljava/util/List;") ∈ lw_all := lw_g (lw_at lw_m2 3 rfl) rfl
theorem q430 : (Jvm.Cond.lays "java/lang/Throwable" "java/lang/Throwable" "detailMessage" "Ljava/lang/String;") ∈ lw_all := lw_g (lw_at lw_m2 5 rfl) rfl
theorem q432 : (Jvm.Cond.lays "java/lang/Throwable" "java/lang/Throwable" "backtrace" "Ljava/lang/Object;") ∈ lw_all := lw_g (lw_at lw_m2 7 rfl) rfl
theorem q433 : (Jvm.Cond.fieldLink "java/lang/Throwable" (198 : Nat) "java/lang/Throwable" "backtrace" "Ljava/lang/Object;") ∈ lw_all := lw_g (lw_at lw_m2 8 rfl) rfl
theorem q434 : (Jvm.Cond.superclass "java/lang/Throwable" "java/lang/Object") ∈ lw_all := lw_g (lw_at lw_m2 9 rfl) rfl
theorem q435 : (Jvm.Cond.instanceMethod ({ cls := "java/lang/Throwable", name := "<init>", desc := "()V" } : Jvm.MethodName)) ∈ lw_all := lw_g (lw_at lw_m2 10 rfl) rfl
theorem q436 : (Jvm.Cond.code ({ cls := "java/lang/Throwable", name := "<init>", desc := "()V" } : Jvm.MethodName) prog_32_method_1_code (1 : Nat) (Option.none : Option Jvm.ClassFile.FieldType)) ∈ lw_all := lw_g (lw_at lw_m2 11 rfl) rfl
theorem q437 : (Jvm.Cond.methodLink "java/lang/Throwable" (1 : Nat) ({ cls := "java/lang/Object", name := "<init>", desc := "()V" } : Jvm.MethodName)) ∈ lw_all := lw_g (lw_at lw_m2 12 rfl) rfl
theorem q438 : (Jvm.Cond.fieldLink "java/lang/Throwable" (13 : Nat) "java/lang/Throwable" "UNASSIGNED_STACK" "[Ljava/lang/StackTraceElement;") ∈ lw_all := lw_g (lw_at lw_m2 13 rfl) rfl
theorem q439 : (Jvm.Cond.laysStatic "java/lang/Throwable" "UNASSIGNED_STACK" "[Ljava/lang/StackTraceElement;") ∈ lw_tbl := lw_at lw_m2 14 rfl
theorem q440 : (Jvm.Cond.fieldLink "java/lang/Throwable" (20 : Nat) "java/lang/Throwable" "SUPPRESSED_SENTINEL" "Ljava/util/List;") ∈ lw_all := lw_g (lw_at lw_m2 15 rfl) rfl
theorem q441 : (Jvm.Cond.laysStatic "java/lang/Throwable" "SUPPRESSED_SENTINEL" "Ljava/util/List;") ∈ lw_tbl := lw_at lw_m2 16 rfl
theorem q442 : (Jvm.Cond.methodLink "java/lang/Throwable" (27 : Nat) ({ cls := "java/lang/Throwable", name := "fillInStackTrace", desc := "()Ljava/lang/Throwable;" } : Jvm.MethodName)) ∈ lw_all := lw_g (lw_at lw_m2 17 rfl) rfl
theorem q443 : (Jvm.Cond.instanceMethod ({ cls := "java/lang/Throwable", name := "fillInStackTrace", desc := "()Ljava/lang/Throwable;" } : Jvm.MethodName)) ∈ lw_all := lw_g (lw_at lw_m2 18 rfl) rfl
theorem q444 : (Jvm.Cond.sameMethod "java/lang/Throwable" "java/lang/Throwable" "fillInStackTrace" "()Ljava/lang/Throwable;") ∈ lw_all := lw_g (lw_at lw_m2 19 rfl) rfl
theorem q445 : (Jvm.Cond.codeSync ({ cls := "java/lang/Throwable", name := "fillInStackTrace", desc := "()Ljava/lang/Throwable;" } : Jvm.MethodName) prog_32_method_18_code (1 : Nat) (Option.some (Jvm.ClassFile.FieldType.object "java/lang/Throwable"))) ∈ lw_all := lw_g (lw_at lw_m2 20 rfl) rfl
theorem q446 : (Jvm.Cond.methodLink "java/lang/Throwable" (202 : Nat) ({ cls := "java/lang/Throwable", name := "fillInStackTrace", desc := "(I)Ljava/lang/Throwable;" } : Jvm.MethodName)) ∈ lw_all := lw_g (lw_at lw_m2 21 rfl) rfl
theorem q447 : (Jvm.Cond.privateMethod ({ cls := "java/lang/Throwable", name := "fillInStackTrace", desc := "(I)Ljava/lang/Throwable;" } : Jvm.MethodName)) ∈ lw_tbl := lw_at lw_m2 22 rfl
theorem q448 : (Jvm.Cond.instanceMethod ({ cls := "java/lang/Throwable", name := "fillInStackTrace", desc := "(I)Ljava/lang/Throwable;" } : Jvm.MethodName)) ∈ lw_all := lw_g (lw_at lw_m2 23 rfl) rfl
theorem q449 : (Jvm.Cond.instantiable "java/lang/Throwable" (6 : Nat)) ∈ lw_all := lw_g (lw_at lw_m2 24 rfl) rfl
theorem q450 : (Jvm.Cond.native ({ cls := "java/lang/Throwable", name := "fillInStackTrace", desc := "(I)Ljava/lang/Throwable;" } : Jvm.MethodName)) ∈ lw_all := lw_g (lw_at lw_m2 25 rfl) rfl
theorem q461 : (Jvm.Cond.fieldLink "java/lang/Throwable" (198 : Nat) "java/lang/Throwable" "backtrace" "Ljava/lang/Object;") ∈ lw_all := lw_g (lw_at lw_m2 36 rfl) rfl
theorem q462 : (Jvm.Cond.fieldLink "java/lang/Throwable" (7 : Nat) "java/lang/Throwable" "cause" "Ljava/lang/Throwable;") ∈ lw_all := lw_g (lw_at lw_m2 37 rfl) rfl
theorem q463 : (Jvm.Cond.fieldLink "java/lang/Throwable" (17 : Nat) "java/lang/Throwable" "stackTrace" "[Ljava/lang/StackTraceElement;") ∈ lw_all := lw_g (lw_at lw_m2 38 rfl) rfl
theorem q464 : (Jvm.Cond.fieldLink "java/lang/Throwable" (24 : Nat) "java/lang/Throwable" "suppressedExceptions" "Ljava/util/List;") ∈ lw_all := lw_g (lw_at lw_m2 39 rfl) rfl
theorem q465 : (Jvm.Cond.soleField "java/lang/Throwable" "backtrace") ∈ lw_all := lw_g (lw_at lw_m2 40 rfl) rfl
theorem q466 : (Jvm.Cond.soleField "java/lang/Throwable" "detailMessage") ∈ lw_all := lw_g (lw_at lw_m2 41 rfl) rfl
theorem q467 : (Jvm.Cond.soleField "java/lang/Throwable" "cause") ∈ lw_all := lw_g (lw_at lw_m2 42 rfl) rfl
theorem q468 : (Jvm.Cond.soleField "java/lang/Throwable" "stackTrace") ∈ lw_all := lw_g (lw_at lw_m2 43 rfl) rfl
theorem q470 : (Jvm.Cond.soleField "java/lang/Throwable" "depth") ∈ lw_all := lw_g (lw_at lw_m2 45 rfl) rfl
theorem q471 : (Jvm.Cond.soleField "java/lang/Throwable" "suppressedExceptions") ∈ lw_all := lw_g (lw_at lw_m2 46 rfl) rfl
theorem q2693 : (Jvm.Cond.sameMethod "java/lang/Throwable" "java/lang/Throwable" "fillInStackTrace" "(I)Ljava/lang/Throwable;") ∈ lw_all := lw_g (lw_at lw_m11 108 rfl) rfl
theorem q2721 : (Jvm.Cond.castable "java/lang/Throwable" "java/lang/Object") ∈ lw_tbl := lw_at lw_m11 136 rfl
theorem in_J3 : ∀ w ∈ wsJ30, w ∈ lw_all := lw_in wsJ30 [424, 426, 428, 430, 432] (by decide +kernel) (by decide +kernel)
/-! java/lang/Exception -/
set_option maxRecDepth 100000
def RJ4 : String := "java/lang/Exception"
abbrev cJ4_init : ByteArray := prog_23_method_1_code
def yJ4_init : MethodName := ⟨RJ4, "<init>", "()V"⟩
theorem q195 : (Jvm.Cond.initialized "java/lang/Exception") ∈ lw_all := lw_g (lw_at lw_m1 10 rfl) rfl
theorem q417 : (Jvm.Cond.declares ({ cls := "java/lang/Exception", name := "<init>", desc := "()V" } : Jvm.MethodName)) ∈ lw_tbl := lw_at lw_m1 232 rfl
theorem q418 : (Jvm.Cond.declares ({ cls := "java/lang/Exception", name := "<init>", desc := "(Ljava/lang/String;)V" } : Jvm.MethodName)) ∈ lw_tbl := lw_at lw_m1 233 rfl
theorem q458 : (Jvm.Cond.instanceMethod ({ cls := "java/lang/Exception", name := "<init>", desc := "()V" } : Jvm.MethodName)) ∈ lw_all := lw_g (lw_at lw_m2 33 rfl) rfl
theorem q459 : (Jvm.Cond.code ({ cls := "java/lang/Exception", name := "<init>", desc := "()V" } : Jvm.MethodName) prog_23_method_1_code (1 : Nat) (Option.none : Option Jvm.ClassFile.FieldType)) ∈ lw_all := lw_g (lw_at lw_m2 34 rfl) rfl
theorem q460 : (Jvm.Cond.methodLink "java/lang/Exception" (1 : Nat) ({ cls := "java/lang/Throwable", name := "<init>", desc := "()V" } : Jvm.MethodName)) ∈ lw_all := lw_g (lw_at lw_m2 35 rfl) rfl
/-! java/lang/RuntimeException -/
set_option maxRecDepth 100000
def RJ5 : String := "java/lang/RuntimeException"
abbrev cJ5_init : ByteArray := prog_27_method_1_code
def yJ5_init : MethodName := ⟨RJ5, "<init>", "()V"⟩
theorem q196 : (Jvm.Cond.initialized "java/lang/RuntimeException") ∈ lw_all := lw_g (lw_at lw_m1 11 rfl) rfl
theorem q415 : (Jvm.Cond.declares ({ cls := "java/lang/RuntimeException", name := "<init>", desc := "()V" } : Jvm.MethodName)) ∈ lw_tbl := lw_at lw_m1 230 rfl
theorem q416 : (Jvm.Cond.declares ({ cls := "java/lang/RuntimeException", name := "<init>", desc := "(Ljava/lang/String;)V" } : Jvm.MethodName)) ∈ lw_tbl := lw_at lw_m1 231 rfl
theorem q455 : (Jvm.Cond.instanceMethod ({ cls := "java/lang/RuntimeException", name := "<init>", desc := "()V" } : Jvm.MethodName)) ∈ lw_all := lw_g (lw_at lw_m2 30 rfl) rfl
theorem q456 : (Jvm.Cond.code ({ cls := "java/lang/RuntimeException", name := "<init>", desc := "()V" } : Jvm.MethodName) prog_27_method_1_code (1 : Nat) (Option.none : Option Jvm.ClassFile.FieldType)) ∈ lw_all := lw_g (lw_at lw_m2 31 rfl) rfl
theorem q457 : (Jvm.Cond.methodLink "java/lang/RuntimeException" (1 : Nat) ({ cls := "java/lang/Exception", name := "<init>", desc := "()V" } : Jvm.MethodName)) ∈ lw_all := lw_g (lw_at lw_m2 32 rfl) rfl
/-! java/lang/IllegalStateException -/
set_option maxRecDepth 100000
def RJ6 : String := "java/lang/IllegalStateException"
def TJ6 : u_T := fun k => match k with
  | 0 => ("java/lang/Throwable", "cause", "Ljava/lang/Throwable;", false)
  | 1 => ("java/lang/Throwable", "stackTrace", "[Ljava/lang/StackTraceElement;", false)
  | 2 => ("java/lang/Throwable", "suppressedExceptions", "Ljava/util/List;", false)
  | 3 => ("java/lang/Throwable", "detailMessage", "Ljava/lang/String;", false)
  | 4 => ("java/lang/Throwable", "backtrace", "Ljava/lang/Object;", false)
  | _ => ("java/lang/Throwable", "depth", "I", false)
def tyJ6 : Nat → FieldType := fun k => match k with
  | 0 => .object "java/lang/Throwable"
  | 1 => .array (.object "java/lang/StackTraceElement")
  | 2 => .object "java/util/List"
  | 3 => .object "java/lang/String"
  | 4 => .object "java/lang/Object"
  | _ => .int
abbrev wsJ60 : List Cond := u_ws RJ6 TJ6 6
theorem nmJ6 : ∀ a, a < 6 → ∀ b, b < 6 → a ≠ b → (TJ6 a).2.1 ≠ (TJ6 b).2.1 := by decide +kernel
theorem tyJ6_ok : ∀ k, k < 6 → parseFieldDescriptor (TJ6 k).2.2.1 = some (tyJ6 k) := by decide +kernel
abbrev cJ6_init : ByteArray := prog_24_method_1_code
def yJ6_init : MethodName := ⟨RJ6, "<init>", "()V"⟩
theorem q197 : (Jvm.Cond.initialized "java/lang/IllegalStateException") ∈ lw_all := lw_g (lw_at lw_m1 12 rfl) rfl
theorem q413 : (Jvm.Cond.instantiable "java/lang/IllegalStateException" (6 : Nat)) ∈ lw_all := lw_g (lw_at lw_m1 228 rfl) rfl
theorem q414 : (Jvm.Cond.castable "java/lang/IllegalStateException" "java/lang/IllegalStateException") ∈ lw_tbl := lw_at lw_m1 229 rfl
theorem q421 : (Jvm.Cond.selects "java/lang/IllegalStateException" ({ cls := "java/lang/Throwable", name := "fillInStackTrace", desc := "(I)Ljava/lang/Throwable;" } : Jvm.MethodName) ({ cls := "java/lang/Throwable", name := "fillInStackTrace", desc := "(I)Ljava/lang/Throwable;" } : Jvm.MethodName)) ∈ lw_all := lw_g (lw_at lw_m1 236 rfl) rfl
theorem q422 : (Jvm.Cond.selects "java/lang/IllegalStateException" ({ cls := "java/lang/Throwable", name := "fillInStackTrace", desc := "()Ljava/lang/Throwable;" } : Jvm.MethodName) ({ cls := "java/lang/Throwable", name := "fillInStackTrace", desc := "()Ljava/lang/Throwable;" } : Jvm.MethodName)) ∈ lw_all := lw_g (lw_at lw_m1 237 rfl) rfl
theorem q423 : (Jvm.Cond.lays "java/lang/IllegalStateException" "java/lang/Throwable" "cause" "Ljava/lang/Throwable;") ∈ lw_all := lw_g (lw_at lw_m1 238 rfl) rfl
theorem q425 : (Jvm.Cond.lays "java/lang/IllegalStateException" "java/lang/Throwable" "stackTrace" "[Ljava/lang/StackTraceElement;") ∈ lw_all := lw_g (lw_at lw_m2 0 rfl) rfl
theorem q427 : (Jvm.Cond.lays "java/lang/IllegalStateException" "java/lang/Throwable" "suppressedExceptions" "Ljava/util/List;") ∈ lw_all := lw_g (lw_at lw_m2 2 rfl) rfl
theorem q429 : (Jvm.Cond.lays "java/lang/IllegalStateException" "java/lang/Throwable" "detailMessage" "Ljava/lang/String;") ∈ lw_all := lw_g (lw_at lw_m2 4 rfl) rfl
theorem q431 : (Jvm.Cond.lays "java/lang/IllegalStateException" "java/lang/Throwable" "backtrace" "Ljava/lang/Object;") ∈ lw_all := lw_g (lw_at lw_m2 6 rfl) rfl
theorem q452 : (Jvm.Cond.instanceMethod ({ cls := "java/lang/IllegalStateException", name := "<init>", desc := "()V" } : Jvm.MethodName)) ∈ lw_all := lw_g (lw_at lw_m2 27 rfl) rfl
theorem q453 : (Jvm.Cond.code ({ cls := "java/lang/IllegalStateException", name := "<init>", desc := "()V" } : Jvm.MethodName) prog_24_method_1_code (1 : Nat) (Option.none : Option Jvm.ClassFile.FieldType)) ∈ lw_all := lw_g (lw_at lw_m2 28 rfl) rfl
theorem q454 : (Jvm.Cond.methodLink "java/lang/IllegalStateException" (1 : Nat) ({ cls := "java/lang/RuntimeException", name := "<init>", desc := "()V" } : Jvm.MethodName)) ∈ lw_all := lw_g (lw_at lw_m2 29 rfl) rfl
theorem q469 : (Jvm.Cond.lays "java/lang/IllegalStateException" "java/lang/Throwable" "depth" "I") ∈ lw_all := lw_g (lw_at lw_m2 44 rfl) rfl
theorem q472 : (Jvm.Cond.superclass "java/lang/IllegalStateException" "java/lang/RuntimeException") ∈ lw_all := lw_g (lw_at lw_m2 47 rfl) rfl
theorem q960 : (Jvm.Cond.selects "java/lang/IllegalStateException" ({ cls := "java/lang/Object", name := "getClass", desc := "()Ljava/lang/Class;" } : Jvm.MethodName) ({ cls := "java/lang/Object", name := "getClass", desc := "()Ljava/lang/Class;" } : Jvm.MethodName)) ∈ lw_all := lw_g (lw_at lw_m4 55 rfl) rfl
theorem q2708 : (Jvm.Cond.castable "java/lang/IllegalStateException" "java/lang/Object") ∈ lw_tbl := lw_at lw_m11 123 rfl
theorem in_J6 : ∀ w ∈ wsJ60, w ∈ lw_all := lw_in wsJ60 [423, 425, 427, 429, 431, 469] (by decide +kernel) (by decide +kernel)
/-! MakingHouse$Reader -/
set_option maxRecDepth 100000
def RX5 : String := "MakingHouse$Reader"
def TX5 : u_T := fun k => match k with
  | 0 => ("MakingHouse$Reader", "trouble", "LMakingHouse$Trouble;", true)
  | 1 => ("MakingHouse$Reader", "text", "[B", true)
  | 2 => ("MakingHouse$Reader", "size", "I", false)
  | 3 => ("MakingHouse$Reader", "p", "LMakingHouse$Program;", false)
  | 4 => ("MakingHouse$Reader", "at", "I", false)
  | 5 => ("MakingHouse$Reader", "kind", "I", false)
  | 6 => ("MakingHouse$Reader", "from", "I", false)
  | 7 => ("MakingHouse$Reader", "sign", "I", false)
  | 8 => ("MakingHouse$Reader", "word", "I", false)
  | 9 => ("MakingHouse$Reader", "deep", "I", false)
  | 10 => ("MakingHouse$Reader", "thousandths", "I", false)
  | 11 => ("MakingHouse$Reader", "isWhole", "Z", false)
  | 12 => ("MakingHouse$Reader", "whole", "I", false)
  | 13 => ("MakingHouse$Reader", "numbered", "LMakingHouse$Row;", true)
  | _ => ("MakingHouse$Reader", "open", "[I", true)
def tyX5 : Nat → FieldType := fun k => match k with
  | 0 => .object "MakingHouse$Trouble"
  | 1 => .array .byte
  | 2 => .int
  | 3 => .object "MakingHouse$Program"
  | 4 => .int
  | 5 => .int
  | 6 => .int
  | 7 => .int
  | 8 => .int
  | 9 => .int
  | 10 => .int
  | 11 => .boolean
  | 12 => .int
  | 13 => .object "MakingHouse$Row"
  | _ => .array .int
abbrev wsX50 : List Cond := u_ws RX5 TX5 15
set_option maxRecDepth 100000 in
theorem nmX5 : ∀ a, a < 15 → ∀ b, b < 15 → a ≠ b → (TX5 a).2.1 ≠ (TX5 b).2.1 := by decide +kernel
set_option maxRecDepth 100000 in
theorem tyX5_ok : ∀ k, k < 15 → parseFieldDescriptor (TX5 k).2.2.1 = some (tyX5 k) := by decide +kernel
abbrev cX5_init : ByteArray := prog_10_method_1_code
def yX5_init : MethodName := ⟨RX5, "<init>", "(LMakingHouse$Trouble;)V"⟩
abbrev cX5_read : ByteArray := prog_10_method_3_code
def yX5_read : MethodName := ⟨RX5, "read", "(LMakingHouse$Program;)V"⟩
abbrev cX5_lines : ByteArray := prog_10_method_4_code
def yX5_lines : MethodName := ⟨RX5, "lines", "()V"⟩
abbrev cX5_next : ByteArray := prog_10_method_6_code
def yX5_next : MethodName := ⟨RX5, "next", "()V"⟩
abbrev cX5_code : ByteArray := prog_10_method_5_code
def yX5_code : MethodName := ⟨RX5, "code", "(I)I"⟩
abbrev cX5_comment : ByteArray := prog_10_method_7_code
def yX5_comment : MethodName := ⟨RX5, "comment", "()Z"⟩
abbrev cX5_number : ByteArray := prog_10_method_9_code
def yX5_number : MethodName := ⟨RX5, "number", "()V"⟩
abbrev cX5_isDigit : ByteArray := prog_10_method_8_code
def yX5_isDigit : MethodName := ⟨RX5, "isDigit", "(I)Z"⟩
abbrev cX5_letters : ByteArray := prog_10_method_10_code
def yX5_letters : MethodName := ⟨RX5, "letters", "()V"⟩
abbrev cX5_line : ByteArray := prog_10_method_18_code
def yX5_line : MethodName := ⟨RX5, "line", "(I)V"⟩
abbrev cX5_add : ByteArray := prog_10_method_16_code
def yX5_add : MethodName := ⟨RX5, "add", "(II)V"⟩
abbrev cX5_wholeNumber : ByteArray := prog_10_method_15_code
def yX5_wholeNumber : MethodName := ⟨RX5, "wholeNumber", "()I"⟩
abbrev cX5_wrong : ByteArray := prog_10_method_2_code
def yX5_wrong : MethodName := ⟨RX5, "wrong", "()Ljava/lang/IllegalStateException;"⟩
abbrev cX5_tell : ByteArray := prog_10_method_17_code
def yX5_tell : MethodName := ⟨RX5, "tell", "(II)V"⟩
abbrev cX5_flow : ByteArray := prog_10_method_19_code
def yX5_flow : MethodName := ⟨RX5, "flow", "(I)V"⟩
abbrev cX5_bracket : ByteArray := prog_10_method_24_code
def yX5_bracket : MethodName := ⟨RX5, "bracket", "()V"⟩
abbrev cX5_isSign : ByteArray := prog_10_method_11_code
def yX5_isSign : MethodName := ⟨RX5, "isSign", "(I)Z"⟩
abbrev cX5_deeper : ByteArray := prog_10_method_23_code
def yX5_deeper : MethodName := ⟨RX5, "deeper", "()V"⟩
abbrev cX5_test : ByteArray := prog_10_method_25_code
def yX5_test : MethodName := ⟨RX5, "test", "()V"⟩
abbrev cX5_sum : ByteArray := prog_10_method_26_code
def yX5_sum : MethodName := ⟨RX5, "sum", "()V"⟩
abbrev cX5_product : ByteArray := prog_10_method_27_code
def yX5_product : MethodName := ⟨RX5, "product", "()V"⟩
abbrev cX5_factor : ByteArray := prog_10_method_28_code
def yX5_factor : MethodName := ⟨RX5, "factor", "()V"⟩
abbrev cX5_item : ByteArray := prog_10_method_29_code
def yX5_item : MethodName := ⟨RX5, "item", "()V"⟩
abbrev cX5_constant : ByteArray := prog_10_method_30_code
def yX5_constant : MethodName := ⟨RX5, "constant", "(I)V"⟩
abbrev cX5_place : ByteArray := prog_10_method_31_code
def yX5_place : MethodName := ⟨RX5, "place", "()V"⟩
abbrev cX5_isWord : ByteArray := prog_10_method_12_code
def yX5_isWord : MethodName := ⟨RX5, "isWord", "(I)Z"⟩
abbrev cX5_expect : ByteArray := prog_10_method_13_code
def yX5_expect : MethodName := ⟨RX5, "expect", "(I)V"⟩
abbrev cX5_ended : ByteArray := prog_10_method_22_code
def yX5_ended : MethodName := ⟨RX5, "ended", "()V"⟩
abbrev cX5_expectWord : ByteArray := prog_10_method_14_code
def yX5_expectWord : MethodName := ⟨RX5, "expectWord", "(I)V"⟩
abbrev cX5_words : ByteArray := prog_10_method_21_code
def yX5_words : MethodName := ⟨RX5, "words", "(I)V"⟩
abbrev cX5_isValued : ByteArray := prog_10_method_20_code
def yX5_isValued : MethodName := ⟨RX5, "isValued", "(I)Z"⟩
abbrev cX5_meaning : ByteArray := prog_10_method_33_code
def yX5_meaning : MethodName := ⟨RX5, "meaning", "()V"⟩
abbrev cX5_must : ByteArray := prog_10_method_32_code
def yX5_must : MethodName := ⟨RX5, "must", "(ZI)V"⟩
abbrev cX5_find : ByteArray := prog_10_method_35_code
def yX5_find : MethodName := ⟨RX5, "find", "(II)I"⟩
abbrev cX5_numberPlace : ByteArray := prog_10_method_34_code
def yX5_numberPlace : MethodName := ⟨RX5, "numberPlace", "(I)I"⟩
abbrev cX5_letters_2 : ByteArray := prog_10_method_36_code
def yX5_letters_2 : MethodName := ⟨RX5, "letters", "(I)V"⟩
theorem q198 : (Jvm.Cond.initialized "MakingHouse$Reader") ∈ lw_all := lw_g (lw_at lw_m1 13 rfl) rfl
theorem q487 : (Jvm.Cond.instantiable "MakingHouse$Reader" (15 : Nat)) ∈ lw_all := lw_g (lw_at lw_m2 62 rfl) rfl
theorem q489 : (Jvm.Cond.instanceMethod ({ cls := "MakingHouse$Reader", name := "<init>", desc := "(LMakingHouse$Trouble;)V" } : Jvm.MethodName)) ∈ lw_all := lw_g (lw_at lw_m2 64 rfl) rfl
theorem q490 : (Jvm.Cond.code ({ cls := "MakingHouse$Reader", name := "<init>", desc := "(LMakingHouse$Trouble;)V" } : Jvm.MethodName) prog_10_method_1_code (2 : Nat) (Option.none : Option Jvm.ClassFile.FieldType)) ∈ lw_all := lw_g (lw_at lw_m2 65 rfl) rfl
theorem q491 : (Jvm.Cond.methodLink "MakingHouse$Reader" (3 : Nat) ({ cls := "java/lang/Object", name := "<init>", desc := "()V" } : Jvm.MethodName)) ∈ lw_all := lw_g (lw_at lw_m2 66 rfl) rfl
theorem q492 : (Jvm.Cond.classLink "MakingHouse$Reader" (15 : Nat) "MakingHouse$Row") ∈ lw_all := lw_g (lw_at lw_m2 67 rfl) rfl
theorem q494 : (Jvm.Cond.methodLinkNest "MakingHouse$Reader" (17 : Nat) ({ cls := "MakingHouse$Row", name := "<init>", desc := "()V" } : Jvm.MethodName) "MakingHouse") ∈ lw_tbl := lw_at lw_m2 69 rfl
theorem q499 : (Jvm.Cond.fieldLink "MakingHouse$Reader" (73 : Nat) "MakingHouse$Row" "v" "[I") ∈ lw_all := lw_g (lw_at lw_m2 74 rfl) rfl
theorem q503 : (Jvm.Cond.fieldLink "MakingHouse$Reader" (49 : Nat) "MakingHouse$Row" "n" "I") ∈ lw_all := lw_g (lw_at lw_m2 78 rfl) rfl
theorem q509 : (Jvm.Cond.fieldLink "MakingHouse$Reader" (26 : Nat) "MakingHouse$Reader" "trouble" "LMakingHouse$Trouble;") ∈ lw_all := lw_g (lw_at lw_m2 84 rfl) rfl
theorem q510 : (Jvm.Cond.fieldLink "MakingHouse$Reader" (9 : Nat) "MakingHouse$Reader" "text" "[B") ∈ lw_all := lw_g (lw_at lw_m2 85 rfl) rfl
theorem q512 : (Jvm.Cond.fieldLink "MakingHouse$Reader" (60 : Nat) "MakingHouse$Reader" "size" "I") ∈ lw_all := lw_g (lw_at lw_m2 87 rfl) rfl
theorem q514 : (Jvm.Cond.fieldLink "MakingHouse$Reader" (40 : Nat) "MakingHouse$Reader" "p" "LMakingHouse$Program;") ∈ lw_all := lw_g (lw_at lw_m2 89 rfl) rfl
theorem q515 : (Jvm.Cond.fieldLink "MakingHouse$Reader" (58 : Nat) "MakingHouse$Reader" "at" "I") ∈ lw_all := lw_g (lw_at lw_m2 90 rfl) rfl
theorem q516 : (Jvm.Cond.fieldLink "MakingHouse$Reader" (82 : Nat) "MakingHouse$Reader" "kind" "I") ∈ lw_all := lw_g (lw_at lw_m2 91 rfl) rfl
theorem q517 : (Jvm.Cond.fieldLink "MakingHouse$Reader" (30 : Nat) "MakingHouse$Reader" "from" "I") ∈ lw_all := lw_g (lw_at lw_m2 92 rfl) rfl
theorem q518 : (Jvm.Cond.fieldLink "MakingHouse$Reader" (102 : Nat) "MakingHouse$Reader" "sign" "I") ∈ lw_all := lw_g (lw_at lw_m2 93 rfl) rfl
theorem q519 : (Jvm.Cond.fieldLink "MakingHouse$Reader" (130 : Nat) "MakingHouse$Reader" "word" "I") ∈ lw_all := lw_g (lw_at lw_m2 94 rfl) rfl
theorem q520 : (Jvm.Cond.fieldLink "MakingHouse$Reader" (156 : Nat) "MakingHouse$Reader" "deep" "I") ∈ lw_all := lw_g (lw_at lw_m2 95 rfl) rfl
theorem q521 : (Jvm.Cond.fieldLink "MakingHouse$Reader" (116 : Nat) "MakingHouse$Reader" "thousandths" "I") ∈ lw_all := lw_g (lw_at lw_m2 96 rfl) rfl
theorem q522 : (Jvm.Cond.fieldLink "MakingHouse$Reader" (112 : Nat) "MakingHouse$Reader" "isWhole" "Z") ∈ lw_all := lw_g (lw_at lw_m2 97 rfl) rfl
theorem q523 : (Jvm.Cond.fieldLink "MakingHouse$Reader" (109 : Nat) "MakingHouse$Reader" "whole" "I") ∈ lw_all := lw_g (lw_at lw_m2 98 rfl) rfl
theorem q524 : (Jvm.Cond.fieldLink "MakingHouse$Reader" (18 : Nat) "MakingHouse$Reader" "numbered" "LMakingHouse$Row;") ∈ lw_all := lw_g (lw_at lw_m2 99 rfl) rfl
theorem q525 : (Jvm.Cond.fieldLink "MakingHouse$Reader" (22 : Nat) "MakingHouse$Reader" "open" "[I") ∈ lw_all := lw_g (lw_at lw_m2 100 rfl) rfl
theorem q526 : (Jvm.Cond.laysFinal "MakingHouse$Reader" "MakingHouse$Reader" "trouble" "LMakingHouse$Trouble;") ∈ lw_all := lw_g (lw_at lw_m2 101 rfl) rfl
theorem q527 : (Jvm.Cond.soleField "MakingHouse$Reader" "trouble") ∈ lw_all := lw_g (lw_at lw_m2 102 rfl) rfl
theorem q528 : (Jvm.Cond.laysFinal "MakingHouse$Reader" "MakingHouse$Reader" "text" "[B") ∈ lw_all := lw_g (lw_at lw_m2 103 rfl) rfl
theorem q529 : (Jvm.Cond.soleField "MakingHouse$Reader" "text") ∈ lw_all := lw_g (lw_at lw_m2 104 rfl) rfl
theorem q530 : (Jvm.Cond.lays "MakingHouse$Reader" "MakingHouse$Reader" "size" "I") ∈ lw_all := lw_g (lw_at lw_m2 105 rfl) rfl
theorem q531 : (Jvm.Cond.soleField "MakingHouse$Reader" "size") ∈ lw_all := lw_g (lw_at lw_m2 106 rfl) rfl
theorem q532 : (Jvm.Cond.lays "MakingHouse$Reader" "MakingHouse$Reader" "p" "LMakingHouse$Program;") ∈ lw_all := lw_g (lw_at lw_m2 107 rfl) rfl
theorem q533 : (Jvm.Cond.soleField "MakingHouse$Reader" "p") ∈ lw_all := lw_g (lw_at lw_m2 108 rfl) rfl
theorem q534 : (Jvm.Cond.lays "MakingHouse$Reader" "MakingHouse$Reader" "at" "I") ∈ lw_all := lw_g (lw_at lw_m2 109 rfl) rfl
theorem q535 : (Jvm.Cond.soleField "MakingHouse$Reader" "at") ∈ lw_all := lw_g (lw_at lw_m2 110 rfl) rfl
theorem q536 : (Jvm.Cond.lays "MakingHouse$Reader" "MakingHouse$Reader" "kind" "I") ∈ lw_all := lw_g (lw_at lw_m2 111 rfl) rfl
theorem q537 : (Jvm.Cond.soleField "MakingHouse$Reader" "kind") ∈ lw_all := lw_g (lw_at lw_m2 112 rfl) rfl
theorem q538 : (Jvm.Cond.lays "MakingHouse$Reader" "MakingHouse$Reader" "from" "I") ∈ lw_all := lw_g (lw_at lw_m2 113 rfl) rfl
theorem q539 : (Jvm.Cond.soleField "MakingHouse$Reader" "from") ∈ lw_all := lw_g (lw_at lw_m2 114 rfl) rfl
theorem q540 : (Jvm.Cond.lays "MakingHouse$Reader" "MakingHouse$Reader" "sign" "I") ∈ lw_all := lw_g (lw_at lw_m2 115 rfl) rfl
theorem q541 : (Jvm.Cond.soleField "MakingHouse$Reader" "sign") ∈ lw_all := lw_g (lw_at lw_m2 116 rfl) rfl
theorem q542 : (Jvm.Cond.lays "MakingHouse$Reader" "MakingHouse$Reader" "word" "I") ∈ lw_all := lw_g (lw_at lw_m2 117 rfl) rfl
theorem q543 : (Jvm.Cond.soleField "MakingHouse$Reader" "word") ∈ lw_all := lw_g (lw_at lw_m2 118 rfl) rfl
theorem q544 : (Jvm.Cond.lays "MakingHouse$Reader" "MakingHouse$Reader" "deep" "I") ∈ lw_all := lw_g (lw_at lw_m2 119 rfl) rfl
theorem q545 : (Jvm.Cond.soleField "MakingHouse$Reader" "deep") ∈ lw_all := lw_g (lw_at lw_m2 120 rfl) rfl
theorem q546 : (Jvm.Cond.lays "MakingHouse$Reader" "MakingHouse$Reader" "thousandths" "I") ∈ lw_all := lw_g (lw_at lw_m2 121 rfl) rfl
theorem q547 : (Jvm.Cond.soleField "MakingHouse$Reader" "thousandths") ∈ lw_all := lw_g (lw_at lw_m2 122 rfl) rfl
theorem q548 : (Jvm.Cond.lays "MakingHouse$Reader" "MakingHouse$Reader" "isWhole" "Z") ∈ lw_all := lw_g (lw_at lw_m2 123 rfl) rfl
theorem q549 : (Jvm.Cond.soleField "MakingHouse$Reader" "isWhole") ∈ lw_all := lw_g (lw_at lw_m2 124 rfl) rfl
theorem q550 : (Jvm.Cond.lays "MakingHouse$Reader" "MakingHouse$Reader" "whole" "I") ∈ lw_all := lw_g (lw_at lw_m2 125 rfl) rfl
theorem q551 : (Jvm.Cond.soleField "MakingHouse$Reader" "whole") ∈ lw_all := lw_g (lw_at lw_m2 126 rfl) rfl
theorem q552 : (Jvm.Cond.laysFinal "MakingHouse$Reader" "MakingHouse$Reader" "numbered" "LMakingHouse$Row;") ∈ lw_all := lw_g (lw_at lw_m2 127 rfl) rfl
theorem q553 : (Jvm.Cond.soleField "MakingHouse$Reader" "numbered") ∈ lw_all := lw_g (lw_at lw_m2 128 rfl) rfl
theorem q554 : (Jvm.Cond.laysFinal "MakingHouse$Reader" "MakingHouse$Reader" "open" "[I") ∈ lw_all := lw_g (lw_at lw_m2 129 rfl) rfl
theorem q555 : (Jvm.Cond.soleField "MakingHouse$Reader" "open") ∈ lw_all := lw_g (lw_at lw_m2 130 rfl) rfl
theorem q556 : (Jvm.Cond.superclass "MakingHouse$Reader" "java/lang/Object") ∈ lw_all := lw_g (lw_at lw_m2 131 rfl) rfl
theorem q566 : (Jvm.Cond.fieldLink "MakingHouse$Reader" (70 : Nat) "MakingHouse$Program" "kind" "LMakingHouse$Row;") ∈ lw_all := lw_g (lw_at lw_m2 141 rfl) rfl
theorem q569 : (Jvm.Cond.fieldLink "MakingHouse$Reader" (142 : Nat) "MakingHouse$Program" "number" "LMakingHouse$Row;") ∈ lw_all := lw_g (lw_at lw_m2 144 rfl) rfl
theorem q571 : (Jvm.Cond.fieldLink "MakingHouse$Reader" (79 : Nat) "MakingHouse$Program" "owner" "LMakingHouse$Row;") ∈ lw_all := lw_g (lw_at lw_m2 146 rfl) rfl
theorem q573 : (Jvm.Cond.fieldLink "MakingHouse$Reader" (144 : Nat) "MakingHouse$Program" "told" "LMakingHouse$Row;") ∈ lw_all := lw_g (lw_at lw_m2 148 rfl) rfl
theorem q576 : (Jvm.Cond.fieldLink "MakingHouse$Reader" (147 : Nat) "MakingHouse$Program" "begin" "LMakingHouse$Row;") ∈ lw_all := lw_g (lw_at lw_m2 151 rfl) rfl
theorem q579 : (Jvm.Cond.fieldLink "MakingHouse$Reader" (150 : Nat) "MakingHouse$Program" "place" "LMakingHouse$Row;") ∈ lw_all := lw_g (lw_at lw_m2 154 rfl) rfl
theorem q581 : (Jvm.Cond.fieldLink "MakingHouse$Reader" (153 : Nat) "MakingHouse$Program" "goes" "LMakingHouse$Row;") ∈ lw_all := lw_g (lw_at lw_m2 156 rfl) rfl
theorem q584 : (Jvm.Cond.fieldLink "MakingHouse$Reader" (194 : Nat) "MakingHouse$Program" "letter" "LMakingHouse$Row;") ∈ lw_all := lw_g (lw_at lw_m2 159 rfl) rfl
theorem q587 : (Jvm.Cond.fieldLink "MakingHouse$Reader" (203 : Nat) "MakingHouse$Program" "value" "LMakingHouse$Row;") ∈ lw_all := lw_g (lw_at lw_m2 162 rfl) rfl
theorem q590 : (Jvm.Cond.fieldLink "MakingHouse$Reader" (200 : Nat) "MakingHouse$Program" "letterAt" "LMakingHouse$Row;") ∈ lw_all := lw_g (lw_at lw_m2 165 rfl) rfl
theorem q592 : (Jvm.Cond.fieldLink "MakingHouse$Reader" (171 : Nat) "MakingHouse$Program" "step" "LMakingHouse$Row;") ∈ lw_all := lw_g (lw_at lw_m2 167 rfl) rfl
theorem q951 : (Jvm.Cond.selects "MakingHouse$Reader" ({ cls := "java/lang/Object", name := "getClass", desc := "()Ljava/lang/Class;" } : Jvm.MethodName) ({ cls := "java/lang/Object", name := "getClass", desc := "()Ljava/lang/Class;" } : Jvm.MethodName)) ∈ lw_all := lw_g (lw_at lw_m4 46 rfl) rfl
theorem q1292 : (Jvm.Cond.instanceMethod ({ cls := "MakingHouse$Reader", name := "read", desc := "(LMakingHouse$Program;)V" } : Jvm.MethodName)) ∈ lw_all := lw_g (lw_at lw_m5 147 rfl) rfl
theorem q1293 : (Jvm.Cond.selects "MakingHouse$Reader" ({ cls := "MakingHouse$Reader", name := "read", desc := "(LMakingHouse$Program;)V" } : Jvm.MethodName) ({ cls := "MakingHouse$Reader", name := "read", desc := "(LMakingHouse$Program;)V" } : Jvm.MethodName)) ∈ lw_all := lw_g (lw_at lw_m5 148 rfl) rfl
theorem q1294 : (Jvm.Cond.code ({ cls := "MakingHouse$Reader", name := "read", desc := "(LMakingHouse$Program;)V" } : Jvm.MethodName) prog_10_method_3_code (2 : Nat) (Option.none : Option Jvm.ClassFile.FieldType)) ∈ lw_all := lw_g (lw_at lw_m5 149 rfl) rfl
theorem q1295 : (Jvm.Cond.methodLink "MakingHouse$Reader" (44 : Nat) ({ cls := "MakingHouse$Program", name := "clear", desc := "()V" } : Jvm.MethodName)) ∈ lw_all := lw_g (lw_at lw_m5 150 rfl) rfl
theorem q1299 : (Jvm.Cond.methodLink "MakingHouse$Reader" (52 : Nat) ({ cls := "MakingHouse$Reader", name := "lines", desc := "()V" } : Jvm.MethodName)) ∈ lw_all := lw_g (lw_at lw_m5 154 rfl) rfl
theorem q1300 : (Jvm.Cond.privateMethod ({ cls := "MakingHouse$Reader", name := "lines", desc := "()V" } : Jvm.MethodName)) ∈ lw_tbl := lw_at lw_m5 155 rfl
theorem q1301 : (Jvm.Cond.instanceMethod ({ cls := "MakingHouse$Reader", name := "lines", desc := "()V" } : Jvm.MethodName)) ∈ lw_all := lw_g (lw_at lw_m5 156 rfl) rfl
theorem q1302 : (Jvm.Cond.code ({ cls := "MakingHouse$Reader", name := "lines", desc := "()V" } : Jvm.MethodName) prog_10_method_4_code (3 : Nat) (Option.none : Option Jvm.ClassFile.FieldType)) ∈ lw_all := lw_g (lw_at lw_m5 157 rfl) rfl
theorem q1303 : (Jvm.Cond.methodLink "MakingHouse$Reader" (63 : Nat) ({ cls := "MakingHouse$Reader", name := "next", desc := "()V" } : Jvm.MethodName)) ∈ lw_all := lw_g (lw_at lw_m5 158 rfl) rfl
theorem q1304 : (Jvm.Cond.privateMethod ({ cls := "MakingHouse$Reader", name := "next", desc := "()V" } : Jvm.MethodName)) ∈ lw_tbl := lw_at lw_m5 159 rfl
theorem q1305 : (Jvm.Cond.instanceMethod ({ cls := "MakingHouse$Reader", name := "next", desc := "()V" } : Jvm.MethodName)) ∈ lw_all := lw_g (lw_at lw_m5 160 rfl) rfl
theorem q1306 : (Jvm.Cond.code ({ cls := "MakingHouse$Reader", name := "next", desc := "()V" } : Jvm.MethodName) prog_10_method_6_code (3 : Nat) (Option.none : Option Jvm.ClassFile.FieldType)) ∈ lw_all := lw_g (lw_at lw_m5 161 rfl) rfl
theorem q1307 : (Jvm.Cond.methodLink "MakingHouse$Reader" (88 : Nat) ({ cls := "MakingHouse$Reader", name := "code", desc := "(I)I" } : Jvm.MethodName)) ∈ lw_all := lw_g (lw_at lw_m5 162 rfl) rfl
theorem q1308 : (Jvm.Cond.privateMethod ({ cls := "MakingHouse$Reader", name := "code", desc := "(I)I" } : Jvm.MethodName)) ∈ lw_tbl := lw_at lw_m5 163 rfl
theorem q1309 : (Jvm.Cond.instanceMethod ({ cls := "MakingHouse$Reader", name := "code", desc := "(I)I" } : Jvm.MethodName)) ∈ lw_all := lw_g (lw_at lw_m5 164 rfl) rfl
theorem q1310 : (Jvm.Cond.code ({ cls := "MakingHouse$Reader", name := "code", desc := "(I)I" } : Jvm.MethodName) prog_10_method_5_code (2 : Nat) (Option.some Jvm.ClassFile.FieldType.int)) ∈ lw_all := lw_g (lw_at lw_m5 165 rfl) rfl
theorem q1311 : (Jvm.Cond.methodLink "MakingHouse$Reader" (92 : Nat) ({ cls := "MakingHouse$Reader", name := "comment", desc := "()Z" } : Jvm.MethodName)) ∈ lw_all := lw_g (lw_at lw_m5 166 rfl) rfl
theorem q1312 : (Jvm.Cond.privateMethod ({ cls := "MakingHouse$Reader", name := "comment", desc := "()Z" } : Jvm.MethodName)) ∈ lw_tbl := lw_at lw_m5 167 rfl
theorem q1313 : (Jvm.Cond.instanceMethod ({ cls := "MakingHouse$Reader", name := "comment", desc := "()Z" } : Jvm.MethodName)) ∈ lw_all := lw_g (lw_at lw_m5 168 rfl) rfl
theorem q1314 : (Jvm.Cond.code ({ cls := "MakingHouse$Reader", name := "comment", desc := "()Z" } : Jvm.MethodName) prog_10_method_7_code (2 : Nat) (Option.some Jvm.ClassFile.FieldType.boolean)) ∈ lw_all := lw_g (lw_at lw_m5 169 rfl) rfl
theorem q1315 : (Jvm.Cond.methodLink "MakingHouse$Reader" (34 : Nat) ({ cls := "MakingHouse$Trouble", name := "at", desc := "(II)Ljava/lang/IllegalStateException;" } : Jvm.MethodName)) ∈ lw_all := lw_g (lw_at lw_m5 170 rfl) rfl
theorem q1319 : (Jvm.Cond.methodLink "MakingHouse$Reader" (96 : Nat) ({ cls := "MakingHouse$Reader", name := "number", desc := "()V" } : Jvm.MethodName)) ∈ lw_all := lw_g (lw_at lw_m5 174 rfl) rfl
theorem q1320 : (Jvm.Cond.privateMethod ({ cls := "MakingHouse$Reader", name := "number", desc := "()V" } : Jvm.MethodName)) ∈ lw_tbl := lw_at lw_m5 175 rfl
theorem q1321 : (Jvm.Cond.instanceMethod ({ cls := "MakingHouse$Reader", name := "number", desc := "()V" } : Jvm.MethodName)) ∈ lw_all := lw_g (lw_at lw_m5 176 rfl) rfl
theorem q1322 : (Jvm.Cond.code ({ cls := "MakingHouse$Reader", name := "number", desc := "()V" } : Jvm.MethodName) prog_10_method_9_code (6 : Nat) (Option.none : Option Jvm.ClassFile.FieldType)) ∈ lw_all := lw_g (lw_at lw_m5 177 rfl) rfl
theorem q1323 : (Jvm.Cond.methodLink "MakingHouse$Reader" (105 : Nat) ({ cls := "MakingHouse$Reader", name := "isDigit", desc := "(I)Z" } : Jvm.MethodName)) ∈ lw_all := lw_g (lw_at lw_m5 178 rfl) rfl
theorem q1324 : (Jvm.Cond.static ({ cls := "MakingHouse$Reader", name := "isDigit", desc := "(I)Z" } : Jvm.MethodName)) ∈ lw_all := lw_g (lw_at lw_m5 179 rfl) rfl
theorem q1325 : (Jvm.Cond.code ({ cls := "MakingHouse$Reader", name := "isDigit", desc := "(I)Z" } : Jvm.MethodName) prog_10_method_8_code (1 : Nat) (Option.some Jvm.ClassFile.FieldType.boolean)) ∈ lw_all := lw_g (lw_at lw_m5 180 rfl) rfl
theorem q1326 : (Jvm.Cond.methodLink "MakingHouse$Reader" (99 : Nat) ({ cls := "MakingHouse$Reader", name := "letters", desc := "()V" } : Jvm.MethodName)) ∈ lw_all := lw_g (lw_at lw_m5 181 rfl) rfl
theorem q1327 : (Jvm.Cond.privateMethod ({ cls := "MakingHouse$Reader", name := "letters", desc := "()V" } : Jvm.MethodName)) ∈ lw_tbl := lw_at lw_m5 182 rfl
theorem q1328 : (Jvm.Cond.instanceMethod ({ cls := "MakingHouse$Reader", name := "letters", desc := "()V" } : Jvm.MethodName)) ∈ lw_all := lw_g (lw_at lw_m5 183 rfl) rfl
theorem q1329 : (Jvm.Cond.code ({ cls := "MakingHouse$Reader", name := "letters", desc := "()V" } : Jvm.MethodName) prog_10_method_10_code (6 : Nat) (Option.none : Option Jvm.ClassFile.FieldType)) ∈ lw_all := lw_g (lw_at lw_m5 184 rfl) rfl
theorem q1330 : (Jvm.Cond.stringRef "MakingHouse$Reader" (119 : Nat) " IF GOTO WHILE DO END ABS FIX FUP ROOT MOD AND OR XOR EQ NE LT LE GT GE ") ∈ lw_tbl := lw_at lw_m5 185 rfl
theorem q1331 : (Jvm.Cond.methodLink "MakingHouse$Reader" (121 : Nat) ({ cls := "java/lang/String", name := "length", desc := "()I" } : Jvm.MethodName)) ∈ lw_all := lw_g (lw_at lw_m5 186 rfl) rfl
theorem q1341 : (Jvm.Cond.methodLink "MakingHouse$Reader" (126 : Nat) ({ cls := "java/lang/String", name := "charAt", desc := "(I)C" } : Jvm.MethodName)) ∈ lw_all := lw_g (lw_at lw_m5 196 rfl) rfl
theorem q1377 : (Jvm.Cond.methodLink "MakingHouse$Reader" (66 : Nat) ({ cls := "MakingHouse$Reader", name := "line", desc := "(I)V" } : Jvm.MethodName)) ∈ lw_all := lw_g (lw_at lw_m5 232 rfl) rfl
theorem q1378 : (Jvm.Cond.privateMethod ({ cls := "MakingHouse$Reader", name := "line", desc := "(I)V" } : Jvm.MethodName)) ∈ lw_tbl := lw_at lw_m5 233 rfl
theorem q1379 : (Jvm.Cond.instanceMethod ({ cls := "MakingHouse$Reader", name := "line", desc := "(I)V" } : Jvm.MethodName)) ∈ lw_all := lw_g (lw_at lw_m5 234 rfl) rfl
theorem q1380 : (Jvm.Cond.code ({ cls := "MakingHouse$Reader", name := "line", desc := "(I)V" } : Jvm.MethodName) prog_10_method_18_code (5 : Nat) (Option.none : Option Jvm.ClassFile.FieldType)) ∈ lw_all := lw_g (lw_at lw_m5 235 rfl) rfl
theorem q1381 : (Jvm.Cond.methodLink "MakingHouse$Reader" (159 : Nat) ({ cls := "MakingHouse$Reader", name := "add", desc := "(II)V" } : Jvm.MethodName)) ∈ lw_all := lw_g (lw_at lw_m5 236 rfl) rfl
theorem q1382 : (Jvm.Cond.privateMethod ({ cls := "MakingHouse$Reader", name := "add", desc := "(II)V" } : Jvm.MethodName)) ∈ lw_tbl := lw_at lw_m5 237 rfl
theorem q1383 : (Jvm.Cond.instanceMethod ({ cls := "MakingHouse$Reader", name := "add", desc := "(II)V" } : Jvm.MethodName)) ∈ lw_all := lw_g (lw_at lw_m5 238 rfl) rfl
theorem q1384 : (Jvm.Cond.code ({ cls := "MakingHouse$Reader", name := "add", desc := "(II)V" } : Jvm.MethodName) prog_10_method_16_code (3 : Nat) (Option.none : Option Jvm.ClassFile.FieldType)) ∈ lw_all := lw_g (lw_at lw_m5 239 rfl) rfl
theorem q1385 : (Jvm.Cond.methodLink "MakingHouse$Reader" (139 : Nat) ({ cls := "MakingHouse$Row", name := "add", desc := "(I)V" } : Jvm.MethodName)) ∈ lw_all := lw_g (lw_at lw_m6 0 rfl) rfl
theorem q1390 : (Jvm.Cond.methodLink "MakingHouse$Reader" (162 : Nat) ({ cls := "MakingHouse$Reader", name := "wholeNumber", desc := "()I" } : Jvm.MethodName)) ∈ lw_all := lw_g (lw_at lw_m6 5 rfl) rfl
theorem q1391 : (Jvm.Cond.privateMethod ({ cls := "MakingHouse$Reader", name := "wholeNumber", desc := "()I" } : Jvm.MethodName)) ∈ lw_tbl := lw_at lw_m6 6 rfl
theorem q1392 : (Jvm.Cond.instanceMethod ({ cls := "MakingHouse$Reader", name := "wholeNumber", desc := "()I" } : Jvm.MethodName)) ∈ lw_all := lw_g (lw_at lw_m6 7 rfl) rfl
theorem q1393 : (Jvm.Cond.code ({ cls := "MakingHouse$Reader", name := "wholeNumber", desc := "()I" } : Jvm.MethodName) prog_10_method_15_code (2 : Nat) (Option.some Jvm.ClassFile.FieldType.int)) ∈ lw_all := lw_g (lw_at lw_m6 8 rfl) rfl
theorem q1394 : (Jvm.Cond.methodLink "MakingHouse$Reader" (84 : Nat) ({ cls := "MakingHouse$Reader", name := "wrong", desc := "()Ljava/lang/IllegalStateException;" } : Jvm.MethodName)) ∈ lw_all := lw_g (lw_at lw_m6 9 rfl) rfl
theorem q1395 : (Jvm.Cond.privateMethod ({ cls := "MakingHouse$Reader", name := "wrong", desc := "()Ljava/lang/IllegalStateException;" } : Jvm.MethodName)) ∈ lw_tbl := lw_at lw_m6 10 rfl
theorem q1396 : (Jvm.Cond.instanceMethod ({ cls := "MakingHouse$Reader", name := "wrong", desc := "()Ljava/lang/IllegalStateException;" } : Jvm.MethodName)) ∈ lw_all := lw_g (lw_at lw_m6 11 rfl) rfl
theorem q1397 : (Jvm.Cond.code ({ cls := "MakingHouse$Reader", name := "wrong", desc := "()Ljava/lang/IllegalStateException;" } : Jvm.MethodName) prog_10_method_2_code (1 : Nat) (Option.some (Jvm.ClassFile.FieldType.object "java/lang/IllegalStateException"))) ∈ lw_all := lw_g (lw_at lw_m6 12 rfl) rfl
theorem q1398 : (Jvm.Cond.methodLink "MakingHouse$Reader" (165 : Nat) ({ cls := "MakingHouse$Reader", name := "tell", desc := "(II)V" } : Jvm.MethodName)) ∈ lw_all := lw_g (lw_at lw_m6 13 rfl) rfl
theorem q1399 : (Jvm.Cond.privateMethod ({ cls := "MakingHouse$Reader", name := "tell", desc := "(II)V" } : Jvm.MethodName)) ∈ lw_tbl := lw_at lw_m6 14 rfl
theorem q1400 : (Jvm.Cond.instanceMethod ({ cls := "MakingHouse$Reader", name := "tell", desc := "(II)V" } : Jvm.MethodName)) ∈ lw_all := lw_g (lw_at lw_m6 15 rfl) rfl
theorem q1401 : (Jvm.Cond.code ({ cls := "MakingHouse$Reader", name := "tell", desc := "(II)V" } : Jvm.MethodName) prog_10_method_17_code (3 : Nat) (Option.none : Option Jvm.ClassFile.FieldType)) ∈ lw_all := lw_g (lw_at lw_m6 16 rfl) rfl
theorem q1402 : (Jvm.Cond.methodLink "MakingHouse$Reader" (76 : Nat) ({ cls := "MakingHouse$Program", name := "lines", desc := "()I" } : Jvm.MethodName)) ∈ lw_all := lw_g (lw_at lw_m6 17 rfl) rfl
theorem q1406 : (Jvm.Cond.methodLink "MakingHouse$Reader" (168 : Nat) ({ cls := "MakingHouse$Reader", name := "flow", desc := "(I)V" } : Jvm.MethodName)) ∈ lw_all := lw_g (lw_at lw_m6 21 rfl) rfl
theorem q1407 : (Jvm.Cond.privateMethod ({ cls := "MakingHouse$Reader", name := "flow", desc := "(I)V" } : Jvm.MethodName)) ∈ lw_tbl := lw_at lw_m6 22 rfl
theorem q1408 : (Jvm.Cond.instanceMethod ({ cls := "MakingHouse$Reader", name := "flow", desc := "(I)V" } : Jvm.MethodName)) ∈ lw_all := lw_g (lw_at lw_m6 23 rfl) rfl
theorem q1409 : (Jvm.Cond.code ({ cls := "MakingHouse$Reader", name := "flow", desc := "(I)V" } : Jvm.MethodName) prog_10_method_19_code (4 : Nat) (Option.none : Option Jvm.ClassFile.FieldType)) ∈ lw_all := lw_g (lw_at lw_m6 24 rfl) rfl
theorem q1410 : (Jvm.Cond.methodLink "MakingHouse$Reader" (188 : Nat) ({ cls := "MakingHouse$Reader", name := "bracket", desc := "()V" } : Jvm.MethodName)) ∈ lw_all := lw_g (lw_at lw_m6 25 rfl) rfl
theorem q1411 : (Jvm.Cond.privateMethod ({ cls := "MakingHouse$Reader", name := "bracket", desc := "()V" } : Jvm.MethodName)) ∈ lw_tbl := lw_at lw_m6 26 rfl
theorem q1412 : (Jvm.Cond.instanceMethod ({ cls := "MakingHouse$Reader", name := "bracket", desc := "()V" } : Jvm.MethodName)) ∈ lw_all := lw_g (lw_at lw_m6 27 rfl) rfl
theorem q1413 : (Jvm.Cond.code ({ cls := "MakingHouse$Reader", name := "bracket", desc := "()V" } : Jvm.MethodName) prog_10_method_24_code (1 : Nat) (Option.none : Option Jvm.ClassFile.FieldType)) ∈ lw_all := lw_g (lw_at lw_m6 28 rfl) rfl
theorem q1414 : (Jvm.Cond.methodLink "MakingHouse$Reader" (133 : Nat) ({ cls := "MakingHouse$Reader", name := "isSign", desc := "(I)Z" } : Jvm.MethodName)) ∈ lw_all := lw_g (lw_at lw_m6 29 rfl) rfl
theorem q1415 : (Jvm.Cond.privateMethod ({ cls := "MakingHouse$Reader", name := "isSign", desc := "(I)Z" } : Jvm.MethodName)) ∈ lw_tbl := lw_at lw_m6 30 rfl
theorem q1416 : (Jvm.Cond.instanceMethod ({ cls := "MakingHouse$Reader", name := "isSign", desc := "(I)Z" } : Jvm.MethodName)) ∈ lw_all := lw_g (lw_at lw_m6 31 rfl) rfl
theorem q1417 : (Jvm.Cond.code ({ cls := "MakingHouse$Reader", name := "isSign", desc := "(I)Z" } : Jvm.MethodName) prog_10_method_11_code (2 : Nat) (Option.some Jvm.ClassFile.FieldType.boolean)) ∈ lw_all := lw_g (lw_at lw_m6 32 rfl) rfl
theorem q1418 : (Jvm.Cond.methodLink "MakingHouse$Reader" (209 : Nat) ({ cls := "MakingHouse$Reader", name := "deeper", desc := "()V" } : Jvm.MethodName)) ∈ lw_all := lw_g (lw_at lw_m6 33 rfl) rfl
theorem q1419 : (Jvm.Cond.privateMethod ({ cls := "MakingHouse$Reader", name := "deeper", desc := "()V" } : Jvm.MethodName)) ∈ lw_tbl := lw_at lw_m6 34 rfl
theorem q1420 : (Jvm.Cond.instanceMethod ({ cls := "MakingHouse$Reader", name := "deeper", desc := "()V" } : Jvm.MethodName)) ∈ lw_all := lw_g (lw_at lw_m6 35 rfl) rfl
theorem q1421 : (Jvm.Cond.code ({ cls := "MakingHouse$Reader", name := "deeper", desc := "()V" } : Jvm.MethodName) prog_10_method_23_code (1 : Nat) (Option.none : Option Jvm.ClassFile.FieldType)) ∈ lw_all := lw_g (lw_at lw_m6 36 rfl) rfl
theorem q1422 : (Jvm.Cond.methodLink "MakingHouse$Reader" (212 : Nat) ({ cls := "MakingHouse$Reader", name := "test", desc := "()V" } : Jvm.MethodName)) ∈ lw_all := lw_g (lw_at lw_m6 37 rfl) rfl
theorem q1423 : (Jvm.Cond.privateMethod ({ cls := "MakingHouse$Reader", name := "test", desc := "()V" } : Jvm.MethodName)) ∈ lw_tbl := lw_at lw_m6 38 rfl
theorem q1424 : (Jvm.Cond.instanceMethod ({ cls := "MakingHouse$Reader", name := "test", desc := "()V" } : Jvm.MethodName)) ∈ lw_all := lw_g (lw_at lw_m6 39 rfl) rfl
theorem q1425 : (Jvm.Cond.code ({ cls := "MakingHouse$Reader", name := "test", desc := "()V" } : Jvm.MethodName) prog_10_method_25_code (2 : Nat) (Option.none : Option Jvm.ClassFile.FieldType)) ∈ lw_all := lw_g (lw_at lw_m6 40 rfl) rfl
theorem q1426 : (Jvm.Cond.methodLink "MakingHouse$Reader" (182 : Nat) ({ cls := "MakingHouse$Reader", name := "sum", desc := "()V" } : Jvm.MethodName)) ∈ lw_all := lw_g (lw_at lw_m6 41 rfl) rfl
theorem q1427 : (Jvm.Cond.privateMethod ({ cls := "MakingHouse$Reader", name := "sum", desc := "()V" } : Jvm.MethodName)) ∈ lw_tbl := lw_at lw_m6 42 rfl
theorem q1428 : (Jvm.Cond.instanceMethod ({ cls := "MakingHouse$Reader", name := "sum", desc := "()V" } : Jvm.MethodName)) ∈ lw_all := lw_g (lw_at lw_m6 43 rfl) rfl
theorem q1429 : (Jvm.Cond.code ({ cls := "MakingHouse$Reader", name := "sum", desc := "()V" } : Jvm.MethodName) prog_10_method_26_code (2 : Nat) (Option.none : Option Jvm.ClassFile.FieldType)) ∈ lw_all := lw_g (lw_at lw_m6 44 rfl) rfl
theorem q1430 : (Jvm.Cond.methodLink "MakingHouse$Reader" (215 : Nat) ({ cls := "MakingHouse$Reader", name := "product", desc := "()V" } : Jvm.MethodName)) ∈ lw_all := lw_g (lw_at lw_m6 45 rfl) rfl
theorem q1431 : (Jvm.Cond.privateMethod ({ cls := "MakingHouse$Reader", name := "product", desc := "()V" } : Jvm.MethodName)) ∈ lw_tbl := lw_at lw_m6 46 rfl
theorem q1432 : (Jvm.Cond.instanceMethod ({ cls := "MakingHouse$Reader", name := "product", desc := "()V" } : Jvm.MethodName)) ∈ lw_all := lw_g (lw_at lw_m6 47 rfl) rfl
theorem q1433 : (Jvm.Cond.code ({ cls := "MakingHouse$Reader", name := "product", desc := "()V" } : Jvm.MethodName) prog_10_method_27_code (2 : Nat) (Option.none : Option Jvm.ClassFile.FieldType)) ∈ lw_all := lw_g (lw_at lw_m6 48 rfl) rfl
theorem q1434 : (Jvm.Cond.methodLink "MakingHouse$Reader" (218 : Nat) ({ cls := "MakingHouse$Reader", name := "factor", desc := "()V" } : Jvm.MethodName)) ∈ lw_all := lw_g (lw_at lw_m6 49 rfl) rfl
theorem q1435 : (Jvm.Cond.privateMethod ({ cls := "MakingHouse$Reader", name := "factor", desc := "()V" } : Jvm.MethodName)) ∈ lw_tbl := lw_at lw_m6 50 rfl
theorem q1436 : (Jvm.Cond.instanceMethod ({ cls := "MakingHouse$Reader", name := "factor", desc := "()V" } : Jvm.MethodName)) ∈ lw_all := lw_g (lw_at lw_m6 51 rfl) rfl
theorem q1437 : (Jvm.Cond.code ({ cls := "MakingHouse$Reader", name := "factor", desc := "()V" } : Jvm.MethodName) prog_10_method_28_code (2 : Nat) (Option.none : Option Jvm.ClassFile.FieldType)) ∈ lw_all := lw_g (lw_at lw_m6 52 rfl) rfl
theorem q1438 : (Jvm.Cond.methodLink "MakingHouse$Reader" (206 : Nat) ({ cls := "MakingHouse$Reader", name := "item", desc := "()V" } : Jvm.MethodName)) ∈ lw_all := lw_g (lw_at lw_m6 53 rfl) rfl
theorem q1439 : (Jvm.Cond.privateMethod ({ cls := "MakingHouse$Reader", name := "item", desc := "()V" } : Jvm.MethodName)) ∈ lw_tbl := lw_at lw_m6 54 rfl
theorem q1440 : (Jvm.Cond.instanceMethod ({ cls := "MakingHouse$Reader", name := "item", desc := "()V" } : Jvm.MethodName)) ∈ lw_all := lw_g (lw_at lw_m6 55 rfl) rfl
theorem q1441 : (Jvm.Cond.code ({ cls := "MakingHouse$Reader", name := "item", desc := "()V" } : Jvm.MethodName) prog_10_method_29_code (1 : Nat) (Option.none : Option Jvm.ClassFile.FieldType)) ∈ lw_all := lw_g (lw_at lw_m6 56 rfl) rfl
theorem q1442 : (Jvm.Cond.methodLink "MakingHouse$Reader" (221 : Nat) ({ cls := "MakingHouse$Reader", name := "constant", desc := "(I)V" } : Jvm.MethodName)) ∈ lw_all := lw_g (lw_at lw_m6 57 rfl) rfl
theorem q1443 : (Jvm.Cond.privateMethod ({ cls := "MakingHouse$Reader", name := "constant", desc := "(I)V" } : Jvm.MethodName)) ∈ lw_tbl := lw_at lw_m6 58 rfl
theorem q1444 : (Jvm.Cond.instanceMethod ({ cls := "MakingHouse$Reader", name := "constant", desc := "(I)V" } : Jvm.MethodName)) ∈ lw_all := lw_g (lw_at lw_m6 59 rfl) rfl
theorem q1445 : (Jvm.Cond.code ({ cls := "MakingHouse$Reader", name := "constant", desc := "(I)V" } : Jvm.MethodName) prog_10_method_30_code (2 : Nat) (Option.none : Option Jvm.ClassFile.FieldType)) ∈ lw_all := lw_g (lw_at lw_m6 60 rfl) rfl
theorem q1446 : (Jvm.Cond.methodLink "MakingHouse$Reader" (174 : Nat) ({ cls := "MakingHouse$Reader", name := "place", desc := "()V" } : Jvm.MethodName)) ∈ lw_all := lw_g (lw_at lw_m6 61 rfl) rfl
theorem q1447 : (Jvm.Cond.privateMethod ({ cls := "MakingHouse$Reader", name := "place", desc := "()V" } : Jvm.MethodName)) ∈ lw_tbl := lw_at lw_m6 62 rfl
theorem q1448 : (Jvm.Cond.instanceMethod ({ cls := "MakingHouse$Reader", name := "place", desc := "()V" } : Jvm.MethodName)) ∈ lw_all := lw_g (lw_at lw_m6 63 rfl) rfl
theorem q1449 : (Jvm.Cond.code ({ cls := "MakingHouse$Reader", name := "place", desc := "()V" } : Jvm.MethodName) prog_10_method_31_code (1 : Nat) (Option.none : Option Jvm.ClassFile.FieldType)) ∈ lw_all := lw_g (lw_at lw_m6 64 rfl) rfl
theorem q1450 : (Jvm.Cond.methodLink "MakingHouse$Reader" (136 : Nat) ({ cls := "MakingHouse$Reader", name := "isWord", desc := "(I)Z" } : Jvm.MethodName)) ∈ lw_all := lw_g (lw_at lw_m6 65 rfl) rfl
theorem q1451 : (Jvm.Cond.privateMethod ({ cls := "MakingHouse$Reader", name := "isWord", desc := "(I)Z" } : Jvm.MethodName)) ∈ lw_tbl := lw_at lw_m6 66 rfl
theorem q1452 : (Jvm.Cond.instanceMethod ({ cls := "MakingHouse$Reader", name := "isWord", desc := "(I)Z" } : Jvm.MethodName)) ∈ lw_all := lw_g (lw_at lw_m6 67 rfl) rfl
theorem q1453 : (Jvm.Cond.code ({ cls := "MakingHouse$Reader", name := "isWord", desc := "(I)Z" } : Jvm.MethodName) prog_10_method_12_code (2 : Nat) (Option.some Jvm.ClassFile.FieldType.boolean)) ∈ lw_all := lw_g (lw_at lw_m6 68 rfl) rfl
theorem q1454 : (Jvm.Cond.methodLink "MakingHouse$Reader" (179 : Nat) ({ cls := "MakingHouse$Reader", name := "expect", desc := "(I)V" } : Jvm.MethodName)) ∈ lw_all := lw_g (lw_at lw_m6 69 rfl) rfl
theorem q1455 : (Jvm.Cond.privateMethod ({ cls := "MakingHouse$Reader", name := "expect", desc := "(I)V" } : Jvm.MethodName)) ∈ lw_tbl := lw_at lw_m6 70 rfl
theorem q1456 : (Jvm.Cond.instanceMethod ({ cls := "MakingHouse$Reader", name := "expect", desc := "(I)V" } : Jvm.MethodName)) ∈ lw_all := lw_g (lw_at lw_m6 71 rfl) rfl
theorem q1457 : (Jvm.Cond.code ({ cls := "MakingHouse$Reader", name := "expect", desc := "(I)V" } : Jvm.MethodName) prog_10_method_13_code (2 : Nat) (Option.none : Option Jvm.ClassFile.FieldType)) ∈ lw_all := lw_g (lw_at lw_m6 72 rfl) rfl
theorem q1458 : (Jvm.Cond.methodLink "MakingHouse$Reader" (176 : Nat) ({ cls := "MakingHouse$Reader", name := "ended", desc := "()V" } : Jvm.MethodName)) ∈ lw_all := lw_g (lw_at lw_m6 73 rfl) rfl
theorem q1459 : (Jvm.Cond.privateMethod ({ cls := "MakingHouse$Reader", name := "ended", desc := "()V" } : Jvm.MethodName)) ∈ lw_tbl := lw_at lw_m6 74 rfl
theorem q1460 : (Jvm.Cond.instanceMethod ({ cls := "MakingHouse$Reader", name := "ended", desc := "()V" } : Jvm.MethodName)) ∈ lw_all := lw_g (lw_at lw_m6 75 rfl) rfl
theorem q1461 : (Jvm.Cond.code ({ cls := "MakingHouse$Reader", name := "ended", desc := "()V" } : Jvm.MethodName) prog_10_method_22_code (1 : Nat) (Option.none : Option Jvm.ClassFile.FieldType)) ∈ lw_all := lw_g (lw_at lw_m6 76 rfl) rfl
theorem q1462 : (Jvm.Cond.methodLink "MakingHouse$Reader" (191 : Nat) ({ cls := "MakingHouse$Reader", name := "expectWord", desc := "(I)V" } : Jvm.MethodName)) ∈ lw_all := lw_g (lw_at lw_m6 77 rfl) rfl
theorem q1463 : (Jvm.Cond.privateMethod ({ cls := "MakingHouse$Reader", name := "expectWord", desc := "(I)V" } : Jvm.MethodName)) ∈ lw_tbl := lw_at lw_m6 78 rfl
theorem q1464 : (Jvm.Cond.instanceMethod ({ cls := "MakingHouse$Reader", name := "expectWord", desc := "(I)V" } : Jvm.MethodName)) ∈ lw_all := lw_g (lw_at lw_m6 79 rfl) rfl
theorem q1465 : (Jvm.Cond.code ({ cls := "MakingHouse$Reader", name := "expectWord", desc := "(I)V" } : Jvm.MethodName) prog_10_method_14_code (2 : Nat) (Option.none : Option Jvm.ClassFile.FieldType)) ∈ lw_all := lw_g (lw_at lw_m6 80 rfl) rfl
theorem q1466 : (Jvm.Cond.methodLink "MakingHouse$Reader" (185 : Nat) ({ cls := "MakingHouse$Reader", name := "words", desc := "(I)V" } : Jvm.MethodName)) ∈ lw_all := lw_g (lw_at lw_m6 81 rfl) rfl
theorem q1467 : (Jvm.Cond.privateMethod ({ cls := "MakingHouse$Reader", name := "words", desc := "(I)V" } : Jvm.MethodName)) ∈ lw_tbl := lw_at lw_m6 82 rfl
theorem q1468 : (Jvm.Cond.instanceMethod ({ cls := "MakingHouse$Reader", name := "words", desc := "(I)V" } : Jvm.MethodName)) ∈ lw_all := lw_g (lw_at lw_m6 83 rfl) rfl
theorem q1469 : (Jvm.Cond.code ({ cls := "MakingHouse$Reader", name := "words", desc := "(I)V" } : Jvm.MethodName) prog_10_method_21_code (3 : Nat) (Option.none : Option Jvm.ClassFile.FieldType)) ∈ lw_all := lw_g (lw_at lw_m6 84 rfl) rfl
theorem q1470 : (Jvm.Cond.methodLink "MakingHouse$Reader" (197 : Nat) ({ cls := "MakingHouse$Reader", name := "isValued", desc := "(I)Z" } : Jvm.MethodName)) ∈ lw_all := lw_g (lw_at lw_m6 85 rfl) rfl
theorem q1471 : (Jvm.Cond.static ({ cls := "MakingHouse$Reader", name := "isValued", desc := "(I)Z" } : Jvm.MethodName)) ∈ lw_all := lw_g (lw_at lw_m6 86 rfl) rfl
theorem q1472 : (Jvm.Cond.code ({ cls := "MakingHouse$Reader", name := "isValued", desc := "(I)Z" } : Jvm.MethodName) prog_10_method_20_code (1 : Nat) (Option.some Jvm.ClassFile.FieldType.boolean)) ∈ lw_all := lw_g (lw_at lw_m6 87 rfl) rfl
theorem q1473 : (Jvm.Cond.methodLink "MakingHouse$Reader" (55 : Nat) ({ cls := "MakingHouse$Reader", name := "meaning", desc := "()V" } : Jvm.MethodName)) ∈ lw_all := lw_g (lw_at lw_m6 88 rfl) rfl
theorem q1474 : (Jvm.Cond.privateMethod ({ cls := "MakingHouse$Reader", name := "meaning", desc := "()V" } : Jvm.MethodName)) ∈ lw_tbl := lw_at lw_m6 89 rfl
theorem q1475 : (Jvm.Cond.instanceMethod ({ cls := "MakingHouse$Reader", name := "meaning", desc := "()V" } : Jvm.MethodName)) ∈ lw_all := lw_g (lw_at lw_m6 90 rfl) rfl
theorem q1476 : (Jvm.Cond.code ({ cls := "MakingHouse$Reader", name := "meaning", desc := "()V" } : Jvm.MethodName) prog_10_method_33_code (8 : Nat) (Option.none : Option Jvm.ClassFile.FieldType)) ∈ lw_all := lw_g (lw_at lw_m6 91 rfl) rfl
theorem q1477 : (Jvm.Cond.methodLink "MakingHouse$Reader" (224 : Nat) ({ cls := "MakingHouse$Reader", name := "must", desc := "(ZI)V" } : Jvm.MethodName)) ∈ lw_all := lw_g (lw_at lw_m6 92 rfl) rfl
theorem q1478 : (Jvm.Cond.privateMethod ({ cls := "MakingHouse$Reader", name := "must", desc := "(ZI)V" } : Jvm.MethodName)) ∈ lw_tbl := lw_at lw_m6 93 rfl
theorem q1479 : (Jvm.Cond.instanceMethod ({ cls := "MakingHouse$Reader", name := "must", desc := "(ZI)V" } : Jvm.MethodName)) ∈ lw_all := lw_g (lw_at lw_m6 94 rfl) rfl
theorem q1480 : (Jvm.Cond.code ({ cls := "MakingHouse$Reader", name := "must", desc := "(ZI)V" } : Jvm.MethodName) prog_10_method_32_code (3 : Nat) (Option.none : Option Jvm.ClassFile.FieldType)) ∈ lw_all := lw_g (lw_at lw_m6 95 rfl) rfl
theorem q1481 : (Jvm.Cond.methodLink "MakingHouse$Reader" (228 : Nat) ({ cls := "MakingHouse$Reader", name := "find", desc := "(II)I" } : Jvm.MethodName)) ∈ lw_all := lw_g (lw_at lw_m6 96 rfl) rfl
theorem q1482 : (Jvm.Cond.privateMethod ({ cls := "MakingHouse$Reader", name := "find", desc := "(II)I" } : Jvm.MethodName)) ∈ lw_tbl := lw_at lw_m6 97 rfl
theorem q1483 : (Jvm.Cond.instanceMethod ({ cls := "MakingHouse$Reader", name := "find", desc := "(II)I" } : Jvm.MethodName)) ∈ lw_all := lw_g (lw_at lw_m6 98 rfl) rfl
theorem q1484 : (Jvm.Cond.code ({ cls := "MakingHouse$Reader", name := "find", desc := "(II)I" } : Jvm.MethodName) prog_10_method_35_code (4 : Nat) (Option.some Jvm.ClassFile.FieldType.int)) ∈ lw_all := lw_g (lw_at lw_m6 99 rfl) rfl
theorem q1485 : (Jvm.Cond.methodLink "MakingHouse$Reader" (237 : Nat) ({ cls := "java/lang/Math", name := "max", desc := "(II)I" } : Jvm.MethodName)) ∈ lw_all := lw_g (lw_at lw_m6 100 rfl) rfl
theorem q1486 : (Jvm.Cond.methodLink "MakingHouse$Reader" (232 : Nat) ({ cls := "MakingHouse$Reader", name := "numberPlace", desc := "(I)I" } : Jvm.MethodName)) ∈ lw_all := lw_g (lw_at lw_m6 101 rfl) rfl
theorem q1487 : (Jvm.Cond.privateMethod ({ cls := "MakingHouse$Reader", name := "numberPlace", desc := "(I)I" } : Jvm.MethodName)) ∈ lw_tbl := lw_at lw_m6 102 rfl
theorem q1488 : (Jvm.Cond.instanceMethod ({ cls := "MakingHouse$Reader", name := "numberPlace", desc := "(I)I" } : Jvm.MethodName)) ∈ lw_all := lw_g (lw_at lw_m6 103 rfl) rfl
theorem q1489 : (Jvm.Cond.code ({ cls := "MakingHouse$Reader", name := "numberPlace", desc := "(I)I" } : Jvm.MethodName) prog_10_method_34_code (2 : Nat) (Option.some Jvm.ClassFile.FieldType.int)) ∈ lw_all := lw_g (lw_at lw_m6 104 rfl) rfl
theorem q1490 : (Jvm.Cond.methodLink "MakingHouse$Reader" (235 : Nat) ({ cls := "MakingHouse$Reader", name := "letters", desc := "(I)V" } : Jvm.MethodName)) ∈ lw_all := lw_g (lw_at lw_m6 105 rfl) rfl
theorem q1491 : (Jvm.Cond.privateMethod ({ cls := "MakingHouse$Reader", name := "letters", desc := "(I)V" } : Jvm.MethodName)) ∈ lw_tbl := lw_at lw_m6 106 rfl
theorem q1492 : (Jvm.Cond.instanceMethod ({ cls := "MakingHouse$Reader", name := "letters", desc := "(I)V" } : Jvm.MethodName)) ∈ lw_all := lw_g (lw_at lw_m6 107 rfl) rfl
theorem q1493 : (Jvm.Cond.code ({ cls := "MakingHouse$Reader", name := "letters", desc := "(I)V" } : Jvm.MethodName) prog_10_method_36_code (7 : Nat) (Option.none : Option Jvm.ClassFile.FieldType)) ∈ lw_all := lw_g (lw_at lw_m6 108 rfl) rfl
theorem q2709 : (Jvm.Cond.castable "MakingHouse$Reader" "java/lang/Object") ∈ lw_tbl := lw_at lw_m11 124 rfl
theorem in_X5 : ∀ w ∈ wsX50, w ∈ lw_all := lw_in wsX50 [526, 528, 530, 532, 534, 536, 538, 540, 542, 544, 546, 548, 550, 552, 554] (by decide +kernel) (by decide +kernel)
/-! MakingHouse$Row -/
set_option maxRecDepth 100000
def RX6 : String := "MakingHouse$Row"
def TX6 : u_T := fun k => match k with
  | 0 => ("MakingHouse$Row", "v", "[I", false)
  | _ => ("MakingHouse$Row", "n", "I", false)
def tyX6 : Nat → FieldType := fun k => match k with
  | 0 => .array .int
  | _ => .int
abbrev wsX60 : List Cond := u_ws RX6 TX6 2
theorem nmX6 : ∀ a, a < 2 → ∀ b, b < 2 → a ≠ b → (TX6 a).2.1 ≠ (TX6 b).2.1 := by decide +kernel
theorem tyX6_ok : ∀ k, k < 2 → parseFieldDescriptor (TX6 k).2.2.1 = some (tyX6 k) := by decide +kernel
abbrev cX6_init : ByteArray := prog_11_method_1_code
def yX6_init : MethodName := ⟨RX6, "<init>", "()V"⟩
abbrev cX6_add : ByteArray := prog_11_method_2_code
def yX6_add : MethodName := ⟨RX6, "add", "(I)V"⟩
theorem q199 : (Jvm.Cond.initialized "MakingHouse$Row") ∈ lw_all := lw_g (lw_at lw_m1 14 rfl) rfl
theorem q493 : (Jvm.Cond.instantiable "MakingHouse$Row" (2 : Nat)) ∈ lw_all := lw_g (lw_at lw_m2 68 rfl) rfl
theorem q495 : (Jvm.Cond.instanceMethod ({ cls := "MakingHouse$Row", name := "<init>", desc := "()V" } : Jvm.MethodName)) ∈ lw_all := lw_g (lw_at lw_m2 70 rfl) rfl
theorem q496 : (Jvm.Cond.code ({ cls := "MakingHouse$Row", name := "<init>", desc := "()V" } : Jvm.MethodName) prog_11_method_1_code (1 : Nat) (Option.none : Option Jvm.ClassFile.FieldType)) ∈ lw_all := lw_g (lw_at lw_m2 71 rfl) rfl
theorem q497 : (Jvm.Cond.methodLink "MakingHouse$Row" (1 : Nat) ({ cls := "java/lang/Object", name := "<init>", desc := "()V" } : Jvm.MethodName)) ∈ lw_all := lw_g (lw_at lw_m2 72 rfl) rfl
theorem q498 : (Jvm.Cond.fieldLink "MakingHouse$Row" (7 : Nat) "MakingHouse$Row" "v" "[I") ∈ lw_all := lw_g (lw_at lw_m2 73 rfl) rfl
theorem q501 : (Jvm.Cond.fieldLink "MakingHouse$Row" (13 : Nat) "MakingHouse$Row" "n" "I") ∈ lw_all := lw_g (lw_at lw_m2 76 rfl) rfl
theorem q504 : (Jvm.Cond.lays "MakingHouse$Row" "MakingHouse$Row" "v" "[I") ∈ lw_all := lw_g (lw_at lw_m2 79 rfl) rfl
theorem q505 : (Jvm.Cond.soleField "MakingHouse$Row" "v") ∈ lw_all := lw_g (lw_at lw_m2 80 rfl) rfl
theorem q506 : (Jvm.Cond.lays "MakingHouse$Row" "MakingHouse$Row" "n" "I") ∈ lw_all := lw_g (lw_at lw_m2 81 rfl) rfl
theorem q507 : (Jvm.Cond.soleField "MakingHouse$Row" "n") ∈ lw_all := lw_g (lw_at lw_m2 82 rfl) rfl
theorem q508 : (Jvm.Cond.superclass "MakingHouse$Row" "java/lang/Object") ∈ lw_all := lw_g (lw_at lw_m2 83 rfl) rfl
theorem q952 : (Jvm.Cond.selects "MakingHouse$Row" ({ cls := "java/lang/Object", name := "getClass", desc := "()Ljava/lang/Class;" } : Jvm.MethodName) ({ cls := "java/lang/Object", name := "getClass", desc := "()Ljava/lang/Class;" } : Jvm.MethodName)) ∈ lw_all := lw_g (lw_at lw_m4 47 rfl) rfl
theorem q1386 : (Jvm.Cond.instanceMethod ({ cls := "MakingHouse$Row", name := "add", desc := "(I)V" } : Jvm.MethodName)) ∈ lw_all := lw_g (lw_at lw_m6 1 rfl) rfl
theorem q1387 : (Jvm.Cond.selects "MakingHouse$Row" ({ cls := "MakingHouse$Row", name := "add", desc := "(I)V" } : Jvm.MethodName) ({ cls := "MakingHouse$Row", name := "add", desc := "(I)V" } : Jvm.MethodName)) ∈ lw_all := lw_g (lw_at lw_m6 2 rfl) rfl
theorem q1388 : (Jvm.Cond.code ({ cls := "MakingHouse$Row", name := "add", desc := "(I)V" } : Jvm.MethodName) prog_11_method_2_code (3 : Nat) (Option.none : Option Jvm.ClassFile.FieldType)) ∈ lw_all := lw_g (lw_at lw_m6 3 rfl) rfl
theorem q1389 : (Jvm.Cond.methodLink "MakingHouse$Row" (17 : Nat) ({ cls := "java/lang/System", name := "arraycopy", desc := "(Ljava/lang/Object;ILjava/lang/Object;II)V" } : Jvm.MethodName)) ∈ lw_all := lw_g (lw_at lw_m6 4 rfl) rfl
theorem q2710 : (Jvm.Cond.castable "MakingHouse$Row" "java/lang/Object") ∈ lw_tbl := lw_at lw_m11 125 rfl
theorem in_X6 : ∀ w ∈ wsX60, w ∈ lw_all := lw_in wsX60 [504, 506] (by decide +kernel) (by decide +kernel)
/-! MakingHouse$Program -/
set_option maxRecDepth 100000
def RX7 : String := "MakingHouse$Program"
def TX7 : u_T := fun k => match k with
  | 0 => ("MakingHouse$Program", "kind", "LMakingHouse$Row;", true)
  | 1 => ("MakingHouse$Program", "number", "LMakingHouse$Row;", true)
  | 2 => ("MakingHouse$Program", "owner", "LMakingHouse$Row;", true)
  | 3 => ("MakingHouse$Program", "told", "LMakingHouse$Row;", true)
  | 4 => ("MakingHouse$Program", "begin", "LMakingHouse$Row;", true)
  | 5 => ("MakingHouse$Program", "place", "LMakingHouse$Row;", true)
  | 6 => ("MakingHouse$Program", "goes", "LMakingHouse$Row;", true)
  | 7 => ("MakingHouse$Program", "letter", "LMakingHouse$Row;", true)
  | 8 => ("MakingHouse$Program", "value", "LMakingHouse$Row;", true)
  | 9 => ("MakingHouse$Program", "letterAt", "LMakingHouse$Row;", true)
  | _ => ("MakingHouse$Program", "step", "LMakingHouse$Row;", true)
def tyX7 : Nat → FieldType := fun k => match k with
  | 0 => .object "MakingHouse$Row"
  | 1 => .object "MakingHouse$Row"
  | 2 => .object "MakingHouse$Row"
  | 3 => .object "MakingHouse$Row"
  | 4 => .object "MakingHouse$Row"
  | 5 => .object "MakingHouse$Row"
  | 6 => .object "MakingHouse$Row"
  | 7 => .object "MakingHouse$Row"
  | 8 => .object "MakingHouse$Row"
  | 9 => .object "MakingHouse$Row"
  | _ => .object "MakingHouse$Row"
abbrev wsX70 : List Cond := u_ws RX7 TX7 11
theorem nmX7 : ∀ a, a < 11 → ∀ b, b < 11 → a ≠ b → (TX7 a).2.1 ≠ (TX7 b).2.1 := by decide +kernel
theorem tyX7_ok : ∀ k, k < 11 → parseFieldDescriptor (TX7 k).2.2.1 = some (tyX7 k) := by decide +kernel
abbrev cX7_init : ByteArray := prog_9_method_1_code
def yX7_init : MethodName := ⟨RX7, "<init>", "()V"⟩
abbrev cX7_clear : ByteArray := prog_9_method_2_code
def yX7_clear : MethodName := ⟨RX7, "clear", "()V"⟩
abbrev cX7_lines : ByteArray := prog_9_method_3_code
def yX7_lines : MethodName := ⟨RX7, "lines", "()I"⟩
theorem q200 : (Jvm.Cond.initialized "MakingHouse$Program") ∈ lw_all := lw_g (lw_at lw_m1 15 rfl) rfl
theorem q502 : (Jvm.Cond.fieldLink "MakingHouse$Program" (46 : Nat) "MakingHouse$Row" "n" "I") ∈ lw_all := lw_g (lw_at lw_m2 77 rfl) rfl
theorem q558 : (Jvm.Cond.instantiable "MakingHouse$Program" (11 : Nat)) ∈ lw_all := lw_g (lw_at lw_m2 133 rfl) rfl
theorem q560 : (Jvm.Cond.instanceMethod ({ cls := "MakingHouse$Program", name := "<init>", desc := "()V" } : Jvm.MethodName)) ∈ lw_all := lw_g (lw_at lw_m2 135 rfl) rfl
theorem q561 : (Jvm.Cond.code ({ cls := "MakingHouse$Program", name := "<init>", desc := "()V" } : Jvm.MethodName) prog_9_method_1_code (1 : Nat) (Option.none : Option Jvm.ClassFile.FieldType)) ∈ lw_all := lw_g (lw_at lw_m2 136 rfl) rfl
theorem q562 : (Jvm.Cond.methodLink "MakingHouse$Program" (1 : Nat) ({ cls := "java/lang/Object", name := "<init>", desc := "()V" } : Jvm.MethodName)) ∈ lw_all := lw_g (lw_at lw_m2 137 rfl) rfl
theorem q563 : (Jvm.Cond.classLink "MakingHouse$Program" (7 : Nat) "MakingHouse$Row") ∈ lw_all := lw_g (lw_at lw_m2 138 rfl) rfl
theorem q564 : (Jvm.Cond.methodLinkNest "MakingHouse$Program" (9 : Nat) ({ cls := "MakingHouse$Row", name := "<init>", desc := "()V" } : Jvm.MethodName) "MakingHouse") ∈ lw_tbl := lw_at lw_m2 139 rfl
theorem q565 : (Jvm.Cond.fieldLink "MakingHouse$Program" (10 : Nat) "MakingHouse$Program" "kind" "LMakingHouse$Row;") ∈ lw_all := lw_g (lw_at lw_m2 140 rfl) rfl
theorem q568 : (Jvm.Cond.fieldLink "MakingHouse$Program" (16 : Nat) "MakingHouse$Program" "number" "LMakingHouse$Row;") ∈ lw_all := lw_g (lw_at lw_m2 143 rfl) rfl
theorem q570 : (Jvm.Cond.fieldLink "MakingHouse$Program" (19 : Nat) "MakingHouse$Program" "owner" "LMakingHouse$Row;") ∈ lw_all := lw_g (lw_at lw_m2 145 rfl) rfl
theorem q572 : (Jvm.Cond.fieldLink "MakingHouse$Program" (22 : Nat) "MakingHouse$Program" "told" "LMakingHouse$Row;") ∈ lw_all := lw_g (lw_at lw_m2 147 rfl) rfl
theorem q575 : (Jvm.Cond.fieldLink "MakingHouse$Program" (25 : Nat) "MakingHouse$Program" "begin" "LMakingHouse$Row;") ∈ lw_all := lw_g (lw_at lw_m2 150 rfl) rfl
theorem q578 : (Jvm.Cond.fieldLink "MakingHouse$Program" (28 : Nat) "MakingHouse$Program" "place" "LMakingHouse$Row;") ∈ lw_all := lw_g (lw_at lw_m2 153 rfl) rfl
theorem q580 : (Jvm.Cond.fieldLink "MakingHouse$Program" (31 : Nat) "MakingHouse$Program" "goes" "LMakingHouse$Row;") ∈ lw_all := lw_g (lw_at lw_m2 155 rfl) rfl
theorem q583 : (Jvm.Cond.fieldLink "MakingHouse$Program" (34 : Nat) "MakingHouse$Program" "letter" "LMakingHouse$Row;") ∈ lw_all := lw_g (lw_at lw_m2 158 rfl) rfl
theorem q586 : (Jvm.Cond.fieldLink "MakingHouse$Program" (37 : Nat) "MakingHouse$Program" "value" "LMakingHouse$Row;") ∈ lw_all := lw_g (lw_at lw_m2 161 rfl) rfl
theorem q589 : (Jvm.Cond.fieldLink "MakingHouse$Program" (40 : Nat) "MakingHouse$Program" "letterAt" "LMakingHouse$Row;") ∈ lw_all := lw_g (lw_at lw_m2 164 rfl) rfl
theorem q591 : (Jvm.Cond.fieldLink "MakingHouse$Program" (43 : Nat) "MakingHouse$Program" "step" "LMakingHouse$Row;") ∈ lw_all := lw_g (lw_at lw_m2 166 rfl) rfl
theorem q594 : (Jvm.Cond.laysFinal "MakingHouse$Program" "MakingHouse$Program" "kind" "LMakingHouse$Row;") ∈ lw_all := lw_g (lw_at lw_m2 169 rfl) rfl
theorem q595 : (Jvm.Cond.soleField "MakingHouse$Program" "kind") ∈ lw_all := lw_g (lw_at lw_m2 170 rfl) rfl
theorem q596 : (Jvm.Cond.laysFinal "MakingHouse$Program" "MakingHouse$Program" "number" "LMakingHouse$Row;") ∈ lw_all := lw_g (lw_at lw_m2 171 rfl) rfl
theorem q597 : (Jvm.Cond.soleField "MakingHouse$Program" "number") ∈ lw_all := lw_g (lw_at lw_m2 172 rfl) rfl
theorem q598 : (Jvm.Cond.laysFinal "MakingHouse$Program" "MakingHouse$Program" "owner" "LMakingHouse$Row;") ∈ lw_all := lw_g (lw_at lw_m2 173 rfl) rfl
theorem q599 : (Jvm.Cond.soleField "MakingHouse$Program" "owner") ∈ lw_all := lw_g (lw_at lw_m2 174 rfl) rfl
theorem q600 : (Jvm.Cond.laysFinal "MakingHouse$Program" "MakingHouse$Program" "told" "LMakingHouse$Row;") ∈ lw_all := lw_g (lw_at lw_m2 175 rfl) rfl
theorem q601 : (Jvm.Cond.soleField "MakingHouse$Program" "told") ∈ lw_all := lw_g (lw_at lw_m2 176 rfl) rfl
theorem q602 : (Jvm.Cond.laysFinal "MakingHouse$Program" "MakingHouse$Program" "begin" "LMakingHouse$Row;") ∈ lw_all := lw_g (lw_at lw_m2 177 rfl) rfl
theorem q603 : (Jvm.Cond.soleField "MakingHouse$Program" "begin") ∈ lw_all := lw_g (lw_at lw_m2 178 rfl) rfl
theorem q604 : (Jvm.Cond.laysFinal "MakingHouse$Program" "MakingHouse$Program" "place" "LMakingHouse$Row;") ∈ lw_all := lw_g (lw_at lw_m2 179 rfl) rfl
theorem q605 : (Jvm.Cond.soleField "MakingHouse$Program" "place") ∈ lw_all := lw_g (lw_at lw_m2 180 rfl) rfl
theorem q606 : (Jvm.Cond.laysFinal "MakingHouse$Program" "MakingHouse$Program" "goes" "LMakingHouse$Row;") ∈ lw_all := lw_g (lw_at lw_m2 181 rfl) rfl
theorem q607 : (Jvm.Cond.soleField "MakingHouse$Program" "goes") ∈ lw_all := lw_g (lw_at lw_m2 182 rfl) rfl
theorem q608 : (Jvm.Cond.laysFinal "MakingHouse$Program" "MakingHouse$Program" "letter" "LMakingHouse$Row;") ∈ lw_all := lw_g (lw_at lw_m2 183 rfl) rfl
theorem q609 : (Jvm.Cond.soleField "MakingHouse$Program" "letter") ∈ lw_all := lw_g (lw_at lw_m2 184 rfl) rfl
theorem q610 : (Jvm.Cond.laysFinal "MakingHouse$Program" "MakingHouse$Program" "value" "LMakingHouse$Row;") ∈ lw_all := lw_g (lw_at lw_m2 185 rfl) rfl
theorem q611 : (Jvm.Cond.soleField "MakingHouse$Program" "value") ∈ lw_all := lw_g (lw_at lw_m2 186 rfl) rfl
theorem q612 : (Jvm.Cond.laysFinal "MakingHouse$Program" "MakingHouse$Program" "letterAt" "LMakingHouse$Row;") ∈ lw_all := lw_g (lw_at lw_m2 187 rfl) rfl
theorem q613 : (Jvm.Cond.soleField "MakingHouse$Program" "letterAt") ∈ lw_all := lw_g (lw_at lw_m2 188 rfl) rfl
theorem q614 : (Jvm.Cond.laysFinal "MakingHouse$Program" "MakingHouse$Program" "step" "LMakingHouse$Row;") ∈ lw_all := lw_g (lw_at lw_m2 189 rfl) rfl
theorem q615 : (Jvm.Cond.soleField "MakingHouse$Program" "step") ∈ lw_all := lw_g (lw_at lw_m2 190 rfl) rfl
theorem q616 : (Jvm.Cond.superclass "MakingHouse$Program" "java/lang/Object") ∈ lw_all := lw_g (lw_at lw_m2 191 rfl) rfl
theorem q950 : (Jvm.Cond.selects "MakingHouse$Program" ({ cls := "java/lang/Object", name := "getClass", desc := "()Ljava/lang/Class;" } : Jvm.MethodName) ({ cls := "java/lang/Object", name := "getClass", desc := "()Ljava/lang/Class;" } : Jvm.MethodName)) ∈ lw_all := lw_g (lw_at lw_m4 45 rfl) rfl
theorem q1296 : (Jvm.Cond.instanceMethod ({ cls := "MakingHouse$Program", name := "clear", desc := "()V" } : Jvm.MethodName)) ∈ lw_all := lw_g (lw_at lw_m5 151 rfl) rfl
theorem q1297 : (Jvm.Cond.selects "MakingHouse$Program" ({ cls := "MakingHouse$Program", name := "clear", desc := "()V" } : Jvm.MethodName) ({ cls := "MakingHouse$Program", name := "clear", desc := "()V" } : Jvm.MethodName)) ∈ lw_all := lw_g (lw_at lw_m5 152 rfl) rfl
theorem q1298 : (Jvm.Cond.code ({ cls := "MakingHouse$Program", name := "clear", desc := "()V" } : Jvm.MethodName) prog_9_method_2_code (1 : Nat) (Option.none : Option Jvm.ClassFile.FieldType)) ∈ lw_all := lw_g (lw_at lw_m5 153 rfl) rfl
theorem q1403 : (Jvm.Cond.instanceMethod ({ cls := "MakingHouse$Program", name := "lines", desc := "()I" } : Jvm.MethodName)) ∈ lw_all := lw_g (lw_at lw_m6 18 rfl) rfl
theorem q1404 : (Jvm.Cond.selects "MakingHouse$Program" ({ cls := "MakingHouse$Program", name := "lines", desc := "()I" } : Jvm.MethodName) ({ cls := "MakingHouse$Program", name := "lines", desc := "()I" } : Jvm.MethodName)) ∈ lw_all := lw_g (lw_at lw_m6 19 rfl) rfl
theorem q1405 : (Jvm.Cond.code ({ cls := "MakingHouse$Program", name := "lines", desc := "()I" } : Jvm.MethodName) prog_9_method_3_code (1 : Nat) (Option.some Jvm.ClassFile.FieldType.int)) ∈ lw_all := lw_g (lw_at lw_m6 20 rfl) rfl
theorem q2711 : (Jvm.Cond.castable "MakingHouse$Program" "java/lang/Object") ∈ lw_tbl := lw_at lw_m11 126 rfl
theorem in_X7 : ∀ w ∈ wsX70, w ∈ lw_all := lw_in wsX70 [594, 596, 598, 600, 602, 604, 606, 608, 610, 612, 614] (by decide +kernel) (by decide +kernel)
/-! MakingHouseModel -/
set_option maxRecDepth 100000
def RX8 : String := "MakingHouseModel"
def TX8 : u_T := fun k => match k with
  | 0 => ("MakingHouseModel", "kinds", "[I", true)
  | 1 => ("MakingHouseModel", "numbers", "[I", true)
  | 2 => ("MakingHouseModel", "weights", "[I", true)
  | 3 => ("MakingHouseModel", "solids", "I", false)
  | 4 => ("MakingHouseModel", "sizes", "[I", true)
  | 5 => ("MakingHouseModel", "sizeCount", "I", false)
  | 6 => ("MakingHouseModel", "bits", "[J", true)
  | 7 => ("MakingHouseModel", "in", "[Z", true)
  | 8 => ("MakingHouseModel", "filled", "[Z", true)
  | 9 => ("MakingHouseModel", "marks", "[I", true)
  | 10 => ("MakingHouseModel", "cols", "I", false)
  | 11 => ("MakingHouseModel", "rows", "I", false)
  | 12 => ("MakingHouseModel", "inCount", "I", false)
  | 13 => ("MakingHouseModel", "islands", "I", false)
  | 14 => ("MakingHouseModel", "holes", "I", false)
  | 15 => ("MakingHouseModel", "filledCount", "I", false)
  | 16 => ("MakingHouseModel", "runCount", "I", false)
  | 17 => ("MakingHouseModel", "runRows", "[I", true)
  | 18 => ("MakingHouseModel", "runFirsts", "[I", true)
  | 19 => ("MakingHouseModel", "runLasts", "[I", true)
  | 20 => ("MakingHouseModel", "stockN", "I", false)
  | 21 => ("MakingHouseModel", "stockM", "I", false)
  | 22 => ("MakingHouseModel", "pitchOf", "I", false)
  | 23 => ("MakingHouseModel", "begun", "I", false)
  | 24 => ("MakingHouseModel", "heights", "[I", true)
  | 25 => ("MakingHouseModel", "clamps", "[I", true)
  | 26 => ("MakingHouseModel", "clampCount", "I", false)
  | 27 => ("MakingHouseModel", "partSolid", "I", false)
  | 28 => ("MakingHouseModel", "tops", "[I", true)
  | 29 => ("MakingHouseModel", "hasTops", "Z", false)
  | 30 => ("MakingHouseModel", "toolKinds", "[I", true)
  | 31 => ("MakingHouseModel", "radii", "[I", true)
  | 32 => ("MakingHouseModel", "lengths", "[I", true)
  | 33 => ("MakingHouseModel", "holders", "[I", true)
  | 34 => ("MakingHouseModel", "text", "LMakingHouseModel$Text;", false)
  | 35 => ("MakingHouseModel", "spare", "LMakingHouseModel$Text;", false)
  | 36 => ("MakingHouseModel", "hasProgram", "Z", false)
  | 37 => ("MakingHouseModel", "t", "LMakingHouseModel$Text;", false)
  | 38 => ("MakingHouseModel", "at", "I", false)
  | 39 => ("MakingHouseModel", "depth", "I", false)
  | 40 => ("MakingHouseModel", "tray", "[B", true)
  | 41 => ("MakingHouseModel", "trayed", "I", false)
  | 42 => ("MakingHouseModel", "fed", "I", false)
  | 43 => ("MakingHouseModel", "stop", "Ljava/lang/IllegalStateException;", true)
  | 44 => ("MakingHouseModel", "faultPlace", "I", false)
  | 45 => ("MakingHouseModel", "laterPlace", "I", false)
  | 46 => ("MakingHouseModel", "place", "I", false)
  | 47 => ("MakingHouseModel", "counts", "[I", true)
  | 48 => ("MakingHouseModel", "openCount", "I", false)
  | 49 => ("MakingHouseModel", "opens", "[I", true)
  | 50 => ("MakingHouseModel", "variables", "[J", true)
  | 51 => ("MakingHouseModel", "alarm", "I", false)
  | 52 => ("MakingHouseModel", "x", "I", false)
  | 53 => ("MakingHouseModel", "y", "I", false)
  | 54 => ("MakingHouseModel", "z", "I", false)
  | 55 => ("MakingHouseModel", "frame", "I", false)
  | 56 => ("MakingHouseModel", "turn", "I", false)
  | 57 => ("MakingHouseModel", "toolNow", "I", false)
  | 58 => ("MakingHouseModel", "feedNow", "I", false)
  | 59 => ("MakingHouseModel", "mode", "I", false)
  | 60 => ("MakingHouseModel", "spindle", "Z", false)
  | 61 => ("MakingHouseModel", "adds", "Z", false)
  | 62 => ("MakingHouseModel", "toR", "Z", false)
  | 63 => ("MakingHouseModel", "toolTold", "J", false)
  | 64 => ("MakingHouseModel", "offsets", "[J", true)
  | 65 => ("MakingHouseModel", "hasZ", "Z", false)
  | 66 => ("MakingHouseModel", "hasR", "Z", false)
  | 67 => ("MakingHouseModel", "hasQ", "Z", false)
  | 68 => ("MakingHouseModel", "cycleZ", "J", false)
  | 69 => ("MakingHouseModel", "cycleR", "J", false)
  | 70 => ("MakingHouseModel", "cycleQ", "J", false)
  | 71 => ("MakingHouseModel", "fuel", "I", false)
  | 72 => ("MakingHouseModel", "steps", "I", false)
  | 73 => ("MakingHouseModel", "ticks", "I", false)
  | 74 => ("MakingHouseModel", "alarmLine", "I", false)
  | 75 => ("MakingHouseModel", "hasRun", "Z", false)
  | 76 => ("MakingHouseModel", "backs", "[I", true)
  | 77 => ("MakingHouseModel", "lefts", "[I", true)
  | 78 => ("MakingHouseModel", "starts", "[I", true)
  | 79 => ("MakingHouseModel", "calls", "I", false)
  | 80 => ("MakingHouseModel", "line", "I", false)
  | 81 => ("MakingHouseModel", "nextLine", "I", false)
  | 82 => ("MakingHouseModel", "isOver", "Z", false)
  | 83 => ("MakingHouseModel", "has", "[Z", true)
  | 84 => ("MakingHouseModel", "told", "[J", true)
  | 85 => ("MakingHouseModel", "gs", "[I", true)
  | 86 => ("MakingHouseModel", "ms", "[I", true)
  | 87 => ("MakingHouseModel", "gCount", "I", false)
  | 88 => ("MakingHouseModel", "mCount", "I", false)
  | 89 => ("MakingHouseModel", "moveTicks", "[I", true)
  | 90 => ("MakingHouseModel", "moveFeeds", "[I", true)
  | 91 => ("MakingHouseModel", "moveBys", "[I", true)
  | 92 => ("MakingHouseModel", "firstSteps", "[B", true)
  | 93 => ("MakingHouseModel", "lastSteps", "[B", true)
  | 94 => ("MakingHouseModel", "moves", "I", false)
  | 95 => ("MakingHouseModel", "way", "[B", true)
  | 96 => ("MakingHouseModel", "here", "[I", true)
  | 97 => ("MakingHouseModel", "acceleration", "I", false)
  | _ => ("MakingHouseModel", "speeds", "[I", true)
def tyX8 : Nat → FieldType := fun k => match k with
  | 0 => .array .int
  | 1 => .array .int
  | 2 => .array .int
  | 3 => .int
  | 4 => .array .int
  | 5 => .int
  | 6 => .array .long
  | 7 => .array .boolean
  | 8 => .array .boolean
  | 9 => .array .int
  | 10 => .int
  | 11 => .int
  | 12 => .int
  | 13 => .int
  | 14 => .int
  | 15 => .int
  | 16 => .int
  | 17 => .array .int
  | 18 => .array .int
  | 19 => .array .int
  | 20 => .int
  | 21 => .int
  | 22 => .int
  | 23 => .int
  | 24 => .array .int
  | 25 => .array .int
  | 26 => .int
  | 27 => .int
  | 28 => .array .int
  | 29 => .boolean
  | 30 => .array .int
  | 31 => .array .int
  | 32 => .array .int
  | 33 => .array .int
  | 34 => .object "MakingHouseModel$Text"
  | 35 => .object "MakingHouseModel$Text"
  | 36 => .boolean
  | 37 => .object "MakingHouseModel$Text"
  | 38 => .int
  | 39 => .int
  | 40 => .array .byte
  | 41 => .int
  | 42 => .int
  | 43 => .object "java/lang/IllegalStateException"
  | 44 => .int
  | 45 => .int
  | 46 => .int
  | 47 => .array .int
  | 48 => .int
  | 49 => .array .int
  | 50 => .array .long
  | 51 => .int
  | 52 => .int
  | 53 => .int
  | 54 => .int
  | 55 => .int
  | 56 => .int
  | 57 => .int
  | 58 => .int
  | 59 => .int
  | 60 => .boolean
  | 61 => .boolean
  | 62 => .boolean
  | 63 => .long
  | 64 => .array .long
  | 65 => .boolean
  | 66 => .boolean
  | 67 => .boolean
  | 68 => .long
  | 69 => .long
  | 70 => .long
  | 71 => .int
  | 72 => .int
  | 73 => .int
  | 74 => .int
  | 75 => .boolean
  | 76 => .array .int
  | 77 => .array .int
  | 78 => .array .int
  | 79 => .int
  | 80 => .int
  | 81 => .int
  | 82 => .boolean
  | 83 => .array .boolean
  | 84 => .array .long
  | 85 => .array .int
  | 86 => .array .int
  | 87 => .int
  | 88 => .int
  | 89 => .array .int
  | 90 => .array .int
  | 91 => .array .int
  | 92 => .array .byte
  | 93 => .array .byte
  | 94 => .int
  | 95 => .array .byte
  | 96 => .array .int
  | 97 => .int
  | _ => .array .int
abbrev wsX80 : List Cond := u_ws RX8 TX8 99
set_option maxRecDepth 100000 in
theorem nmX8 : ∀ a, a < 99 → ∀ b, b < 99 → a ≠ b → (TX8 a).2.1 ≠ (TX8 b).2.1 := by decide +kernel
set_option maxRecDepth 100000 in
theorem tyX8_ok : ∀ k, k < 99 → parseFieldDescriptor (TX8 k).2.2.1 = some (tyX8 k) := by decide +kernel
abbrev cX8_init : ByteArray := prog_19_method_1_code
def yX8_init : MethodName := ⟨RX8, "<init>", "()V"⟩
abbrev cX8_size : ByteArray := prog_19_method_3_code
def yX8_size : MethodName := ⟨RX8, "size", "(I)I"⟩
abbrev cX8_solid : ByteArray := prog_19_method_7_code
def yX8_solid : MethodName := ⟨RX8, "solid", "(I)I"⟩
abbrev cX8_made : ByteArray := prog_19_method_5_code
def yX8_made : MethodName := ⟨RX8, "made", "(II)I"⟩
abbrev cX8_join : ByteArray := prog_19_method_8_code
def yX8_join : MethodName := ⟨RX8, "join", "(III)I"⟩
abbrev cX8_isSolid : ByteArray := prog_19_method_4_code
def yX8_isSolid : MethodName := ⟨RX8, "isSolid", "(I)Z"⟩
abbrev cX8_moved : ByteArray := prog_19_method_9_code
def yX8_moved : MethodName := ⟨RX8, "moved", "(I)I"⟩
abbrev cX8_turned : ByteArray := prog_19_method_10_code
def yX8_turned : MethodName := ⟨RX8, "turned", "(I)I"⟩
abbrev cX8_inside : ByteArray := prog_19_method_15_code
def yX8_inside : MethodName := ⟨RX8, "inside", "(IIII)Z"⟩
abbrev cX8_isNear : ByteArray := prog_19_method_14_code
def yX8_isNear : MethodName := ⟨RX8, "isNear", "(I)Z"⟩
abbrev cX8_isIn : ByteArray := prog_19_method_13_code
def yX8_isIn : MethodName := ⟨RX8, "isIn", "(IJJJ)Z"⟩
abbrev cX8_number : ByteArray := prog_19_method_6_code
def yX8_number : MethodName := ⟨RX8, "number", "(II)I"⟩
abbrev cX8_isInKind : ByteArray := prog_19_method_12_code
def yX8_isInKind : MethodName := ⟨RX8, "isInKind", "(IJJJ)Z"⟩
abbrev cX8_square : ByteArray := prog_19_method_11_code
def yX8_square : MethodName := ⟨RX8, "square", "(J)J"⟩
abbrev cX8_top : ByteArray := prog_19_method_18_code
def yX8_top : MethodName := ⟨RX8, "top", "(III)I"⟩
abbrev cX8_topOf : ByteArray := prog_19_method_17_code
def yX8_topOf : MethodName := ⟨RX8, "topOf", "(III)I"⟩
abbrev cX8_rise : ByteArray := prog_19_method_16_code
def yX8_rise : MethodName := ⟨RX8, "rise", "(IJJII)V"⟩
abbrev cX8_layer : ByteArray := prog_19_method_20_code
def yX8_layer : MethodName := ⟨RX8, "layer", "(IIIIII)I"⟩
abbrev cX8_sets : ByteArray := prog_19_method_21_code
def yX8_sets : MethodName := ⟨RX8, "sets", "(Z)I"⟩
abbrev cX8_grow : ByteArray := prog_19_method_22_code
def yX8_grow : MethodName := ⟨RX8, "grow", "(IIZ)Z"⟩
abbrev cX8_touches : ByteArray := prog_19_method_23_code
def yX8_touches : MethodName := ⟨RX8, "touches", "(IIZ)Z"⟩
abbrev cX8_fill : ByteArray := prog_19_method_24_code
def yX8_fill : MethodName := ⟨RX8, "fill", "(I)V"⟩
abbrev cX8_isInCell : ByteArray := prog_19_method_19_code
def yX8_isInCell : MethodName := ⟨RX8, "isInCell", "(II)Z"⟩
abbrev cX8_findRuns : ByteArray := prog_19_method_25_code
def yX8_findRuns : MethodName := ⟨RX8, "findRuns", "()V"⟩
abbrev cX8_layered : ByteArray := prog_19_method_26_code
def yX8_layered : MethodName := ⟨RX8, "layered", "(I)I"⟩
abbrev cX8_run : ByteArray := prog_19_method_27_code
def yX8_run : MethodName := ⟨RX8, "run", "(II)I"⟩
abbrev cX8_stock : ByteArray := prog_19_method_28_code
def yX8_stock : MethodName := ⟨RX8, "stock", "(IIII)I"⟩
abbrev cX8_clamp : ByteArray := prog_19_method_29_code
def yX8_clamp : MethodName := ⟨RX8, "clamp", "(IIIII)I"⟩
abbrev cX8_part : ByteArray := prog_19_method_30_code
def yX8_part : MethodName := ⟨RX8, "part", "(I)I"⟩
abbrev cX8_height : ByteArray := prog_19_method_31_code
def yX8_height : MethodName := ⟨RX8, "height", "(II)I"⟩
abbrev cX8_stocked : ByteArray := prog_19_method_34_code
def yX8_stocked : MethodName := ⟨RX8, "stocked", "(I)J"⟩
abbrev cX8_findTops : ByteArray := prog_19_method_33_code
def yX8_findTops : MethodName := ⟨RX8, "findTops", "()V"⟩
abbrev cX8_standsAt : ByteArray := prog_19_method_32_code
def yX8_standsAt : MethodName := ⟨RX8, "standsAt", "(I)I"⟩
abbrev cX8_tool : ByteArray := prog_19_method_35_code
def yX8_tool : MethodName := ⟨RX8, "tool", "(IIIII)I"⟩
abbrev cX8_feed : ByteArray := prog_19_method_40_code
def yX8_feed : MethodName := ⟨RX8, "feed", "(IIIII)I"⟩
abbrev cX8_four : ByteArray := prog_19_method_39_code
def yX8_four : MethodName := ⟨RX8, "four", "(I)V"⟩
abbrev cX8_end : ByteArray := prog_19_method_41_code
def yX8_end : MethodName := ⟨RX8, "end", "(I)I"⟩
abbrev cX8_program : ByteArray := prog_19_method_78_code
def yX8_program : MethodName := ⟨RX8, "program", "()I"⟩
abbrev cX8_cutLine : ByteArray := prog_19_method_47_code
def yX8_cutLine : MethodName := ⟨RX8, "cutLine", "(I)I"⟩
abbrev cX8_behindBlanks : ByteArray := prog_19_method_46_code
def yX8_behindBlanks : MethodName := ⟨RX8, "behindBlanks", "(I)I"⟩
abbrev cX8_look : ByteArray := prog_19_method_42_code
def yX8_look : MethodName := ⟨RX8, "look", "(I)I"⟩
abbrev cX8_one : ByteArray := prog_19_method_48_code
def yX8_one : MethodName := ⟨RX8, "one", "(I)I"⟩
abbrev cX8_isDigit : ByteArray := prog_19_method_43_code
def yX8_isDigit : MethodName := ⟨RX8, "isDigit", "(I)Z"⟩
abbrev cX8_numberEnd : ByteArray := prog_19_method_49_code
def yX8_numberEnd : MethodName := ⟨RX8, "numberEnd", "(I)I"⟩
abbrev cX8_token : ByteArray := prog_19_method_45_code
def yX8_token : MethodName := ⟨RX8, "token", "(IIIZ)V"⟩
abbrev cX8_isCapital : ByteArray := prog_19_method_44_code
def yX8_isCapital : MethodName := ⟨RX8, "isCapital", "(I)Z"⟩
abbrev cX8_word : ByteArray := prog_19_method_51_code
def yX8_word : MethodName := ⟨RX8, "word", "(I)I"⟩
abbrev cX8_isAt : ByteArray := prog_19_method_50_code
def yX8_isAt : MethodName := ⟨RX8, "isAt", "(III)Z"⟩
abbrev cX8_lookLine : ByteArray := prog_19_method_72_code
def yX8_lookLine : MethodName := ⟨RX8, "lookLine", "(I)V"⟩
abbrev cX8_isLetter : ByteArray := prog_19_method_55_code
def yX8_isLetter : MethodName := ⟨RX8, "isLetter", "(I)Z"⟩
abbrev cX8_kind : ByteArray := prog_19_method_52_code
def yX8_kind : MethodName := ⟨RX8, "kind", "()I"⟩
abbrev cX8_whole : ByteArray := prog_19_method_59_code
def yX8_whole : MethodName := ⟨RX8, "whole", "()V"⟩
abbrev cX8_expect : ByteArray := prog_19_method_57_code
def yX8_expect : MethodName := ⟨RX8, "expect", "(Z)V"⟩
abbrev cX8_wrong : ByteArray := prog_19_method_56_code
def yX8_wrong : MethodName := ⟨RX8, "wrong", "()Ljava/lang/IllegalStateException;"⟩
abbrev cX8_later : ByteArray := prog_19_method_58_code
def yX8_later : MethodName := ⟨RX8, "later", "(I)V"⟩
abbrev cX8_lookRest : ByteArray := prog_19_method_73_code
def yX8_lookRest : MethodName := ⟨RX8, "lookRest", "(I)V"⟩
abbrev cX8_isSign : ByteArray := prog_19_method_53_code
def yX8_isSign : MethodName := ⟨RX8, "isSign", "(I)Z"⟩
abbrev cX8_lookPlace : ByteArray := prog_19_method_62_code
def yX8_lookPlace : MethodName := ⟨RX8, "lookPlace", "()V"⟩
abbrev cX8_bracket : ByteArray := prog_19_method_61_code
def yX8_bracket : MethodName := ⟨RX8, "bracket", "()V"⟩
abbrev cX8_deeper : ByteArray := prog_19_method_60_code
def yX8_deeper : MethodName := ⟨RX8, "deeper", "()V"⟩
abbrev cX8_lookTest : ByteArray := prog_19_method_69_code
def yX8_lookTest : MethodName := ⟨RX8, "lookTest", "()V"⟩
abbrev cX8_lookSum : ByteArray := prog_19_method_68_code
def yX8_lookSum : MethodName := ⟨RX8, "lookSum", "()V"⟩
abbrev cX8_lookFactor : ByteArray := prog_19_method_64_code
def yX8_lookFactor : MethodName := ⟨RX8, "lookFactor", "()V"⟩
abbrev cX8_lookItem : ByteArray := prog_19_method_63_code
def yX8_lookItem : MethodName := ⟨RX8, "lookItem", "()V"⟩
abbrev cX8_isTimes : ByteArray := prog_19_method_65_code
def yX8_isTimes : MethodName := ⟨RX8, "isTimes", "()Z"⟩
abbrev cX8_isWord : ByteArray := prog_19_method_54_code
def yX8_isWord : MethodName := ⟨RX8, "isWord", "(I)Z"⟩
abbrev cX8_isPlus : ByteArray := prog_19_method_66_code
def yX8_isPlus : MethodName := ⟨RX8, "isPlus", "()Z"⟩
abbrev cX8_isRelation : ByteArray := prog_19_method_67_code
def yX8_isRelation : MethodName := ⟨RX8, "isRelation", "()Z"⟩
abbrev cX8_lookDo : ByteArray := prog_19_method_74_code
def yX8_lookDo : MethodName := ⟨RX8, "lookDo", "(II)V"⟩
abbrev cX8_lookEnd : ByteArray := prog_19_method_75_code
def yX8_lookEnd : MethodName := ⟨RX8, "lookEnd", "(II)V"⟩
abbrev cX8_lookWords : ByteArray := prog_19_method_71_code
def yX8_lookWords : MethodName := ⟨RX8, "lookWords", "()V"⟩
abbrev cX8_isWordLetter : ByteArray := prog_19_method_70_code
def yX8_isWordLetter : MethodName := ⟨RX8, "isWordLetter", "(I)Z"⟩
abbrev cX8_behindAll : ByteArray := prog_19_method_77_code
def yX8_behindAll : MethodName := ⟨RX8, "behindAll", "()V"⟩
abbrev cX8_lineOf : ByteArray := prog_19_method_76_code
def yX8_lineOf : MethodName := ⟨RX8, "lineOf", "(II)I"⟩
abbrev cX8_place : ByteArray := prog_19_method_79_code
def yX8_place : MethodName := ⟨RX8, "place", "()I"⟩
abbrev cX8_start : ByteArray := prog_19_method_91_code
def yX8_start : MethodName := ⟨RX8, "start", "(I)I"⟩
abbrev cX8_begin : ByteArray := prog_19_method_92_code
def yX8_begin : MethodName := ⟨RX8, "begin", "()V"⟩
abbrev cX8_forgetCycle : ByteArray := prog_19_method_93_code
def yX8_forgetCycle : MethodName := ⟨RX8, "forgetCycle", "()V"⟩
abbrev cX8_back : ByteArray := prog_19_method_94_code
def yX8_back : MethodName := ⟨RX8, "back", "()V"⟩
abbrev cX8_doLine : ByteArray := prog_19_method_95_code
def yX8_doLine : MethodName := ⟨RX8, "doLine", "()V"⟩
abbrev cX8_alarmed : ByteArray := prog_19_method_80_code
def yX8_alarmed : MethodName := ⟨RX8, "alarmed", "(I)Ljava/lang/IllegalStateException;"⟩
abbrev cX8_variableAt : ByteArray := prog_19_method_83_code
def yX8_variableAt : MethodName := ⟨RX8, "variableAt", "()I"⟩
abbrev cX8_bracketed : ByteArray := prog_19_method_82_code
def yX8_bracketed : MethodName := ⟨RX8, "bracketed", "()J"⟩
abbrev cX8_test : ByteArray := prog_19_method_89_code
def yX8_test : MethodName := ⟨RX8, "test", "()J"⟩
abbrev cX8_sum : ByteArray := prog_19_method_88_code
def yX8_sum : MethodName := ⟨RX8, "sum", "()J"⟩
abbrev cX8_product : ByteArray := prog_19_method_86_code
def yX8_product : MethodName := ⟨RX8, "product", "()J"⟩
abbrev cX8_factor : ByteArray := prog_19_method_85_code
def yX8_factor : MethodName := ⟨RX8, "factor", "()J"⟩
abbrev cX8_item : ByteArray := prog_19_method_84_code
def yX8_item : MethodName := ⟨RX8, "item", "()J"⟩
abbrev cX8_down : ByteArray := prog_19_method_116_code
def yX8_down : MethodName := ⟨RX8, "down", "(JJ)J"⟩
abbrev cX8_fits : ByteArray := prog_19_method_81_code
def yX8_fits : MethodName := ⟨RX8, "fits", "(J)J"⟩
abbrev cX8_root : ByteArray := prog_19_method_37_code
def yX8_root : MethodName := ⟨RX8, "root", "(J)J"⟩
abbrev cX8_times : ByteArray := prog_19_method_87_code
def yX8_times : MethodName := ⟨RX8, "times", "(JJ)J"⟩
abbrev cX8_words : ByteArray := prog_19_method_97_code
def yX8_words : MethodName := ⟨RX8, "words", "()V"⟩
abbrev cX8_value : ByteArray := prog_19_method_90_code
def yX8_value : MethodName := ⟨RX8, "value", "()J"⟩
abbrev cX8_isWholeLetter : ByteArray := prog_19_method_96_code
def yX8_isWholeLetter : MethodName := ⟨RX8, "isWholeLetter", "(I)Z"⟩
abbrev cX8_areAllowed : ByteArray := prog_19_method_100_code
def yX8_areAllowed : MethodName := ⟨RX8, "areAllowed", "()Z"⟩
abbrev cX8_groupOfG : ByteArray := prog_19_method_98_code
def yX8_groupOfG : MethodName := ⟨RX8, "groupOfG", "(I)I"⟩
abbrev cX8_groupOfM : ByteArray := prog_19_method_99_code
def yX8_groupOfM : MethodName := ⟨RX8, "groupOfM", "(I)I"⟩
abbrev cX8_machineWords : ByteArray := prog_19_method_103_code
def yX8_machineWords : MethodName := ⟨RX8, "machineWords", "()V"⟩
abbrev cX8_hasM : ByteArray := prog_19_method_102_code
def yX8_hasM : MethodName := ⟨RX8, "hasM", "(I)Z"⟩
abbrev cX8_isTool : ByteArray := prog_19_method_36_code
def yX8_isTool : MethodName := ⟨RX8, "isTool", "(J)Z"⟩
abbrev cX8_settings : ByteArray := prog_19_method_106_code
def yX8_settings : MethodName := ⟨RX8, "settings", "()V"⟩
abbrev cX8_hasG : ByteArray := prog_19_method_101_code
def yX8_hasG : MethodName := ⟨RX8, "hasG", "(I)Z"⟩
abbrev cX8_unitsOf : ByteArray := prog_19_method_105_code
def yX8_unitsOf : MethodName := ⟨RX8, "unitsOf", "(I)J"⟩
abbrev cX8_units : ByteArray := prog_19_method_104_code
def yX8_units : MethodName := ⟨RX8, "units", "(J)J"⟩
abbrev cX8_motions : ByteArray := prog_19_method_108_code
def yX8_motions : MethodName := ⟨RX8, "motions", "()V"⟩
abbrev cX8_tellCycle : ByteArray := prog_19_method_111_code
def yX8_tellCycle : MethodName := ⟨RX8, "tellCycle", "()V"⟩
abbrev cX8_placeIn : ByteArray := prog_19_method_110_code
def yX8_placeIn : MethodName := ⟨RX8, "placeIn", "(I)J"⟩
abbrev cX8_offset : ByteArray := prog_19_method_107_code
def yX8_offset : MethodName := ⟨RX8, "offset", "(I)J"⟩
abbrev cX8_turnedX : ByteArray := prog_19_method_109_code
def yX8_turnedX : MethodName := ⟨RX8, "turnedX", "(JJI)J"⟩
abbrev cX8_drill : ByteArray := prog_19_method_112_code
def yX8_drill : MethodName := ⟨RX8, "drill", "(JJ)V"⟩
abbrev cX8_go : ByteArray := prog_19_method_119_code
def yX8_go : MethodName := ⟨RX8, "go", "(JJJZ)V"⟩
abbrev cX8_mayGo : ByteArray := prog_19_method_115_code
def yX8_mayGo : MethodName := ⟨RX8, "mayGo", "(JJJZ)V"⟩
abbrev cX8_amount : ByteArray := prog_19_method_117_code
def yX8_amount : MethodName := ⟨RX8, "amount", "(J)J"⟩
abbrev cX8_remember : ByteArray := prog_19_method_120_code
def yX8_remember : MethodName := ⟨RX8, "remember", "()V"⟩
abbrev cX8_partWay : ByteArray := prog_19_method_118_code
def yX8_partWay : MethodName := ⟨RX8, "partWay", "(IJII)I"⟩
abbrev cX8_tick : ByteArray := prog_19_method_127_code
def yX8_tick : MethodName := ⟨RX8, "tick", "(IIIZ)V"⟩
abbrev cX8_meets : ByteArray := prog_19_method_131_code
def yX8_meets : MethodName := ⟨RX8, "meets", "(IIIIZZZ)Z"⟩
abbrev cX8_firstNear : ByteArray := prog_19_method_129_code
def yX8_firstNear : MethodName := ⟨RX8, "firstNear", "(II)I"⟩
abbrev cX8_lastNear : ByteArray := prog_19_method_130_code
def yX8_lastNear : MethodName := ⟨RX8, "lastNear", "(III)I"⟩
abbrev cX8_away : ByteArray := prog_19_method_128_code
def yX8_away : MethodName := ⟨RX8, "away", "(IIII)J"⟩
abbrev cX8_bulge : ByteArray := prog_19_method_38_code
def yX8_bulge : MethodName := ⟨RX8, "bulge", "(II)I"⟩
abbrev cX8_cut : ByteArray := prog_19_method_132_code
def yX8_cut : MethodName := ⟨RX8, "cut", "(III)V"⟩
abbrev cX8_stepped : ByteArray := prog_19_method_121_code
def yX8_stepped : MethodName := ⟨RX8, "stepped", "(Z)V"⟩
abbrev cX8_keepMove : ByteArray := prog_19_method_122_code
def yX8_keepMove : MethodName := ⟨RX8, "keepMove", "(IIIII)V"⟩
abbrev cX8_arc : ByteArray := prog_19_method_125_code
def yX8_arc : MethodName := ⟨RX8, "arc", "(JJJ)V"⟩
abbrev cX8_wayOf : ByteArray := prog_19_method_126_code
def yX8_wayOf : MethodName := ⟨RX8, "wayOf", "(JJJJJZ)I"⟩
abbrev cX8_eastOf : ByteArray := prog_19_method_123_code
def yX8_eastOf : MethodName := ⟨RX8, "eastOf", "(I)I"⟩
abbrev cX8_northOf : ByteArray := prog_19_method_124_code
def yX8_northOf : MethodName := ⟨RX8, "northOf", "(I)I"⟩
abbrev cX8_ends : ByteArray := prog_19_method_113_code
def yX8_ends : MethodName := ⟨RX8, "ends", "()V"⟩
abbrev cX8_subprogram : ByteArray := prog_19_method_114_code
def yX8_subprogram : MethodName := ⟨RX8, "subprogram", "(J)I"⟩
abbrev cX8_told : ByteArray := prog_19_method_133_code
def yX8_told : MethodName := ⟨RX8, "told", "(I)I"⟩
abbrev cX8_variable : ByteArray := prog_19_method_134_code
def yX8_variable : MethodName := ⟨RX8, "variable", "(I)J"⟩
abbrev cX8_move : ByteArray := prog_19_method_135_code
def yX8_move : MethodName := ⟨RX8, "move", "(II)I"⟩
abbrev cX8_acceleration : ByteArray := prog_19_method_136_code
def yX8_acceleration : MethodName := ⟨RX8, "acceleration", "(I)Z"⟩
abbrev cX8_speed : ByteArray := prog_19_method_140_code
def yX8_speed : MethodName := ⟨RX8, "speed", "(I)I"⟩
abbrev cX8_limit : ByteArray := prog_19_method_137_code
def yX8_limit : MethodName := ⟨RX8, "limit", "(I)I"⟩
abbrev cX8_most : ByteArray := prog_19_method_138_code
def yX8_most : MethodName := ⟨RX8, "most", "(II)I"⟩
abbrev cX8_lowered : ByteArray := prog_19_method_139_code
def yX8_lowered : MethodName := ⟨RX8, "lowered", "(II)Z"⟩
abbrev cX8_strays : ByteArray := prog_19_method_141_code
def yX8_strays : MethodName := ⟨RX8, "strays", "()I"⟩
theorem q201 : (Jvm.Cond.initialized "MakingHouseModel") ∈ lw_all := lw_g (lw_at lw_m1 16 rfl) rfl
theorem q958 : (Jvm.Cond.selects "MakingHouseModel" ({ cls := "java/lang/Object", name := "getClass", desc := "()Ljava/lang/Class;" } : Jvm.MethodName) ({ cls := "java/lang/Object", name := "getClass", desc := "()Ljava/lang/Class;" } : Jvm.MethodName)) ∈ lw_all := lw_g (lw_at lw_m4 53 rfl) rfl
theorem q1757 : (Jvm.Cond.instantiable "MakingHouseModel" (99 : Nat)) ∈ lw_all := lw_g (lw_at lw_m7 132 rfl) rfl
theorem q1759 : (Jvm.Cond.instanceMethod ({ cls := "MakingHouseModel", name := "<init>", desc := "()V" } : Jvm.MethodName)) ∈ lw_all := lw_g (lw_at lw_m7 134 rfl) rfl
theorem q1760 : (Jvm.Cond.code ({ cls := "MakingHouseModel", name := "<init>", desc := "()V" } : Jvm.MethodName) prog_19_method_1_code (1 : Nat) (Option.none : Option Jvm.ClassFile.FieldType)) ∈ lw_all := lw_g (lw_at lw_m7 135 rfl) rfl
theorem q1761 : (Jvm.Cond.methodLink "MakingHouseModel" (1 : Nat) ({ cls := "java/lang/Object", name := "<init>", desc := "()V" } : Jvm.MethodName)) ∈ lw_all := lw_g (lw_at lw_m7 136 rfl) rfl
theorem q1762 : (Jvm.Cond.classLink "MakingHouseModel" (66 : Nat) "MakingHouseModel$Text") ∈ lw_all := lw_g (lw_at lw_m7 137 rfl) rfl
theorem q1764 : (Jvm.Cond.methodLinkNest "MakingHouseModel" (68 : Nat) ({ cls := "MakingHouseModel$Text", name := "<init>", desc := "()V" } : Jvm.MethodName) "MakingHouseModel") ∈ lw_tbl := lw_at lw_m7 139 rfl
theorem q1769 : (Jvm.Cond.fieldLink "MakingHouseModel" (301 : Nat) "MakingHouseModel$Text" "bytes" "[B") ∈ lw_all := lw_g (lw_at lw_m7 144 rfl) rfl
theorem q1770 : (Jvm.Cond.fieldLink "MakingHouseModel" (298 : Nat) "MakingHouseModel$Text" "size" "I") ∈ lw_all := lw_g (lw_at lw_m7 145 rfl) rfl
theorem q1772 : (Jvm.Cond.fieldLink "MakingHouseModel" (304 : Nat) "MakingHouseModel$Text" "kinds" "[B") ∈ lw_all := lw_g (lw_at lw_m7 147 rfl) rfl
theorem q1774 : (Jvm.Cond.fieldLink "MakingHouseModel" (309 : Nat) "MakingHouseModel$Text" "places" "[I") ∈ lw_all := lw_g (lw_at lw_m7 149 rfl) rfl
theorem q1776 : (Jvm.Cond.fieldLink "MakingHouseModel" (312 : Nat) "MakingHouseModel$Text" "worths" "[I") ∈ lw_all := lw_g (lw_at lw_m7 151 rfl) rfl
theorem q1778 : (Jvm.Cond.fieldLink "MakingHouseModel" (315 : Nat) "MakingHouseModel$Text" "wholes" "[Z") ∈ lw_all := lw_g (lw_at lw_m7 153 rfl) rfl
theorem q1779 : (Jvm.Cond.fieldLink "MakingHouseModel" (306 : Nat) "MakingHouseModel$Text" "tokens" "I") ∈ lw_all := lw_g (lw_at lw_m7 154 rfl) rfl
theorem q1781 : (Jvm.Cond.fieldLink "MakingHouseModel" (443 : Nat) "MakingHouseModel$Text" "firsts" "[I") ∈ lw_all := lw_g (lw_at lw_m7 156 rfl) rfl
theorem q1783 : (Jvm.Cond.fieldLink "MakingHouseModel" (437 : Nat) "MakingHouseModel$Text" "sorts" "[B") ∈ lw_all := lw_g (lw_at lw_m7 158 rfl) rfl
theorem q1785 : (Jvm.Cond.fieldLink "MakingHouseModel" (428 : Nat) "MakingHouseModel$Text" "labels" "[I") ∈ lw_all := lw_g (lw_at lw_m7 160 rfl) rfl
theorem q1787 : (Jvm.Cond.fieldLink "MakingHouseModel" (431 : Nat) "MakingHouseModel$Text" "partners" "[I") ∈ lw_all := lw_g (lw_at lw_m7 162 rfl) rfl
theorem q1789 : (Jvm.Cond.fieldLink "MakingHouseModel" (434 : Nat) "MakingHouseModel$Text" "jumps" "[I") ∈ lw_all := lw_g (lw_at lw_m7 164 rfl) rfl
theorem q1790 : (Jvm.Cond.fieldLink "MakingHouseModel" (462 : Nat) "MakingHouseModel$Text" "lines" "I") ∈ lw_all := lw_g (lw_at lw_m7 165 rfl) rfl
theorem q1818 : (Jvm.Cond.classLink "MakingHouseModel" (80 : Nat) "java/lang/IllegalStateException") ∈ lw_all := lw_g (lw_at lw_m7 193 rfl) rfl
theorem q1819 : (Jvm.Cond.methodLink "MakingHouseModel" (82 : Nat) ({ cls := "java/lang/IllegalStateException", name := "<init>", desc := "()V" } : Jvm.MethodName)) ∈ lw_all := lw_g (lw_at lw_m7 194 rfl) rfl
theorem q1820 : (Jvm.Cond.constant "MakingHouseModel" (139 : Nat) (40000 : Int32)) ∈ lw_all := lw_g (lw_at lw_m7 195 rfl) rfl
theorem q1821 : (Jvm.Cond.fieldLink "MakingHouseModel" (9 : Nat) "MakingHouseModel" "kinds" "[I") ∈ lw_all := lw_g (lw_at lw_m7 196 rfl) rfl
theorem q1822 : (Jvm.Cond.fieldLink "MakingHouseModel" (13 : Nat) "MakingHouseModel" "numbers" "[I") ∈ lw_all := lw_g (lw_at lw_m7 197 rfl) rfl
theorem q1823 : (Jvm.Cond.fieldLink "MakingHouseModel" (16 : Nat) "MakingHouseModel" "weights" "[I") ∈ lw_all := lw_g (lw_at lw_m7 198 rfl) rfl
theorem q1824 : (Jvm.Cond.fieldLink "MakingHouseModel" (155 : Nat) "MakingHouseModel" "solids" "I") ∈ lw_all := lw_g (lw_at lw_m7 199 rfl) rfl
theorem q1825 : (Jvm.Cond.fieldLink "MakingHouseModel" (19 : Nat) "MakingHouseModel" "sizes" "[I") ∈ lw_all := lw_g (lw_at lw_m7 200 rfl) rfl
theorem q1826 : (Jvm.Cond.fieldLink "MakingHouseModel" (152 : Nat) "MakingHouseModel" "sizeCount" "I") ∈ lw_all := lw_g (lw_at lw_m7 201 rfl) rfl
theorem q1827 : (Jvm.Cond.fieldLink "MakingHouseModel" (22 : Nat) "MakingHouseModel" "bits" "[J") ∈ lw_all := lw_g (lw_at lw_m7 202 rfl) rfl
theorem q1828 : (Jvm.Cond.fieldLink "MakingHouseModel" (26 : Nat) "MakingHouseModel" "in" "[Z") ∈ lw_all := lw_g (lw_at lw_m7 203 rfl) rfl
theorem q1829 : (Jvm.Cond.fieldLink "MakingHouseModel" (30 : Nat) "MakingHouseModel" "filled" "[Z") ∈ lw_all := lw_g (lw_at lw_m7 204 rfl) rfl
theorem q1830 : (Jvm.Cond.fieldLink "MakingHouseModel" (33 : Nat) "MakingHouseModel" "marks" "[I") ∈ lw_all := lw_g (lw_at lw_m7 205 rfl) rfl
theorem q1831 : (Jvm.Cond.fieldLink "MakingHouseModel" (195 : Nat) "MakingHouseModel" "cols" "I") ∈ lw_all := lw_g (lw_at lw_m7 206 rfl) rfl
theorem q1832 : (Jvm.Cond.fieldLink "MakingHouseModel" (198 : Nat) "MakingHouseModel" "rows" "I") ∈ lw_all := lw_g (lw_at lw_m7 207 rfl) rfl
theorem q1833 : (Jvm.Cond.fieldLink "MakingHouseModel" (201 : Nat) "MakingHouseModel" "inCount" "I") ∈ lw_all := lw_g (lw_at lw_m7 208 rfl) rfl
theorem q1834 : (Jvm.Cond.fieldLink "MakingHouseModel" (212 : Nat) "MakingHouseModel" "islands" "I") ∈ lw_all := lw_g (lw_at lw_m7 209 rfl) rfl
theorem q1835 : (Jvm.Cond.fieldLink "MakingHouseModel" (215 : Nat) "MakingHouseModel" "holes" "I") ∈ lw_all := lw_g (lw_at lw_m7 210 rfl) rfl
theorem q1836 : (Jvm.Cond.fieldLink "MakingHouseModel" (232 : Nat) "MakingHouseModel" "filledCount" "I") ∈ lw_all := lw_g (lw_at lw_m7 211 rfl) rfl
theorem q1837 : (Jvm.Cond.fieldLink "MakingHouseModel" (239 : Nat) "MakingHouseModel" "runCount" "I") ∈ lw_all := lw_g (lw_at lw_m7 212 rfl) rfl
theorem q1838 : (Jvm.Cond.fieldLink "MakingHouseModel" (36 : Nat) "MakingHouseModel" "runRows" "[I") ∈ lw_all := lw_g (lw_at lw_m7 213 rfl) rfl
theorem q1839 : (Jvm.Cond.fieldLink "MakingHouseModel" (39 : Nat) "MakingHouseModel" "runFirsts" "[I") ∈ lw_all := lw_g (lw_at lw_m7 214 rfl) rfl
theorem q1840 : (Jvm.Cond.fieldLink "MakingHouseModel" (42 : Nat) "MakingHouseModel" "runLasts" "[I") ∈ lw_all := lw_g (lw_at lw_m7 215 rfl) rfl
theorem q1841 : (Jvm.Cond.fieldLink "MakingHouseModel" (242 : Nat) "MakingHouseModel" "stockN" "I") ∈ lw_all := lw_g (lw_at lw_m7 216 rfl) rfl
theorem q1842 : (Jvm.Cond.fieldLink "MakingHouseModel" (245 : Nat) "MakingHouseModel" "stockM" "I") ∈ lw_all := lw_g (lw_at lw_m7 217 rfl) rfl
theorem q1843 : (Jvm.Cond.fieldLink "MakingHouseModel" (248 : Nat) "MakingHouseModel" "pitchOf" "I") ∈ lw_all := lw_g (lw_at lw_m7 218 rfl) rfl
theorem q1844 : (Jvm.Cond.fieldLink "MakingHouseModel" (251 : Nat) "MakingHouseModel" "begun" "I") ∈ lw_all := lw_g (lw_at lw_m7 219 rfl) rfl
theorem q1845 : (Jvm.Cond.fieldLink "MakingHouseModel" (45 : Nat) "MakingHouseModel" "heights" "[I") ∈ lw_all := lw_g (lw_at lw_m7 220 rfl) rfl
theorem q1846 : (Jvm.Cond.fieldLink "MakingHouseModel" (48 : Nat) "MakingHouseModel" "clamps" "[I") ∈ lw_all := lw_g (lw_at lw_m7 221 rfl) rfl
theorem q1847 : (Jvm.Cond.fieldLink "MakingHouseModel" (254 : Nat) "MakingHouseModel" "clampCount" "I") ∈ lw_all := lw_g (lw_at lw_m7 222 rfl) rfl
theorem q1848 : (Jvm.Cond.fieldLink "MakingHouseModel" (266 : Nat) "MakingHouseModel" "partSolid" "I") ∈ lw_all := lw_g (lw_at lw_m7 223 rfl) rfl
theorem q1849 : (Jvm.Cond.fieldLink "MakingHouseModel" (51 : Nat) "MakingHouseModel" "tops" "[I") ∈ lw_all := lw_g (lw_at lw_m7 224 rfl) rfl
theorem q1850 : (Jvm.Cond.fieldLink "MakingHouseModel" (257 : Nat) "MakingHouseModel" "hasTops" "Z") ∈ lw_all := lw_g (lw_at lw_m7 225 rfl) rfl
theorem q1851 : (Jvm.Cond.fieldLink "MakingHouseModel" (54 : Nat) "MakingHouseModel" "toolKinds" "[I") ∈ lw_all := lw_g (lw_at lw_m7 226 rfl) rfl
theorem q1852 : (Jvm.Cond.fieldLink "MakingHouseModel" (57 : Nat) "MakingHouseModel" "radii" "[I") ∈ lw_all := lw_g (lw_at lw_m7 227 rfl) rfl
theorem q1853 : (Jvm.Cond.fieldLink "MakingHouseModel" (60 : Nat) "MakingHouseModel" "lengths" "[I") ∈ lw_all := lw_g (lw_at lw_m7 228 rfl) rfl
theorem q1854 : (Jvm.Cond.fieldLink "MakingHouseModel" (63 : Nat) "MakingHouseModel" "holders" "[I") ∈ lw_all := lw_g (lw_at lw_m7 229 rfl) rfl
theorem q1855 : (Jvm.Cond.fieldLink "MakingHouseModel" (69 : Nat) "MakingHouseModel" "text" "LMakingHouseModel$Text;") ∈ lw_all := lw_g (lw_at lw_m7 230 rfl) rfl
theorem q1856 : (Jvm.Cond.fieldLink "MakingHouseModel" (73 : Nat) "MakingHouseModel" "spare" "LMakingHouseModel$Text;") ∈ lw_all := lw_g (lw_at lw_m7 231 rfl) rfl
theorem q1857 : (Jvm.Cond.fieldLink "MakingHouseModel" (480 : Nat) "MakingHouseModel" "hasProgram" "Z") ∈ lw_all := lw_g (lw_at lw_m7 232 rfl) rfl
theorem q1858 : (Jvm.Cond.fieldLink "MakingHouseModel" (295 : Nat) "MakingHouseModel" "t" "LMakingHouseModel$Text;") ∈ lw_all := lw_g (lw_at lw_m7 233 rfl) rfl
theorem q1859 : (Jvm.Cond.fieldLink "MakingHouseModel" (359 : Nat) "MakingHouseModel" "at" "I") ∈ lw_all := lw_g (lw_at lw_m7 234 rfl) rfl
theorem q1860 : (Jvm.Cond.fieldLink "MakingHouseModel" (379 : Nat) "MakingHouseModel" "depth" "I") ∈ lw_all := lw_g (lw_at lw_m7 235 rfl) rfl
theorem q1861 : (Jvm.Cond.fieldLink "MakingHouseModel" (76 : Nat) "MakingHouseModel" "tray" "[B") ∈ lw_all := lw_g (lw_at lw_m7 236 rfl) rfl
theorem q1862 : (Jvm.Cond.fieldLink "MakingHouseModel" (285 : Nat) "MakingHouseModel" "trayed" "I") ∈ lw_all := lw_g (lw_at lw_m7 237 rfl) rfl
theorem q1863 : (Jvm.Cond.fieldLink "MakingHouseModel" (288 : Nat) "MakingHouseModel" "fed" "I") ∈ lw_all := lw_g (lw_at lw_m7 238 rfl) rfl
theorem q1864 : (Jvm.Cond.fieldLink "MakingHouseModel" (83 : Nat) "MakingHouseModel" "stop" "Ljava/lang/IllegalStateException;") ∈ lw_all := lw_g (lw_at lw_m7 239 rfl) rfl
theorem q1865 : (Jvm.Cond.fieldLink "MakingHouseModel" (365 : Nat) "MakingHouseModel" "faultPlace" "I") ∈ lw_all := lw_g (lw_at lw_m8 0 rfl) rfl
theorem q1866 : (Jvm.Cond.fieldLink "MakingHouseModel" (372 : Nat) "MakingHouseModel" "laterPlace" "I") ∈ lw_all := lw_g (lw_at lw_m8 1 rfl) rfl
theorem q1867 : (Jvm.Cond.fieldLink "MakingHouseModel" (87 : Nat) "MakingHouseModel" "place" "I") ∈ lw_all := lw_g (lw_at lw_m8 2 rfl) rfl
theorem q1868 : (Jvm.Cond.fieldLink "MakingHouseModel" (91 : Nat) "MakingHouseModel" "counts" "[I") ∈ lw_all := lw_g (lw_at lw_m8 3 rfl) rfl
theorem q1869 : (Jvm.Cond.fieldLink "MakingHouseModel" (446 : Nat) "MakingHouseModel" "openCount" "I") ∈ lw_all := lw_g (lw_at lw_m8 4 rfl) rfl
theorem q1870 : (Jvm.Cond.fieldLink "MakingHouseModel" (94 : Nat) "MakingHouseModel" "opens" "[I") ∈ lw_all := lw_g (lw_at lw_m8 5 rfl) rfl
theorem q1871 : (Jvm.Cond.fieldLink "MakingHouseModel" (97 : Nat) "MakingHouseModel" "variables" "[J") ∈ lw_all := lw_g (lw_at lw_m8 6 rfl) rfl
theorem q1872 : (Jvm.Cond.fieldLink "MakingHouseModel" (483 : Nat) "MakingHouseModel" "alarm" "I") ∈ lw_all := lw_g (lw_at lw_m8 7 rfl) rfl
theorem q1873 : (Jvm.Cond.fieldLink "MakingHouseModel" (559 : Nat) "MakingHouseModel" "x" "I") ∈ lw_all := lw_g (lw_at lw_m8 8 rfl) rfl
theorem q1874 : (Jvm.Cond.fieldLink "MakingHouseModel" (562 : Nat) "MakingHouseModel" "y" "I") ∈ lw_all := lw_g (lw_at lw_m8 9 rfl) rfl
theorem q1875 : (Jvm.Cond.fieldLink "MakingHouseModel" (565 : Nat) "MakingHouseModel" "z" "I") ∈ lw_all := lw_g (lw_at lw_m8 10 rfl) rfl
theorem q1876 : (Jvm.Cond.fieldLink "MakingHouseModel" (568 : Nat) "MakingHouseModel" "frame" "I") ∈ lw_all := lw_g (lw_at lw_m8 11 rfl) rfl
theorem q1877 : (Jvm.Cond.fieldLink "MakingHouseModel" (571 : Nat) "MakingHouseModel" "turn" "I") ∈ lw_all := lw_g (lw_at lw_m8 12 rfl) rfl
theorem q1878 : (Jvm.Cond.fieldLink "MakingHouseModel" (574 : Nat) "MakingHouseModel" "toolNow" "I") ∈ lw_all := lw_g (lw_at lw_m8 13 rfl) rfl
theorem q1879 : (Jvm.Cond.fieldLink "MakingHouseModel" (581 : Nat) "MakingHouseModel" "feedNow" "I") ∈ lw_all := lw_g (lw_at lw_m8 14 rfl) rfl
theorem q1880 : (Jvm.Cond.fieldLink "MakingHouseModel" (584 : Nat) "MakingHouseModel" "mode" "I") ∈ lw_all := lw_g (lw_at lw_m8 15 rfl) rfl
theorem q1881 : (Jvm.Cond.fieldLink "MakingHouseModel" (587 : Nat) "MakingHouseModel" "spindle" "Z") ∈ lw_all := lw_g (lw_at lw_m8 16 rfl) rfl
theorem q1882 : (Jvm.Cond.fieldLink "MakingHouseModel" (590 : Nat) "MakingHouseModel" "adds" "Z") ∈ lw_all := lw_g (lw_at lw_m8 17 rfl) rfl
theorem q1883 : (Jvm.Cond.fieldLink "MakingHouseModel" (593 : Nat) "MakingHouseModel" "toR" "Z") ∈ lw_all := lw_g (lw_at lw_m8 18 rfl) rfl
theorem q1884 : (Jvm.Cond.fieldLink "MakingHouseModel" (577 : Nat) "MakingHouseModel" "toolTold" "J") ∈ lw_all := lw_g (lw_at lw_m8 19 rfl) rfl
theorem q1885 : (Jvm.Cond.fieldLink "MakingHouseModel" (100 : Nat) "MakingHouseModel" "offsets" "[J") ∈ lw_all := lw_g (lw_at lw_m8 20 rfl) rfl
theorem q1886 : (Jvm.Cond.fieldLink "MakingHouseModel" (611 : Nat) "MakingHouseModel" "hasZ" "Z") ∈ lw_all := lw_g (lw_at lw_m8 21 rfl) rfl
theorem q1887 : (Jvm.Cond.fieldLink "MakingHouseModel" (614 : Nat) "MakingHouseModel" "hasR" "Z") ∈ lw_all := lw_g (lw_at lw_m8 22 rfl) rfl
theorem q1888 : (Jvm.Cond.fieldLink "MakingHouseModel" (617 : Nat) "MakingHouseModel" "hasQ" "Z") ∈ lw_all := lw_g (lw_at lw_m8 23 rfl) rfl
theorem q1889 : (Jvm.Cond.fieldLink "MakingHouseModel" (712 : Nat) "MakingHouseModel" "cycleZ" "J") ∈ lw_all := lw_g (lw_at lw_m8 24 rfl) rfl
theorem q1890 : (Jvm.Cond.fieldLink "MakingHouseModel" (715 : Nat) "MakingHouseModel" "cycleR" "J") ∈ lw_all := lw_g (lw_at lw_m8 25 rfl) rfl
theorem q1891 : (Jvm.Cond.fieldLink "MakingHouseModel" (718 : Nat) "MakingHouseModel" "cycleQ" "J") ∈ lw_all := lw_g (lw_at lw_m8 26 rfl) rfl
theorem q1892 : (Jvm.Cond.fieldLink "MakingHouseModel" (535 : Nat) "MakingHouseModel" "fuel" "I") ∈ lw_all := lw_g (lw_at lw_m8 27 rfl) rfl
theorem q1893 : (Jvm.Cond.fieldLink "MakingHouseModel" (599 : Nat) "MakingHouseModel" "steps" "I") ∈ lw_all := lw_g (lw_at lw_m8 28 rfl) rfl
theorem q1894 : (Jvm.Cond.fieldLink "MakingHouseModel" (602 : Nat) "MakingHouseModel" "ticks" "I") ∈ lw_all := lw_g (lw_at lw_m8 29 rfl) rfl
theorem q1895 : (Jvm.Cond.fieldLink "MakingHouseModel" (556 : Nat) "MakingHouseModel" "alarmLine" "I") ∈ lw_all := lw_g (lw_at lw_m8 30 rfl) rfl
theorem q1896 : (Jvm.Cond.fieldLink "MakingHouseModel" (532 : Nat) "MakingHouseModel" "hasRun" "Z") ∈ lw_all := lw_g (lw_at lw_m8 31 rfl) rfl
theorem q1897 : (Jvm.Cond.fieldLink "MakingHouseModel" (103 : Nat) "MakingHouseModel" "backs" "[I") ∈ lw_all := lw_g (lw_at lw_m8 32 rfl) rfl
theorem q1898 : (Jvm.Cond.fieldLink "MakingHouseModel" (106 : Nat) "MakingHouseModel" "lefts" "[I") ∈ lw_all := lw_g (lw_at lw_m8 33 rfl) rfl
theorem q1899 : (Jvm.Cond.fieldLink "MakingHouseModel" (109 : Nat) "MakingHouseModel" "starts" "[I") ∈ lw_all := lw_g (lw_at lw_m8 34 rfl) rfl
theorem q1900 : (Jvm.Cond.fieldLink "MakingHouseModel" (605 : Nat) "MakingHouseModel" "calls" "I") ∈ lw_all := lw_g (lw_at lw_m8 35 rfl) rfl
theorem q1901 : (Jvm.Cond.fieldLink "MakingHouseModel" (547 : Nat) "MakingHouseModel" "line" "I") ∈ lw_all := lw_g (lw_at lw_m8 36 rfl) rfl
theorem q1902 : (Jvm.Cond.fieldLink "MakingHouseModel" (541 : Nat) "MakingHouseModel" "nextLine" "I") ∈ lw_all := lw_g (lw_at lw_m8 37 rfl) rfl
theorem q1903 : (Jvm.Cond.fieldLink "MakingHouseModel" (544 : Nat) "MakingHouseModel" "isOver" "Z") ∈ lw_all := lw_g (lw_at lw_m8 38 rfl) rfl
theorem q1904 : (Jvm.Cond.fieldLink "MakingHouseModel" (112 : Nat) "MakingHouseModel" "has" "[Z") ∈ lw_all := lw_g (lw_at lw_m8 39 rfl) rfl
theorem q1905 : (Jvm.Cond.fieldLink "MakingHouseModel" (115 : Nat) "MakingHouseModel" "told" "[J") ∈ lw_all := lw_g (lw_at lw_m8 40 rfl) rfl
theorem q1906 : (Jvm.Cond.fieldLink "MakingHouseModel" (118 : Nat) "MakingHouseModel" "gs" "[I") ∈ lw_all := lw_g (lw_at lw_m8 41 rfl) rfl
theorem q1907 : (Jvm.Cond.fieldLink "MakingHouseModel" (121 : Nat) "MakingHouseModel" "ms" "[I") ∈ lw_all := lw_g (lw_at lw_m8 42 rfl) rfl
theorem q1908 : (Jvm.Cond.fieldLink "MakingHouseModel" (623 : Nat) "MakingHouseModel" "gCount" "I") ∈ lw_all := lw_g (lw_at lw_m8 43 rfl) rfl
theorem q1909 : (Jvm.Cond.fieldLink "MakingHouseModel" (626 : Nat) "MakingHouseModel" "mCount" "I") ∈ lw_all := lw_g (lw_at lw_m8 44 rfl) rfl
theorem q1910 : (Jvm.Cond.fieldLink "MakingHouseModel" (124 : Nat) "MakingHouseModel" "moveTicks" "[I") ∈ lw_all := lw_g (lw_at lw_m8 45 rfl) rfl
theorem q1911 : (Jvm.Cond.fieldLink "MakingHouseModel" (127 : Nat) "MakingHouseModel" "moveFeeds" "[I") ∈ lw_all := lw_g (lw_at lw_m8 46 rfl) rfl
theorem q1912 : (Jvm.Cond.fieldLink "MakingHouseModel" (130 : Nat) "MakingHouseModel" "moveBys" "[I") ∈ lw_all := lw_g (lw_at lw_m8 47 rfl) rfl
theorem q1913 : (Jvm.Cond.fieldLink "MakingHouseModel" (133 : Nat) "MakingHouseModel" "firstSteps" "[B") ∈ lw_all := lw_g (lw_at lw_m8 48 rfl) rfl
theorem q1914 : (Jvm.Cond.fieldLink "MakingHouseModel" (136 : Nat) "MakingHouseModel" "lastSteps" "[B") ∈ lw_all := lw_g (lw_at lw_m8 49 rfl) rfl
theorem q1915 : (Jvm.Cond.fieldLink "MakingHouseModel" (608 : Nat) "MakingHouseModel" "moves" "I") ∈ lw_all := lw_g (lw_at lw_m8 50 rfl) rfl
theorem q1916 : (Jvm.Cond.fieldLink "MakingHouseModel" (140 : Nat) "MakingHouseModel" "way" "[B") ∈ lw_all := lw_g (lw_at lw_m8 51 rfl) rfl
theorem q1917 : (Jvm.Cond.fieldLink "MakingHouseModel" (143 : Nat) "MakingHouseModel" "here" "[I") ∈ lw_all := lw_g (lw_at lw_m8 52 rfl) rfl
theorem q1918 : (Jvm.Cond.fieldLink "MakingHouseModel" (146 : Nat) "MakingHouseModel" "acceleration" "I") ∈ lw_all := lw_g (lw_at lw_m8 53 rfl) rfl
theorem q1919 : (Jvm.Cond.fieldLink "MakingHouseModel" (149 : Nat) "MakingHouseModel" "speeds" "[I") ∈ lw_all := lw_g (lw_at lw_m8 54 rfl) rfl
theorem q1920 : (Jvm.Cond.laysFinal "MakingHouseModel" "MakingHouseModel" "kinds" "[I") ∈ lw_all := lw_g (lw_at lw_m8 55 rfl) rfl
theorem q1921 : (Jvm.Cond.soleField "MakingHouseModel" "kinds") ∈ lw_all := lw_g (lw_at lw_m8 56 rfl) rfl
theorem q1922 : (Jvm.Cond.laysFinal "MakingHouseModel" "MakingHouseModel" "numbers" "[I") ∈ lw_all := lw_g (lw_at lw_m8 57 rfl) rfl
theorem q1923 : (Jvm.Cond.soleField "MakingHouseModel" "numbers") ∈ lw_all := lw_g (lw_at lw_m8 58 rfl) rfl
theorem q1924 : (Jvm.Cond.laysFinal "MakingHouseModel" "MakingHouseModel" "weights" "[I") ∈ lw_all := lw_g (lw_at lw_m8 59 rfl) rfl
theorem q1925 : (Jvm.Cond.soleField "MakingHouseModel" "weights") ∈ lw_all := lw_g (lw_at lw_m8 60 rfl) rfl
theorem q1926 : (Jvm.Cond.lays "MakingHouseModel" "MakingHouseModel" "solids" "I") ∈ lw_all := lw_g (lw_at lw_m8 61 rfl) rfl
theorem q1927 : (Jvm.Cond.soleField "MakingHouseModel" "solids") ∈ lw_all := lw_g (lw_at lw_m8 62 rfl) rfl
theorem q1928 : (Jvm.Cond.laysFinal "MakingHouseModel" "MakingHouseModel" "sizes" "[I") ∈ lw_all := lw_g (lw_at lw_m8 63 rfl) rfl
theorem q1929 : (Jvm.Cond.soleField "MakingHouseModel" "sizes") ∈ lw_all := lw_g (lw_at lw_m8 64 rfl) rfl
theorem q1930 : (Jvm.Cond.lays "MakingHouseModel" "MakingHouseModel" "sizeCount" "I") ∈ lw_all := lw_g (lw_at lw_m8 65 rfl) rfl
theorem q1931 : (Jvm.Cond.soleField "MakingHouseModel" "sizeCount") ∈ lw_all := lw_g (lw_at lw_m8 66 rfl) rfl
theorem q1932 : (Jvm.Cond.laysFinal "MakingHouseModel" "MakingHouseModel" "bits" "[J") ∈ lw_all := lw_g (lw_at lw_m8 67 rfl) rfl
theorem q1933 : (Jvm.Cond.soleField "MakingHouseModel" "bits") ∈ lw_all := lw_g (lw_at lw_m8 68 rfl) rfl
theorem q1934 : (Jvm.Cond.laysFinal "MakingHouseModel" "MakingHouseModel" "in" "[Z") ∈ lw_all := lw_g (lw_at lw_m8 69 rfl) rfl
theorem q1935 : (Jvm.Cond.soleField "MakingHouseModel" "in") ∈ lw_all := lw_g (lw_at lw_m8 70 rfl) rfl
theorem q1936 : (Jvm.Cond.laysFinal "MakingHouseModel" "MakingHouseModel" "filled" "[Z") ∈ lw_all := lw_g (lw_at lw_m8 71 rfl) rfl
theorem q1937 : (Jvm.Cond.soleField "MakingHouseModel" "filled") ∈ lw_all := lw_g (lw_at lw_m8 72 rfl) rfl
theorem q1938 : (Jvm.Cond.laysFinal "MakingHouseModel" "MakingHouseModel" "marks" "[I") ∈ lw_all := lw_g (lw_at lw_m8 73 rfl) rfl
theorem q1939 : (Jvm.Cond.soleField "MakingHouseModel" "marks") ∈ lw_all := lw_g (lw_at lw_m8 74 rfl) rfl
theorem q1940 : (Jvm.Cond.lays "MakingHouseModel" "MakingHouseModel" "cols" "I") ∈ lw_all := lw_g (lw_at lw_m8 75 rfl) rfl
theorem q1941 : (Jvm.Cond.soleField "MakingHouseModel" "cols") ∈ lw_all := lw_g (lw_at lw_m8 76 rfl) rfl
theorem q1942 : (Jvm.Cond.lays "MakingHouseModel" "MakingHouseModel" "rows" "I") ∈ lw_all := lw_g (lw_at lw_m8 77 rfl) rfl
theorem q1943 : (Jvm.Cond.soleField "MakingHouseModel" "rows") ∈ lw_all := lw_g (lw_at lw_m8 78 rfl) rfl
theorem q1944 : (Jvm.Cond.lays "MakingHouseModel" "MakingHouseModel" "inCount" "I") ∈ lw_all := lw_g (lw_at lw_m8 79 rfl) rfl
theorem q1945 : (Jvm.Cond.soleField "MakingHouseModel" "inCount") ∈ lw_all := lw_g (lw_at lw_m8 80 rfl) rfl
theorem q1946 : (Jvm.Cond.lays "MakingHouseModel" "MakingHouseModel" "islands" "I") ∈ lw_all := lw_g (lw_at lw_m8 81 rfl) rfl
theorem q1947 : (Jvm.Cond.soleField "MakingHouseModel" "islands") ∈ lw_all := lw_g (lw_at lw_m8 82 rfl) rfl
theorem q1948 : (Jvm.Cond.lays "MakingHouseModel" "MakingHouseModel" "holes" "I") ∈ lw_all := lw_g (lw_at lw_m8 83 rfl) rfl
theorem q1949 : (Jvm.Cond.soleField "MakingHouseModel" "holes") ∈ lw_all := lw_g (lw_at lw_m8 84 rfl) rfl
theorem q1950 : (Jvm.Cond.lays "MakingHouseModel" "MakingHouseModel" "filledCount" "I") ∈ lw_all := lw_g (lw_at lw_m8 85 rfl) rfl
theorem q1951 : (Jvm.Cond.soleField "MakingHouseModel" "filledCount") ∈ lw_all := lw_g (lw_at lw_m8 86 rfl) rfl
theorem q1952 : (Jvm.Cond.lays "MakingHouseModel" "MakingHouseModel" "runCount" "I") ∈ lw_all := lw_g (lw_at lw_m8 87 rfl) rfl
theorem q1953 : (Jvm.Cond.soleField "MakingHouseModel" "runCount") ∈ lw_all := lw_g (lw_at lw_m8 88 rfl) rfl
theorem q1954 : (Jvm.Cond.laysFinal "MakingHouseModel" "MakingHouseModel" "runRows" "[I") ∈ lw_all := lw_g (lw_at lw_m8 89 rfl) rfl
theorem q1955 : (Jvm.Cond.soleField "MakingHouseModel" "runRows") ∈ lw_all := lw_g (lw_at lw_m8 90 rfl) rfl
theorem q1956 : (Jvm.Cond.laysFinal "MakingHouseModel" "MakingHouseModel" "runFirsts" "[I") ∈ lw_all := lw_g (lw_at lw_m8 91 rfl) rfl
theorem q1957 : (Jvm.Cond.soleField "MakingHouseModel" "runFirsts") ∈ lw_all := lw_g (lw_at lw_m8 92 rfl) rfl
theorem q1958 : (Jvm.Cond.laysFinal "MakingHouseModel" "MakingHouseModel" "runLasts" "[I") ∈ lw_all := lw_g (lw_at lw_m8 93 rfl) rfl
theorem q1959 : (Jvm.Cond.soleField "MakingHouseModel" "runLasts") ∈ lw_all := lw_g (lw_at lw_m8 94 rfl) rfl
theorem q1960 : (Jvm.Cond.lays "MakingHouseModel" "MakingHouseModel" "stockN" "I") ∈ lw_all := lw_g (lw_at lw_m8 95 rfl) rfl
theorem q1961 : (Jvm.Cond.soleField "MakingHouseModel" "stockN") ∈ lw_all := lw_g (lw_at lw_m8 96 rfl) rfl
theorem q1962 : (Jvm.Cond.lays "MakingHouseModel" "MakingHouseModel" "stockM" "I") ∈ lw_all := lw_g (lw_at lw_m8 97 rfl) rfl
theorem q1963 : (Jvm.Cond.soleField "MakingHouseModel" "stockM") ∈ lw_all := lw_g (lw_at lw_m8 98 rfl) rfl
theorem q1964 : (Jvm.Cond.lays "MakingHouseModel" "MakingHouseModel" "pitchOf" "I") ∈ lw_all := lw_g (lw_at lw_m8 99 rfl) rfl
theorem q1965 : (Jvm.Cond.soleField "MakingHouseModel" "pitchOf") ∈ lw_all := lw_g (lw_at lw_m8 100 rfl) rfl
theorem q1966 : (Jvm.Cond.lays "MakingHouseModel" "MakingHouseModel" "begun" "I") ∈ lw_all := lw_g (lw_at lw_m8 101 rfl) rfl
theorem q1967 : (Jvm.Cond.soleField "MakingHouseModel" "begun") ∈ lw_all := lw_g (lw_at lw_m8 102 rfl) rfl
theorem q1968 : (Jvm.Cond.laysFinal "MakingHouseModel" "MakingHouseModel" "heights" "[I") ∈ lw_all := lw_g (lw_at lw_m8 103 rfl) rfl
theorem q1969 : (Jvm.Cond.soleField "MakingHouseModel" "heights") ∈ lw_all := lw_g (lw_at lw_m8 104 rfl) rfl
theorem q1970 : (Jvm.Cond.laysFinal "MakingHouseModel" "MakingHouseModel" "clamps" "[I") ∈ lw_all := lw_g (lw_at lw_m8 105 rfl) rfl
theorem q1971 : (Jvm.Cond.soleField "MakingHouseModel" "clamps") ∈ lw_all := lw_g (lw_at lw_m8 106 rfl) rfl
theorem q1972 : (Jvm.Cond.lays "MakingHouseModel" "MakingHouseModel" "clampCount" "I") ∈ lw_all := lw_g (lw_at lw_m8 107 rfl) rfl
theorem q1973 : (Jvm.Cond.soleField "MakingHouseModel" "clampCount") ∈ lw_all := lw_g (lw_at lw_m8 108 rfl) rfl
theorem q1974 : (Jvm.Cond.lays "MakingHouseModel" "MakingHouseModel" "partSolid" "I") ∈ lw_all := lw_g (lw_at lw_m8 109 rfl) rfl
theorem q1975 : (Jvm.Cond.soleField "MakingHouseModel" "partSolid") ∈ lw_all := lw_g (lw_at lw_m8 110 rfl) rfl
theorem q1976 : (Jvm.Cond.laysFinal "MakingHouseModel" "MakingHouseModel" "tops" "[I") ∈ lw_all := lw_g (lw_at lw_m8 111 rfl) rfl
theorem q1977 : (Jvm.Cond.soleField "MakingHouseModel" "tops") ∈ lw_all := lw_g (lw_at lw_m8 112 rfl) rfl
theorem q1978 : (Jvm.Cond.lays "MakingHouseModel" "MakingHouseModel" "hasTops" "Z") ∈ lw_all := lw_g (lw_at lw_m8 113 rfl) rfl
theorem q1979 : (Jvm.Cond.soleField "MakingHouseModel" "hasTops") ∈ lw_all := lw_g (lw_at lw_m8 114 rfl) rfl
theorem q1980 : (Jvm.Cond.laysFinal "MakingHouseModel" "MakingHouseModel" "toolKinds" "[I") ∈ lw_all := lw_g (lw_at lw_m8 115 rfl) rfl
theorem q1981 : (Jvm.Cond.soleField "MakingHouseModel" "toolKinds") ∈ lw_all := lw_g (lw_at lw_m8 116 rfl) rfl
theorem q1982 : (Jvm.Cond.laysFinal "MakingHouseModel" "MakingHouseModel" "radii" "[I") ∈ lw_all := lw_g (lw_at lw_m8 117 rfl) rfl
theorem q1983 : (Jvm.Cond.soleField "MakingHouseModel" "radii") ∈ lw_all := lw_g (lw_at lw_m8 118 rfl) rfl
theorem q1984 : (Jvm.Cond.laysFinal "MakingHouseModel" "MakingHouseModel" "lengths" "[I") ∈ lw_all := lw_g (lw_at lw_m8 119 rfl) rfl
theorem q1985 : (Jvm.Cond.soleField "MakingHouseModel" "lengths") ∈ lw_all := lw_g (lw_at lw_m8 120 rfl) rfl
theorem q1986 : (Jvm.Cond.laysFinal "MakingHouseModel" "MakingHouseModel" "holders" "[I") ∈ lw_all := lw_g (lw_at lw_m8 121 rfl) rfl
theorem q1987 : (Jvm.Cond.soleField "MakingHouseModel" "holders") ∈ lw_all := lw_g (lw_at lw_m8 122 rfl) rfl
theorem q1988 : (Jvm.Cond.lays "MakingHouseModel" "MakingHouseModel" "text" "LMakingHouseModel$Text;") ∈ lw_all := lw_g (lw_at lw_m8 123 rfl) rfl
theorem q1989 : (Jvm.Cond.soleField "MakingHouseModel" "text") ∈ lw_all := lw_g (lw_at lw_m8 124 rfl) rfl
theorem q1990 : (Jvm.Cond.lays "MakingHouseModel" "MakingHouseModel" "spare" "LMakingHouseModel$Text;") ∈ lw_all := lw_g (lw_at lw_m8 125 rfl) rfl
theorem q1991 : (Jvm.Cond.soleField "MakingHouseModel" "spare") ∈ lw_all := lw_g (lw_at lw_m8 126 rfl) rfl
theorem q1992 : (Jvm.Cond.lays "MakingHouseModel" "MakingHouseModel" "hasProgram" "Z") ∈ lw_all := lw_g (lw_at lw_m8 127 rfl) rfl
theorem q1993 : (Jvm.Cond.soleField "MakingHouseModel" "hasProgram") ∈ lw_all := lw_g (lw_at lw_m8 128 rfl) rfl
theorem q1994 : (Jvm.Cond.lays "MakingHouseModel" "MakingHouseModel" "t" "LMakingHouseModel$Text;") ∈ lw_all := lw_g (lw_at lw_m8 129 rfl) rfl
theorem q1995 : (Jvm.Cond.soleField "MakingHouseModel" "t") ∈ lw_all := lw_g (lw_at lw_m8 130 rfl) rfl
theorem q1996 : (Jvm.Cond.lays "MakingHouseModel" "MakingHouseModel" "at" "I") ∈ lw_all := lw_g (lw_at lw_m8 131 rfl) rfl
theorem q1997 : (Jvm.Cond.soleField "MakingHouseModel" "at") ∈ lw_all := lw_g (lw_at lw_m8 132 rfl) rfl
theorem q1998 : (Jvm.Cond.lays "MakingHouseModel" "MakingHouseModel" "depth" "I") ∈ lw_all := lw_g (lw_at lw_m8 133 rfl) rfl
theorem q1999 : (Jvm.Cond.soleField "MakingHouseModel" "depth") ∈ lw_all := lw_g (lw_at lw_m8 134 rfl) rfl
theorem q2000 : (Jvm.Cond.laysFinal "MakingHouseModel" "MakingHouseModel" "tray" "[B") ∈ lw_all := lw_g (lw_at lw_m8 135 rfl) rfl
theorem q2001 : (Jvm.Cond.soleField "MakingHouseModel" "tray") ∈ lw_all := lw_g (lw_at lw_m8 136 rfl) rfl
theorem q2002 : (Jvm.Cond.lays "MakingHouseModel" "MakingHouseModel" "trayed" "I") ∈ lw_all := lw_g (lw_at lw_m8 137 rfl) rfl
theorem q2003 : (Jvm.Cond.soleField "MakingHouseModel" "trayed") ∈ lw_all := lw_g (lw_at lw_m8 138 rfl) rfl
theorem q2004 : (Jvm.Cond.lays "MakingHouseModel" "MakingHouseModel" "fed" "I") ∈ lw_all := lw_g (lw_at lw_m8 139 rfl) rfl
theorem q2005 : (Jvm.Cond.soleField "MakingHouseModel" "fed") ∈ lw_all := lw_g (lw_at lw_m8 140 rfl) rfl
theorem q2006 : (Jvm.Cond.laysFinal "MakingHouseModel" "MakingHouseModel" "stop" "Ljava/lang/IllegalStateException;") ∈ lw_all := lw_g (lw_at lw_m8 141 rfl) rfl
theorem q2007 : (Jvm.Cond.soleField "MakingHouseModel" "stop") ∈ lw_all := lw_g (lw_at lw_m8 142 rfl) rfl
theorem q2008 : (Jvm.Cond.lays "MakingHouseModel" "MakingHouseModel" "faultPlace" "I") ∈ lw_all := lw_g (lw_at lw_m8 143 rfl) rfl
theorem q2009 : (Jvm.Cond.soleField "MakingHouseModel" "faultPlace") ∈ lw_all := lw_g (lw_at lw_m8 144 rfl) rfl
theorem q2010 : (Jvm.Cond.lays "MakingHouseModel" "MakingHouseModel" "laterPlace" "I") ∈ lw_all := lw_g (lw_at lw_m8 145 rfl) rfl
theorem q2011 : (Jvm.Cond.soleField "MakingHouseModel" "laterPlace") ∈ lw_all := lw_g (lw_at lw_m8 146 rfl) rfl
theorem q2012 : (Jvm.Cond.lays "MakingHouseModel" "MakingHouseModel" "place" "I") ∈ lw_all := lw_g (lw_at lw_m8 147 rfl) rfl
theorem q2013 : (Jvm.Cond.soleField "MakingHouseModel" "place") ∈ lw_all := lw_g (lw_at lw_m8 148 rfl) rfl
theorem q2014 : (Jvm.Cond.laysFinal "MakingHouseModel" "MakingHouseModel" "counts" "[I") ∈ lw_all := lw_g (lw_at lw_m8 149 rfl) rfl
theorem q2015 : (Jvm.Cond.soleField "MakingHouseModel" "counts") ∈ lw_all := lw_g (lw_at lw_m8 150 rfl) rfl
theorem q2016 : (Jvm.Cond.lays "MakingHouseModel" "MakingHouseModel" "openCount" "I") ∈ lw_all := lw_g (lw_at lw_m8 151 rfl) rfl
theorem q2017 : (Jvm.Cond.soleField "MakingHouseModel" "openCount") ∈ lw_all := lw_g (lw_at lw_m8 152 rfl) rfl
theorem q2018 : (Jvm.Cond.laysFinal "MakingHouseModel" "MakingHouseModel" "opens" "[I") ∈ lw_all := lw_g (lw_at lw_m8 153 rfl) rfl
theorem q2019 : (Jvm.Cond.soleField "MakingHouseModel" "opens") ∈ lw_all := lw_g (lw_at lw_m8 154 rfl) rfl
theorem q2020 : (Jvm.Cond.laysFinal "MakingHouseModel" "MakingHouseModel" "variables" "[J") ∈ lw_all := lw_g (lw_at lw_m8 155 rfl) rfl
theorem q2021 : (Jvm.Cond.soleField "MakingHouseModel" "variables") ∈ lw_all := lw_g (lw_at lw_m8 156 rfl) rfl
theorem q2022 : (Jvm.Cond.lays "MakingHouseModel" "MakingHouseModel" "alarm" "I") ∈ lw_all := lw_g (lw_at lw_m8 157 rfl) rfl
theorem q2023 : (Jvm.Cond.soleField "MakingHouseModel" "alarm") ∈ lw_all := lw_g (lw_at lw_m8 158 rfl) rfl
theorem q2024 : (Jvm.Cond.lays "MakingHouseModel" "MakingHouseModel" "x" "I") ∈ lw_all := lw_g (lw_at lw_m8 159 rfl) rfl
theorem q2025 : (Jvm.Cond.soleField "MakingHouseModel" "x") ∈ lw_all := lw_g (lw_at lw_m8 160 rfl) rfl
theorem q2026 : (Jvm.Cond.lays "MakingHouseModel" "MakingHouseModel" "y" "I") ∈ lw_all := lw_g (lw_at lw_m8 161 rfl) rfl
theorem q2027 : (Jvm.Cond.soleField "MakingHouseModel" "y") ∈ lw_all := lw_g (lw_at lw_m8 162 rfl) rfl
theorem q2028 : (Jvm.Cond.lays "MakingHouseModel" "MakingHouseModel" "z" "I") ∈ lw_all := lw_g (lw_at lw_m8 163 rfl) rfl
theorem q2029 : (Jvm.Cond.soleField "MakingHouseModel" "z") ∈ lw_all := lw_g (lw_at lw_m8 164 rfl) rfl
theorem q2030 : (Jvm.Cond.lays "MakingHouseModel" "MakingHouseModel" "frame" "I") ∈ lw_all := lw_g (lw_at lw_m8 165 rfl) rfl
theorem q2031 : (Jvm.Cond.soleField "MakingHouseModel" "frame") ∈ lw_all := lw_g (lw_at lw_m8 166 rfl) rfl
theorem q2032 : (Jvm.Cond.lays "MakingHouseModel" "MakingHouseModel" "turn" "I") ∈ lw_all := lw_g (lw_at lw_m8 167 rfl) rfl
theorem q2033 : (Jvm.Cond.soleField "MakingHouseModel" "turn") ∈ lw_all := lw_g (lw_at lw_m8 168 rfl) rfl
theorem q2034 : (Jvm.Cond.lays "MakingHouseModel" "MakingHouseModel" "toolNow" "I") ∈ lw_all := lw_g (lw_at lw_m8 169 rfl) rfl
theorem q2035 : (Jvm.Cond.soleField "MakingHouseModel" "toolNow") ∈ lw_all := lw_g (lw_at lw_m8 170 rfl) rfl
theorem q2036 : (Jvm.Cond.lays "MakingHouseModel" "MakingHouseModel" "feedNow" "I") ∈ lw_all := lw_g (lw_at lw_m8 171 rfl) rfl
theorem q2037 : (Jvm.Cond.soleField "MakingHouseModel" "feedNow") ∈ lw_all := lw_g (lw_at lw_m8 172 rfl) rfl
theorem q2038 : (Jvm.Cond.lays "MakingHouseModel" "MakingHouseModel" "mode" "I") ∈ lw_all := lw_g (lw_at lw_m8 173 rfl) rfl
theorem q2039 : (Jvm.Cond.soleField "MakingHouseModel" "mode") ∈ lw_all := lw_g (lw_at lw_m8 174 rfl) rfl
theorem q2040 : (Jvm.Cond.lays "MakingHouseModel" "MakingHouseModel" "spindle" "Z") ∈ lw_all := lw_g (lw_at lw_m8 175 rfl) rfl
theorem q2041 : (Jvm.Cond.soleField "MakingHouseModel" "spindle") ∈ lw_all := lw_g (lw_at lw_m8 176 rfl) rfl
theorem q2042 : (Jvm.Cond.lays "MakingHouseModel" "MakingHouseModel" "adds" "Z") ∈ lw_all := lw_g (lw_at lw_m8 177 rfl) rfl
theorem q2043 : (Jvm.Cond.soleField "MakingHouseModel" "adds") ∈ lw_all := lw_g (lw_at lw_m8 178 rfl) rfl
theorem q2044 : (Jvm.Cond.lays "MakingHouseModel" "MakingHouseModel" "toR" "Z") ∈ lw_all := lw_g (lw_at lw_m8 179 rfl) rfl
theorem q2045 : (Jvm.Cond.soleField "MakingHouseModel" "toR") ∈ lw_all := lw_g (lw_at lw_m8 180 rfl) rfl
theorem q2046 : (Jvm.Cond.lays "MakingHouseModel" "MakingHouseModel" "toolTold" "J") ∈ lw_all := lw_g (lw_at lw_m8 181 rfl) rfl
theorem q2047 : (Jvm.Cond.soleField "MakingHouseModel" "toolTold") ∈ lw_all := lw_g (lw_at lw_m8 182 rfl) rfl
theorem q2048 : (Jvm.Cond.laysFinal "MakingHouseModel" "MakingHouseModel" "offsets" "[J") ∈ lw_all := lw_g (lw_at lw_m8 183 rfl) rfl
theorem q2049 : (Jvm.Cond.soleField "MakingHouseModel" "offsets") ∈ lw_all := lw_g (lw_at lw_m8 184 rfl) rfl
theorem q2050 : (Jvm.Cond.lays "MakingHouseModel" "MakingHouseModel" "hasZ" "Z") ∈ lw_all := lw_g (lw_at lw_m8 185 rfl) rfl
theorem q2051 : (Jvm.Cond.soleField "MakingHouseModel" "hasZ") ∈ lw_all := lw_g (lw_at lw_m8 186 rfl) rfl
theorem q2052 : (Jvm.Cond.lays "MakingHouseModel" "MakingHouseModel" "hasR" "Z") ∈ lw_all := lw_g (lw_at lw_m8 187 rfl) rfl
theorem q2053 : (Jvm.Cond.soleField "MakingHouseModel" "hasR") ∈ lw_all := lw_g (lw_at lw_m8 188 rfl) rfl
theorem q2054 : (Jvm.Cond.lays "MakingHouseModel" "MakingHouseModel" "hasQ" "Z") ∈ lw_all := lw_g (lw_at lw_m8 189 rfl) rfl
theorem q2055 : (Jvm.Cond.soleField "MakingHouseModel" "hasQ") ∈ lw_all := lw_g (lw_at lw_m8 190 rfl) rfl
theorem q2056 : (Jvm.Cond.lays "MakingHouseModel" "MakingHouseModel" "cycleZ" "J") ∈ lw_all := lw_g (lw_at lw_m8 191 rfl) rfl
theorem q2057 : (Jvm.Cond.soleField "MakingHouseModel" "cycleZ") ∈ lw_all := lw_g (lw_at lw_m8 192 rfl) rfl
theorem q2058 : (Jvm.Cond.lays "MakingHouseModel" "MakingHouseModel" "cycleR" "J") ∈ lw_all := lw_g (lw_at lw_m8 193 rfl) rfl
theorem q2059 : (Jvm.Cond.soleField "MakingHouseModel" "cycleR") ∈ lw_all := lw_g (lw_at lw_m8 194 rfl) rfl
theorem q2060 : (Jvm.Cond.lays "MakingHouseModel" "MakingHouseModel" "cycleQ" "J") ∈ lw_all := lw_g (lw_at lw_m8 195 rfl) rfl
theorem q2061 : (Jvm.Cond.soleField "MakingHouseModel" "cycleQ") ∈ lw_all := lw_g (lw_at lw_m8 196 rfl) rfl
theorem q2062 : (Jvm.Cond.lays "MakingHouseModel" "MakingHouseModel" "fuel" "I") ∈ lw_all := lw_g (lw_at lw_m8 197 rfl) rfl
theorem q2063 : (Jvm.Cond.soleField "MakingHouseModel" "fuel") ∈ lw_all := lw_g (lw_at lw_m8 198 rfl) rfl
theorem q2064 : (Jvm.Cond.lays "MakingHouseModel" "MakingHouseModel" "steps" "I") ∈ lw_all := lw_g (lw_at lw_m8 199 rfl) rfl
theorem q2065 : (Jvm.Cond.soleField "MakingHouseModel" "steps") ∈ lw_all := lw_g (lw_at lw_m8 200 rfl) rfl
theorem q2066 : (Jvm.Cond.lays "MakingHouseModel" "MakingHouseModel" "ticks" "I") ∈ lw_all := lw_g (lw_at lw_m8 201 rfl) rfl
theorem q2067 : (Jvm.Cond.soleField "MakingHouseModel" "ticks") ∈ lw_all := lw_g (lw_at lw_m8 202 rfl) rfl
theorem q2068 : (Jvm.Cond.lays "MakingHouseModel" "MakingHouseModel" "alarmLine" "I") ∈ lw_all := lw_g (lw_at lw_m8 203 rfl) rfl
theorem q2069 : (Jvm.Cond.soleField "MakingHouseModel" "alarmLine") ∈ lw_all := lw_g (lw_at lw_m8 204 rfl) rfl
theorem q2070 : (Jvm.Cond.lays "MakingHouseModel" "MakingHouseModel" "hasRun" "Z") ∈ lw_all := lw_g (lw_at lw_m8 205 rfl) rfl
theorem q2071 : (Jvm.Cond.soleField "MakingHouseModel" "hasRun") ∈ lw_all := lw_g (lw_at lw_m8 206 rfl) rfl
theorem q2072 : (Jvm.Cond.laysFinal "MakingHouseModel" "MakingHouseModel" "backs" "[I") ∈ lw_all := lw_g (lw_at lw_m8 207 rfl) rfl
theorem q2073 : (Jvm.Cond.soleField "MakingHouseModel" "backs") ∈ lw_all := lw_g (lw_at lw_m8 208 rfl) rfl
theorem q2074 : (Jvm.Cond.laysFinal "MakingHouseModel" "MakingHouseModel" "lefts" "[I") ∈ lw_all := lw_g (lw_at lw_m8 209 rfl) rfl
theorem q2075 : (Jvm.Cond.soleField "MakingHouseModel" "lefts") ∈ lw_all := lw_g (lw_at lw_m8 210 rfl) rfl
theorem q2076 : (Jvm.Cond.laysFinal "MakingHouseModel" "MakingHouseModel" "starts" "[I") ∈ lw_all := lw_g (lw_at lw_m8 211 rfl) rfl
theorem q2077 : (Jvm.Cond.soleField "MakingHouseModel" "starts") ∈ lw_all := lw_g (lw_at lw_m8 212 rfl) rfl
theorem q2078 : (Jvm.Cond.lays "MakingHouseModel" "MakingHouseModel" "calls" "I") ∈ lw_all := lw_g (lw_at lw_m8 213 rfl) rfl
theorem q2079 : (Jvm.Cond.soleField "MakingHouseModel" "calls") ∈ lw_all := lw_g (lw_at lw_m8 214 rfl) rfl
theorem q2080 : (Jvm.Cond.lays "MakingHouseModel" "MakingHouseModel" "line" "I") ∈ lw_all := lw_g (lw_at lw_m8 215 rfl) rfl
theorem q2081 : (Jvm.Cond.soleField "MakingHouseModel" "line") ∈ lw_all := lw_g (lw_at lw_m8 216 rfl) rfl
theorem q2082 : (Jvm.Cond.lays "MakingHouseModel" "MakingHouseModel" "nextLine" "I") ∈ lw_all := lw_g (lw_at lw_m8 217 rfl) rfl
theorem q2083 : (Jvm.Cond.soleField "MakingHouseModel" "nextLine") ∈ lw_all := lw_g (lw_at lw_m8 218 rfl) rfl
theorem q2084 : (Jvm.Cond.lays "MakingHouseModel" "MakingHouseModel" "isOver" "Z") ∈ lw_all := lw_g (lw_at lw_m8 219 rfl) rfl
theorem q2085 : (Jvm.Cond.soleField "MakingHouseModel" "isOver") ∈ lw_all := lw_g (lw_at lw_m8 220 rfl) rfl
theorem q2086 : (Jvm.Cond.laysFinal "MakingHouseModel" "MakingHouseModel" "has" "[Z") ∈ lw_all := lw_g (lw_at lw_m8 221 rfl) rfl
theorem q2087 : (Jvm.Cond.soleField "MakingHouseModel" "has") ∈ lw_all := lw_g (lw_at lw_m8 222 rfl) rfl
theorem q2088 : (Jvm.Cond.laysFinal "MakingHouseModel" "MakingHouseModel" "told" "[J") ∈ lw_all := lw_g (lw_at lw_m8 223 rfl) rfl
theorem q2089 : (Jvm.Cond.soleField "MakingHouseModel" "told") ∈ lw_all := lw_g (lw_at lw_m8 224 rfl) rfl
theorem q2090 : (Jvm.Cond.laysFinal "MakingHouseModel" "MakingHouseModel" "gs" "[I") ∈ lw_all := lw_g (lw_at lw_m8 225 rfl) rfl
theorem q2091 : (Jvm.Cond.soleField "MakingHouseModel" "gs") ∈ lw_all := lw_g (lw_at lw_m8 226 rfl) rfl
theorem q2092 : (Jvm.Cond.laysFinal "MakingHouseModel" "MakingHouseModel" "ms" "[I") ∈ lw_all := lw_g (lw_at lw_m8 227 rfl) rfl
theorem q2093 : (Jvm.Cond.soleField "MakingHouseModel" "ms") ∈ lw_all := lw_g (lw_at lw_m8 228 rfl) rfl
theorem q2094 : (Jvm.Cond.lays "MakingHouseModel" "MakingHouseModel" "gCount" "I") ∈ lw_all := lw_g (lw_at lw_m8 229 rfl) rfl
theorem q2095 : (Jvm.Cond.soleField "MakingHouseModel" "gCount") ∈ lw_all := lw_g (lw_at lw_m8 230 rfl) rfl
theorem q2096 : (Jvm.Cond.lays "MakingHouseModel" "MakingHouseModel" "mCount" "I") ∈ lw_all := lw_g (lw_at lw_m8 231 rfl) rfl
theorem q2097 : (Jvm.Cond.soleField "MakingHouseModel" "mCount") ∈ lw_all := lw_g (lw_at lw_m8 232 rfl) rfl
theorem q2098 : (Jvm.Cond.laysFinal "MakingHouseModel" "MakingHouseModel" "moveTicks" "[I") ∈ lw_all := lw_g (lw_at lw_m8 233 rfl) rfl
theorem q2099 : (Jvm.Cond.soleField "MakingHouseModel" "moveTicks") ∈ lw_all := lw_g (lw_at lw_m8 234 rfl) rfl
theorem q2100 : (Jvm.Cond.laysFinal "MakingHouseModel" "MakingHouseModel" "moveFeeds" "[I") ∈ lw_all := lw_g (lw_at lw_m8 235 rfl) rfl
theorem q2101 : (Jvm.Cond.soleField "MakingHouseModel" "moveFeeds") ∈ lw_all := lw_g (lw_at lw_m8 236 rfl) rfl
theorem q2102 : (Jvm.Cond.laysFinal "MakingHouseModel" "MakingHouseModel" "moveBys" "[I") ∈ lw_all := lw_g (lw_at lw_m8 237 rfl) rfl
theorem q2103 : (Jvm.Cond.soleField "MakingHouseModel" "moveBys") ∈ lw_all := lw_g (lw_at lw_m8 238 rfl) rfl
theorem q2104 : (Jvm.Cond.laysFinal "MakingHouseModel" "MakingHouseModel" "firstSteps" "[B") ∈ lw_all := lw_g (lw_at lw_m8 239 rfl) rfl
theorem q2105 : (Jvm.Cond.soleField "MakingHouseModel" "firstSteps") ∈ lw_all := lw_g (lw_at lw_m9 0 rfl) rfl
theorem q2106 : (Jvm.Cond.laysFinal "MakingHouseModel" "MakingHouseModel" "lastSteps" "[B") ∈ lw_all := lw_g (lw_at lw_m9 1 rfl) rfl
theorem q2107 : (Jvm.Cond.soleField "MakingHouseModel" "lastSteps") ∈ lw_all := lw_g (lw_at lw_m9 2 rfl) rfl
theorem q2108 : (Jvm.Cond.lays "MakingHouseModel" "MakingHouseModel" "moves" "I") ∈ lw_all := lw_g (lw_at lw_m9 3 rfl) rfl
theorem q2109 : (Jvm.Cond.soleField "MakingHouseModel" "moves") ∈ lw_all := lw_g (lw_at lw_m9 4 rfl) rfl
theorem q2110 : (Jvm.Cond.laysFinal "MakingHouseModel" "MakingHouseModel" "way" "[B") ∈ lw_all := lw_g (lw_at lw_m9 5 rfl) rfl
theorem q2111 : (Jvm.Cond.soleField "MakingHouseModel" "way") ∈ lw_all := lw_g (lw_at lw_m9 6 rfl) rfl
theorem q2112 : (Jvm.Cond.laysFinal "MakingHouseModel" "MakingHouseModel" "here" "[I") ∈ lw_all := lw_g (lw_at lw_m9 7 rfl) rfl
theorem q2113 : (Jvm.Cond.soleField "MakingHouseModel" "here") ∈ lw_all := lw_g (lw_at lw_m9 8 rfl) rfl
theorem q2114 : (Jvm.Cond.lays "MakingHouseModel" "MakingHouseModel" "acceleration" "I") ∈ lw_all := lw_g (lw_at lw_m9 9 rfl) rfl
theorem q2115 : (Jvm.Cond.soleField "MakingHouseModel" "acceleration") ∈ lw_all := lw_g (lw_at lw_m9 10 rfl) rfl
theorem q2116 : (Jvm.Cond.laysFinal "MakingHouseModel" "MakingHouseModel" "speeds" "[I") ∈ lw_all := lw_g (lw_at lw_m9 11 rfl) rfl
theorem q2117 : (Jvm.Cond.soleField "MakingHouseModel" "speeds") ∈ lw_all := lw_g (lw_at lw_m9 12 rfl) rfl
theorem q2118 : (Jvm.Cond.superclass "MakingHouseModel" "java/lang/Object") ∈ lw_all := lw_g (lw_at lw_m9 13 rfl) rfl
theorem q2120 : (Jvm.Cond.instanceMethod ({ cls := "MakingHouseModel", name := "size", desc := "(I)I" } : Jvm.MethodName)) ∈ lw_all := lw_g (lw_at lw_m9 15 rfl) rfl
theorem q2121 : (Jvm.Cond.selects "MakingHouseModel" ({ cls := "MakingHouseModel", name := "size", desc := "(I)I" } : Jvm.MethodName) ({ cls := "MakingHouseModel", name := "size", desc := "(I)I" } : Jvm.MethodName)) ∈ lw_all := lw_g (lw_at lw_m9 16 rfl) rfl
theorem q2122 : (Jvm.Cond.code ({ cls := "MakingHouseModel", name := "size", desc := "(I)I" } : Jvm.MethodName) prog_19_method_3_code (2 : Nat) (Option.some Jvm.ClassFile.FieldType.int)) ∈ lw_all := lw_g (lw_at lw_m9 17 rfl) rfl
theorem q2124 : (Jvm.Cond.instanceMethod ({ cls := "MakingHouseModel", name := "solid", desc := "(I)I" } : Jvm.MethodName)) ∈ lw_all := lw_g (lw_at lw_m9 19 rfl) rfl
theorem q2125 : (Jvm.Cond.selects "MakingHouseModel" ({ cls := "MakingHouseModel", name := "solid", desc := "(I)I" } : Jvm.MethodName) ({ cls := "MakingHouseModel", name := "solid", desc := "(I)I" } : Jvm.MethodName)) ∈ lw_all := lw_g (lw_at lw_m9 20 rfl) rfl
theorem q2126 : (Jvm.Cond.code ({ cls := "MakingHouseModel", name := "solid", desc := "(I)I" } : Jvm.MethodName) prog_19_method_7_code (4 : Nat) (Option.some Jvm.ClassFile.FieldType.int)) ∈ lw_all := lw_g (lw_at lw_m9 21 rfl) rfl
theorem q2127 : (Jvm.Cond.methodLink "MakingHouseModel" (158 : Nat) ({ cls := "MakingHouseModel", name := "made", desc := "(II)I" } : Jvm.MethodName)) ∈ lw_all := lw_g (lw_at lw_m9 22 rfl) rfl
theorem q2128 : (Jvm.Cond.privateMethod ({ cls := "MakingHouseModel", name := "made", desc := "(II)I" } : Jvm.MethodName)) ∈ lw_tbl := lw_at lw_m9 23 rfl
theorem q2129 : (Jvm.Cond.instanceMethod ({ cls := "MakingHouseModel", name := "made", desc := "(II)I" } : Jvm.MethodName)) ∈ lw_all := lw_g (lw_at lw_m9 24 rfl) rfl
theorem q2130 : (Jvm.Cond.code ({ cls := "MakingHouseModel", name := "made", desc := "(II)I" } : Jvm.MethodName) prog_19_method_5_code (4 : Nat) (Option.some Jvm.ClassFile.FieldType.int)) ∈ lw_all := lw_g (lw_at lw_m9 25 rfl) rfl
theorem q2132 : (Jvm.Cond.instanceMethod ({ cls := "MakingHouseModel", name := "join", desc := "(III)I" } : Jvm.MethodName)) ∈ lw_all := lw_g (lw_at lw_m9 27 rfl) rfl
theorem q2133 : (Jvm.Cond.selects "MakingHouseModel" ({ cls := "MakingHouseModel", name := "join", desc := "(III)I" } : Jvm.MethodName) ({ cls := "MakingHouseModel", name := "join", desc := "(III)I" } : Jvm.MethodName)) ∈ lw_all := lw_g (lw_at lw_m9 28 rfl) rfl
theorem q2134 : (Jvm.Cond.code ({ cls := "MakingHouseModel", name := "join", desc := "(III)I" } : Jvm.MethodName) prog_19_method_8_code (5 : Nat) (Option.some Jvm.ClassFile.FieldType.int)) ∈ lw_all := lw_g (lw_at lw_m9 29 rfl) rfl
theorem q2135 : (Jvm.Cond.methodLink "MakingHouseModel" (162 : Nat) ({ cls := "MakingHouseModel", name := "isSolid", desc := "(I)Z" } : Jvm.MethodName)) ∈ lw_all := lw_g (lw_at lw_m9 30 rfl) rfl
theorem q2136 : (Jvm.Cond.privateMethod ({ cls := "MakingHouseModel", name := "isSolid", desc := "(I)Z" } : Jvm.MethodName)) ∈ lw_tbl := lw_at lw_m9 31 rfl
theorem q2137 : (Jvm.Cond.instanceMethod ({ cls := "MakingHouseModel", name := "isSolid", desc := "(I)Z" } : Jvm.MethodName)) ∈ lw_all := lw_g (lw_at lw_m9 32 rfl) rfl
theorem q2138 : (Jvm.Cond.code ({ cls := "MakingHouseModel", name := "isSolid", desc := "(I)Z" } : Jvm.MethodName) prog_19_method_4_code (2 : Nat) (Option.some Jvm.ClassFile.FieldType.boolean)) ∈ lw_all := lw_g (lw_at lw_m9 33 rfl) rfl
theorem q2140 : (Jvm.Cond.instanceMethod ({ cls := "MakingHouseModel", name := "moved", desc := "(I)I" } : Jvm.MethodName)) ∈ lw_all := lw_g (lw_at lw_m9 35 rfl) rfl
theorem q2141 : (Jvm.Cond.selects "MakingHouseModel" ({ cls := "MakingHouseModel", name := "moved", desc := "(I)I" } : Jvm.MethodName) ({ cls := "MakingHouseModel", name := "moved", desc := "(I)I" } : Jvm.MethodName)) ∈ lw_all := lw_g (lw_at lw_m9 36 rfl) rfl
theorem q2142 : (Jvm.Cond.code ({ cls := "MakingHouseModel", name := "moved", desc := "(I)I" } : Jvm.MethodName) prog_19_method_9_code (4 : Nat) (Option.some Jvm.ClassFile.FieldType.int)) ∈ lw_all := lw_g (lw_at lw_m9 37 rfl) rfl
theorem q2144 : (Jvm.Cond.instanceMethod ({ cls := "MakingHouseModel", name := "turned", desc := "(I)I" } : Jvm.MethodName)) ∈ lw_all := lw_g (lw_at lw_m9 39 rfl) rfl
theorem q2145 : (Jvm.Cond.selects "MakingHouseModel" ({ cls := "MakingHouseModel", name := "turned", desc := "(I)I" } : Jvm.MethodName) ({ cls := "MakingHouseModel", name := "turned", desc := "(I)I" } : Jvm.MethodName)) ∈ lw_all := lw_g (lw_at lw_m9 40 rfl) rfl
theorem q2146 : (Jvm.Cond.code ({ cls := "MakingHouseModel", name := "turned", desc := "(I)I" } : Jvm.MethodName) prog_19_method_10_code (3 : Nat) (Option.some Jvm.ClassFile.FieldType.int)) ∈ lw_all := lw_g (lw_at lw_m9 41 rfl) rfl
theorem q2148 : (Jvm.Cond.instanceMethod ({ cls := "MakingHouseModel", name := "inside", desc := "(IIII)Z" } : Jvm.MethodName)) ∈ lw_all := lw_g (lw_at lw_m9 43 rfl) rfl
theorem q2149 : (Jvm.Cond.selects "MakingHouseModel" ({ cls := "MakingHouseModel", name := "inside", desc := "(IIII)Z" } : Jvm.MethodName) ({ cls := "MakingHouseModel", name := "inside", desc := "(IIII)Z" } : Jvm.MethodName)) ∈ lw_all := lw_g (lw_at lw_m9 44 rfl) rfl
theorem q2150 : (Jvm.Cond.code ({ cls := "MakingHouseModel", name := "inside", desc := "(IIII)Z" } : Jvm.MethodName) prog_19_method_15_code (5 : Nat) (Option.some Jvm.ClassFile.FieldType.boolean)) ∈ lw_all := lw_g (lw_at lw_m9 45 rfl) rfl
theorem q2151 : (Jvm.Cond.methodLink "MakingHouseModel" (182 : Nat) ({ cls := "MakingHouseModel", name := "isNear", desc := "(I)Z" } : Jvm.MethodName)) ∈ lw_all := lw_g (lw_at lw_m9 46 rfl) rfl
theorem q2152 : (Jvm.Cond.static ({ cls := "MakingHouseModel", name := "isNear", desc := "(I)Z" } : Jvm.MethodName)) ∈ lw_all := lw_g (lw_at lw_m9 47 rfl) rfl
theorem q2153 : (Jvm.Cond.code ({ cls := "MakingHouseModel", name := "isNear", desc := "(I)Z" } : Jvm.MethodName) prog_19_method_14_code (1 : Nat) (Option.some Jvm.ClassFile.FieldType.boolean)) ∈ lw_all := lw_g (lw_at lw_m9 48 rfl) rfl
theorem q2154 : (Jvm.Cond.constant "MakingHouseModel" (180 : Nat) (-100000 : Int32)) ∈ lw_all := lw_g (lw_at lw_m9 49 rfl) rfl
theorem q2155 : (Jvm.Cond.constant "MakingHouseModel" (181 : Nat) (100000 : Int32)) ∈ lw_all := lw_g (lw_at lw_m9 50 rfl) rfl
theorem q2156 : (Jvm.Cond.methodLink "MakingHouseModel" (173 : Nat) ({ cls := "MakingHouseModel", name := "isIn", desc := "(IJJJ)Z" } : Jvm.MethodName)) ∈ lw_all := lw_g (lw_at lw_m9 51 rfl) rfl
theorem q2157 : (Jvm.Cond.privateMethod ({ cls := "MakingHouseModel", name := "isIn", desc := "(IJJJ)Z" } : Jvm.MethodName)) ∈ lw_tbl := lw_at lw_m9 52 rfl
theorem q2158 : (Jvm.Cond.instanceMethod ({ cls := "MakingHouseModel", name := "isIn", desc := "(IJJJ)Z" } : Jvm.MethodName)) ∈ lw_all := lw_g (lw_at lw_m9 53 rfl) rfl
theorem q2159 : (Jvm.Cond.code ({ cls := "MakingHouseModel", name := "isIn", desc := "(IJJJ)Z" } : Jvm.MethodName) prog_19_method_13_code (10 : Nat) (Option.some Jvm.ClassFile.FieldType.boolean)) ∈ lw_all := lw_g (lw_at lw_m9 54 rfl) rfl
theorem q2160 : (Jvm.Cond.methodLink "MakingHouseModel" (166 : Nat) ({ cls := "MakingHouseModel", name := "number", desc := "(II)I" } : Jvm.MethodName)) ∈ lw_all := lw_g (lw_at lw_m9 55 rfl) rfl
theorem q2161 : (Jvm.Cond.privateMethod ({ cls := "MakingHouseModel", name := "number", desc := "(II)I" } : Jvm.MethodName)) ∈ lw_tbl := lw_at lw_m9 56 rfl
theorem q2162 : (Jvm.Cond.instanceMethod ({ cls := "MakingHouseModel", name := "number", desc := "(II)I" } : Jvm.MethodName)) ∈ lw_all := lw_g (lw_at lw_m9 57 rfl) rfl
theorem q2163 : (Jvm.Cond.code ({ cls := "MakingHouseModel", name := "number", desc := "(II)I" } : Jvm.MethodName) prog_19_method_6_code (3 : Nat) (Option.some Jvm.ClassFile.FieldType.int)) ∈ lw_all := lw_g (lw_at lw_m9 58 rfl) rfl
theorem q2164 : (Jvm.Cond.methodLink "MakingHouseModel" (177 : Nat) ({ cls := "MakingHouseModel", name := "isInKind", desc := "(IJJJ)Z" } : Jvm.MethodName)) ∈ lw_all := lw_g (lw_at lw_m9 59 rfl) rfl
theorem q2165 : (Jvm.Cond.privateMethod ({ cls := "MakingHouseModel", name := "isInKind", desc := "(IJJJ)Z" } : Jvm.MethodName)) ∈ lw_tbl := lw_at lw_m9 60 rfl
theorem q2166 : (Jvm.Cond.instanceMethod ({ cls := "MakingHouseModel", name := "isInKind", desc := "(IJJJ)Z" } : Jvm.MethodName)) ∈ lw_all := lw_g (lw_at lw_m9 61 rfl) rfl
theorem q2167 : (Jvm.Cond.code ({ cls := "MakingHouseModel", name := "isInKind", desc := "(IJJJ)Z" } : Jvm.MethodName) prog_19_method_12_code (12 : Nat) (Option.some Jvm.ClassFile.FieldType.boolean)) ∈ lw_all := lw_g (lw_at lw_m9 62 rfl) rfl
theorem q2168 : (Jvm.Cond.methodLink "MakingHouseModel" (169 : Nat) ({ cls := "MakingHouseModel", name := "square", desc := "(J)J" } : Jvm.MethodName)) ∈ lw_all := lw_g (lw_at lw_m9 63 rfl) rfl
theorem q2169 : (Jvm.Cond.static ({ cls := "MakingHouseModel", name := "square", desc := "(J)J" } : Jvm.MethodName)) ∈ lw_all := lw_g (lw_at lw_m9 64 rfl) rfl
theorem q2170 : (Jvm.Cond.code ({ cls := "MakingHouseModel", name := "square", desc := "(J)J" } : Jvm.MethodName) prog_19_method_11_code (2 : Nat) (Option.some Jvm.ClassFile.FieldType.long)) ∈ lw_all := lw_g (lw_at lw_m9 65 rfl) rfl
theorem q2172 : (Jvm.Cond.instanceMethod ({ cls := "MakingHouseModel", name := "top", desc := "(III)I" } : Jvm.MethodName)) ∈ lw_all := lw_g (lw_at lw_m9 67 rfl) rfl
theorem q2173 : (Jvm.Cond.selects "MakingHouseModel" ({ cls := "MakingHouseModel", name := "top", desc := "(III)I" } : Jvm.MethodName) ({ cls := "MakingHouseModel", name := "top", desc := "(III)I" } : Jvm.MethodName)) ∈ lw_all := lw_g (lw_at lw_m9 68 rfl) rfl
theorem q2174 : (Jvm.Cond.code ({ cls := "MakingHouseModel", name := "top", desc := "(III)I" } : Jvm.MethodName) prog_19_method_18_code (4 : Nat) (Option.some Jvm.ClassFile.FieldType.int)) ∈ lw_all := lw_g (lw_at lw_m9 69 rfl) rfl
theorem q2175 : (Jvm.Cond.methodLink "MakingHouseModel" (191 : Nat) ({ cls := "MakingHouseModel", name := "topOf", desc := "(III)I" } : Jvm.MethodName)) ∈ lw_all := lw_g (lw_at lw_m9 70 rfl) rfl
theorem q2176 : (Jvm.Cond.privateMethod ({ cls := "MakingHouseModel", name := "topOf", desc := "(III)I" } : Jvm.MethodName)) ∈ lw_tbl := lw_at lw_m9 71 rfl
theorem q2177 : (Jvm.Cond.instanceMethod ({ cls := "MakingHouseModel", name := "topOf", desc := "(III)I" } : Jvm.MethodName)) ∈ lw_all := lw_g (lw_at lw_m9 72 rfl) rfl
theorem q2178 : (Jvm.Cond.code ({ cls := "MakingHouseModel", name := "topOf", desc := "(III)I" } : Jvm.MethodName) prog_19_method_17_code (5 : Nat) (Option.some Jvm.ClassFile.FieldType.int)) ∈ lw_all := lw_g (lw_at lw_m9 73 rfl) rfl
theorem q2179 : (Jvm.Cond.methodLink "MakingHouseModel" (185 : Nat) ({ cls := "MakingHouseModel", name := "rise", desc := "(IJJII)V" } : Jvm.MethodName)) ∈ lw_all := lw_g (lw_at lw_m9 74 rfl) rfl
theorem q2180 : (Jvm.Cond.privateMethod ({ cls := "MakingHouseModel", name := "rise", desc := "(IJJII)V" } : Jvm.MethodName)) ∈ lw_tbl := lw_at lw_m9 75 rfl
theorem q2181 : (Jvm.Cond.instanceMethod ({ cls := "MakingHouseModel", name := "rise", desc := "(IJJII)V" } : Jvm.MethodName)) ∈ lw_all := lw_g (lw_at lw_m9 76 rfl) rfl
theorem q2182 : (Jvm.Cond.code ({ cls := "MakingHouseModel", name := "rise", desc := "(IJJII)V" } : Jvm.MethodName) prog_19_method_16_code (14 : Nat) (Option.none : Option Jvm.ClassFile.FieldType)) ∈ lw_all := lw_g (lw_at lw_m9 77 rfl) rfl
theorem q2183 : (Jvm.Cond.constantLong "MakingHouseModel" (189 : Nat) (-1 : Int64)) ∈ lw_all := lw_g (lw_at lw_m9 78 rfl) rfl
theorem q2185 : (Jvm.Cond.instanceMethod ({ cls := "MakingHouseModel", name := "layer", desc := "(IIIIII)I" } : Jvm.MethodName)) ∈ lw_all := lw_g (lw_at lw_m9 80 rfl) rfl
theorem q2186 : (Jvm.Cond.selects "MakingHouseModel" ({ cls := "MakingHouseModel", name := "layer", desc := "(IIIIII)I" } : Jvm.MethodName) ({ cls := "MakingHouseModel", name := "layer", desc := "(IIIIII)I" } : Jvm.MethodName)) ∈ lw_all := lw_g (lw_at lw_m9 81 rfl) rfl
theorem q2187 : (Jvm.Cond.code ({ cls := "MakingHouseModel", name := "layer", desc := "(IIIIII)I" } : Jvm.MethodName) prog_19_method_20_code (9 : Nat) (Option.some Jvm.ClassFile.FieldType.int)) ∈ lw_all := lw_g (lw_at lw_m9 82 rfl) rfl
theorem q2188 : (Jvm.Cond.methodLink "MakingHouseModel" (204 : Nat) ({ cls := "MakingHouseModel", name := "inside", desc := "(IIII)Z" } : Jvm.MethodName)) ∈ lw_all := lw_g (lw_at lw_m9 83 rfl) rfl
theorem q2189 : (Jvm.Cond.methodLink "MakingHouseModel" (208 : Nat) ({ cls := "MakingHouseModel", name := "sets", desc := "(Z)I" } : Jvm.MethodName)) ∈ lw_all := lw_g (lw_at lw_m9 84 rfl) rfl
theorem q2190 : (Jvm.Cond.privateMethod ({ cls := "MakingHouseModel", name := "sets", desc := "(Z)I" } : Jvm.MethodName)) ∈ lw_tbl := lw_at lw_m9 85 rfl
theorem q2191 : (Jvm.Cond.instanceMethod ({ cls := "MakingHouseModel", name := "sets", desc := "(Z)I" } : Jvm.MethodName)) ∈ lw_all := lw_g (lw_at lw_m9 86 rfl) rfl
theorem q2192 : (Jvm.Cond.code ({ cls := "MakingHouseModel", name := "sets", desc := "(Z)I" } : Jvm.MethodName) prog_19_method_21_code (6 : Nat) (Option.some Jvm.ClassFile.FieldType.int)) ∈ lw_all := lw_g (lw_at lw_m9 87 rfl) rfl
theorem q2193 : (Jvm.Cond.methodLink "MakingHouseModel" (225 : Nat) ({ cls := "MakingHouseModel", name := "grow", desc := "(IIZ)Z" } : Jvm.MethodName)) ∈ lw_all := lw_g (lw_at lw_m9 88 rfl) rfl
theorem q2194 : (Jvm.Cond.privateMethod ({ cls := "MakingHouseModel", name := "grow", desc := "(IIZ)Z" } : Jvm.MethodName)) ∈ lw_tbl := lw_at lw_m9 89 rfl
theorem q2195 : (Jvm.Cond.instanceMethod ({ cls := "MakingHouseModel", name := "grow", desc := "(IIZ)Z" } : Jvm.MethodName)) ∈ lw_all := lw_g (lw_at lw_m9 90 rfl) rfl
theorem q2196 : (Jvm.Cond.code ({ cls := "MakingHouseModel", name := "grow", desc := "(IIZ)Z" } : Jvm.MethodName) prog_19_method_22_code (8 : Nat) (Option.some Jvm.ClassFile.FieldType.boolean)) ∈ lw_all := lw_g (lw_at lw_m9 91 rfl) rfl
theorem q2197 : (Jvm.Cond.methodLink "MakingHouseModel" (229 : Nat) ({ cls := "MakingHouseModel", name := "touches", desc := "(IIZ)Z" } : Jvm.MethodName)) ∈ lw_all := lw_g (lw_at lw_m9 92 rfl) rfl
theorem q2198 : (Jvm.Cond.privateMethod ({ cls := "MakingHouseModel", name := "touches", desc := "(IIZ)Z" } : Jvm.MethodName)) ∈ lw_tbl := lw_at lw_m9 93 rfl
theorem q2199 : (Jvm.Cond.instanceMethod ({ cls := "MakingHouseModel", name := "touches", desc := "(IIZ)Z" } : Jvm.MethodName)) ∈ lw_all := lw_g (lw_at lw_m9 94 rfl) rfl
theorem q2200 : (Jvm.Cond.code ({ cls := "MakingHouseModel", name := "touches", desc := "(IIZ)Z" } : Jvm.MethodName) prog_19_method_23_code (7 : Nat) (Option.some Jvm.ClassFile.FieldType.boolean)) ∈ lw_all := lw_g (lw_at lw_m9 95 rfl) rfl
theorem q2201 : (Jvm.Cond.methodLink "MakingHouseModel" (218 : Nat) ({ cls := "MakingHouseModel", name := "fill", desc := "(I)V" } : Jvm.MethodName)) ∈ lw_all := lw_g (lw_at lw_m9 96 rfl) rfl
theorem q2202 : (Jvm.Cond.privateMethod ({ cls := "MakingHouseModel", name := "fill", desc := "(I)V" } : Jvm.MethodName)) ∈ lw_tbl := lw_at lw_m9 97 rfl
theorem q2203 : (Jvm.Cond.instanceMethod ({ cls := "MakingHouseModel", name := "fill", desc := "(I)V" } : Jvm.MethodName)) ∈ lw_all := lw_g (lw_at lw_m9 98 rfl) rfl
theorem q2204 : (Jvm.Cond.code ({ cls := "MakingHouseModel", name := "fill", desc := "(I)V" } : Jvm.MethodName) prog_19_method_24_code (7 : Nat) (Option.none : Option Jvm.ClassFile.FieldType)) ∈ lw_all := lw_g (lw_at lw_m9 99 rfl) rfl
theorem q2205 : (Jvm.Cond.methodLink "MakingHouseModel" (235 : Nat) ({ cls := "MakingHouseModel", name := "isInCell", desc := "(II)Z" } : Jvm.MethodName)) ∈ lw_all := lw_g (lw_at lw_m9 100 rfl) rfl
theorem q2206 : (Jvm.Cond.privateMethod ({ cls := "MakingHouseModel", name := "isInCell", desc := "(II)Z" } : Jvm.MethodName)) ∈ lw_tbl := lw_at lw_m9 101 rfl
theorem q2207 : (Jvm.Cond.instanceMethod ({ cls := "MakingHouseModel", name := "isInCell", desc := "(II)Z" } : Jvm.MethodName)) ∈ lw_all := lw_g (lw_at lw_m9 102 rfl) rfl
theorem q2208 : (Jvm.Cond.code ({ cls := "MakingHouseModel", name := "isInCell", desc := "(II)Z" } : Jvm.MethodName) prog_19_method_19_code (3 : Nat) (Option.some Jvm.ClassFile.FieldType.boolean)) ∈ lw_all := lw_g (lw_at lw_m9 103 rfl) rfl
theorem q2209 : (Jvm.Cond.methodLink "MakingHouseModel" (222 : Nat) ({ cls := "MakingHouseModel", name := "findRuns", desc := "()V" } : Jvm.MethodName)) ∈ lw_all := lw_g (lw_at lw_m9 104 rfl) rfl
theorem q2210 : (Jvm.Cond.privateMethod ({ cls := "MakingHouseModel", name := "findRuns", desc := "()V" } : Jvm.MethodName)) ∈ lw_tbl := lw_at lw_m9 105 rfl
theorem q2211 : (Jvm.Cond.instanceMethod ({ cls := "MakingHouseModel", name := "findRuns", desc := "()V" } : Jvm.MethodName)) ∈ lw_all := lw_g (lw_at lw_m9 106 rfl) rfl
theorem q2212 : (Jvm.Cond.code ({ cls := "MakingHouseModel", name := "findRuns", desc := "()V" } : Jvm.MethodName) prog_19_method_25_code (4 : Nat) (Option.none : Option Jvm.ClassFile.FieldType)) ∈ lw_all := lw_g (lw_at lw_m9 107 rfl) rfl
theorem q2214 : (Jvm.Cond.instanceMethod ({ cls := "MakingHouseModel", name := "layered", desc := "(I)I" } : Jvm.MethodName)) ∈ lw_all := lw_g (lw_at lw_m9 109 rfl) rfl
theorem q2215 : (Jvm.Cond.selects "MakingHouseModel" ({ cls := "MakingHouseModel", name := "layered", desc := "(I)I" } : Jvm.MethodName) ({ cls := "MakingHouseModel", name := "layered", desc := "(I)I" } : Jvm.MethodName)) ∈ lw_all := lw_g (lw_at lw_m9 110 rfl) rfl
theorem q2216 : (Jvm.Cond.code ({ cls := "MakingHouseModel", name := "layered", desc := "(I)I" } : Jvm.MethodName) prog_19_method_26_code (2 : Nat) (Option.some Jvm.ClassFile.FieldType.int)) ∈ lw_all := lw_g (lw_at lw_m9 111 rfl) rfl
theorem q2218 : (Jvm.Cond.instanceMethod ({ cls := "MakingHouseModel", name := "run", desc := "(II)I" } : Jvm.MethodName)) ∈ lw_all := lw_g (lw_at lw_m9 113 rfl) rfl
theorem q2219 : (Jvm.Cond.selects "MakingHouseModel" ({ cls := "MakingHouseModel", name := "run", desc := "(II)I" } : Jvm.MethodName) ({ cls := "MakingHouseModel", name := "run", desc := "(II)I" } : Jvm.MethodName)) ∈ lw_all := lw_g (lw_at lw_m9 114 rfl) rfl
theorem q2220 : (Jvm.Cond.code ({ cls := "MakingHouseModel", name := "run", desc := "(II)I" } : Jvm.MethodName) prog_19_method_27_code (3 : Nat) (Option.some Jvm.ClassFile.FieldType.int)) ∈ lw_all := lw_g (lw_at lw_m9 115 rfl) rfl
theorem q2222 : (Jvm.Cond.instanceMethod ({ cls := "MakingHouseModel", name := "stock", desc := "(IIII)I" } : Jvm.MethodName)) ∈ lw_all := lw_g (lw_at lw_m9 117 rfl) rfl
theorem q2223 : (Jvm.Cond.selects "MakingHouseModel" ({ cls := "MakingHouseModel", name := "stock", desc := "(IIII)I" } : Jvm.MethodName) ({ cls := "MakingHouseModel", name := "stock", desc := "(IIII)I" } : Jvm.MethodName)) ∈ lw_all := lw_g (lw_at lw_m9 118 rfl) rfl
theorem q2224 : (Jvm.Cond.code ({ cls := "MakingHouseModel", name := "stock", desc := "(IIII)I" } : Jvm.MethodName) prog_19_method_28_code (6 : Nat) (Option.some Jvm.ClassFile.FieldType.int)) ∈ lw_all := lw_g (lw_at lw_m9 119 rfl) rfl
theorem q2226 : (Jvm.Cond.instanceMethod ({ cls := "MakingHouseModel", name := "clamp", desc := "(IIIII)I" } : Jvm.MethodName)) ∈ lw_all := lw_g (lw_at lw_m9 121 rfl) rfl
theorem q2227 : (Jvm.Cond.selects "MakingHouseModel" ({ cls := "MakingHouseModel", name := "clamp", desc := "(IIIII)I" } : Jvm.MethodName) ({ cls := "MakingHouseModel", name := "clamp", desc := "(IIIII)I" } : Jvm.MethodName)) ∈ lw_all := lw_g (lw_at lw_m9 122 rfl) rfl
theorem q2228 : (Jvm.Cond.code ({ cls := "MakingHouseModel", name := "clamp", desc := "(IIIII)I" } : Jvm.MethodName) prog_19_method_29_code (8 : Nat) (Option.some Jvm.ClassFile.FieldType.int)) ∈ lw_all := lw_g (lw_at lw_m9 123 rfl) rfl
theorem q2229 : (Jvm.Cond.methodLink "MakingHouseModel" (261 : Nat) ({ cls := "java/lang/Math", name := "max", desc := "(II)I" } : Jvm.MethodName)) ∈ lw_all := lw_g (lw_at lw_m9 124 rfl) rfl
theorem q2231 : (Jvm.Cond.instanceMethod ({ cls := "MakingHouseModel", name := "part", desc := "(I)I" } : Jvm.MethodName)) ∈ lw_all := lw_g (lw_at lw_m9 126 rfl) rfl
theorem q2232 : (Jvm.Cond.selects "MakingHouseModel" ({ cls := "MakingHouseModel", name := "part", desc := "(I)I" } : Jvm.MethodName) ({ cls := "MakingHouseModel", name := "part", desc := "(I)I" } : Jvm.MethodName)) ∈ lw_all := lw_g (lw_at lw_m9 127 rfl) rfl
theorem q2233 : (Jvm.Cond.code ({ cls := "MakingHouseModel", name := "part", desc := "(I)I" } : Jvm.MethodName) prog_19_method_30_code (2 : Nat) (Option.some Jvm.ClassFile.FieldType.int)) ∈ lw_all := lw_g (lw_at lw_m9 128 rfl) rfl
theorem q2235 : (Jvm.Cond.instanceMethod ({ cls := "MakingHouseModel", name := "height", desc := "(II)I" } : Jvm.MethodName)) ∈ lw_all := lw_g (lw_at lw_m9 130 rfl) rfl
theorem q2236 : (Jvm.Cond.selects "MakingHouseModel" ({ cls := "MakingHouseModel", name := "height", desc := "(II)I" } : Jvm.MethodName) ({ cls := "MakingHouseModel", name := "height", desc := "(II)I" } : Jvm.MethodName)) ∈ lw_all := lw_g (lw_at lw_m9 131 rfl) rfl
theorem q2237 : (Jvm.Cond.code ({ cls := "MakingHouseModel", name := "height", desc := "(II)I" } : Jvm.MethodName) prog_19_method_31_code (3 : Nat) (Option.some Jvm.ClassFile.FieldType.int)) ∈ lw_all := lw_g (lw_at lw_m9 132 rfl) rfl
theorem q2239 : (Jvm.Cond.instanceMethod ({ cls := "MakingHouseModel", name := "stocked", desc := "(I)J" } : Jvm.MethodName)) ∈ lw_all := lw_g (lw_at lw_m9 134 rfl) rfl
theorem q2240 : (Jvm.Cond.selects "MakingHouseModel" ({ cls := "MakingHouseModel", name := "stocked", desc := "(I)J" } : Jvm.MethodName) ({ cls := "MakingHouseModel", name := "stocked", desc := "(I)J" } : Jvm.MethodName)) ∈ lw_all := lw_g (lw_at lw_m9 135 rfl) rfl
theorem q2241 : (Jvm.Cond.code ({ cls := "MakingHouseModel", name := "stocked", desc := "(I)J" } : Jvm.MethodName) prog_19_method_34_code (12 : Nat) (Option.some Jvm.ClassFile.FieldType.long)) ∈ lw_all := lw_g (lw_at lw_m9 136 rfl) rfl
theorem q2242 : (Jvm.Cond.methodLink "MakingHouseModel" (273 : Nat) ({ cls := "MakingHouseModel", name := "findTops", desc := "()V" } : Jvm.MethodName)) ∈ lw_all := lw_g (lw_at lw_m9 137 rfl) rfl
theorem q2243 : (Jvm.Cond.privateMethod ({ cls := "MakingHouseModel", name := "findTops", desc := "()V" } : Jvm.MethodName)) ∈ lw_tbl := lw_at lw_m9 138 rfl
theorem q2244 : (Jvm.Cond.instanceMethod ({ cls := "MakingHouseModel", name := "findTops", desc := "()V" } : Jvm.MethodName)) ∈ lw_all := lw_g (lw_at lw_m9 139 rfl) rfl
theorem q2245 : (Jvm.Cond.code ({ cls := "MakingHouseModel", name := "findTops", desc := "()V" } : Jvm.MethodName) prog_19_method_33_code (3 : Nat) (Option.none : Option Jvm.ClassFile.FieldType)) ∈ lw_all := lw_g (lw_at lw_m9 140 rfl) rfl
theorem q2246 : (Jvm.Cond.methodLink "MakingHouseModel" (269 : Nat) ({ cls := "MakingHouseModel", name := "standsAt", desc := "(I)I" } : Jvm.MethodName)) ∈ lw_all := lw_g (lw_at lw_m9 141 rfl) rfl
theorem q2247 : (Jvm.Cond.privateMethod ({ cls := "MakingHouseModel", name := "standsAt", desc := "(I)I" } : Jvm.MethodName)) ∈ lw_tbl := lw_at lw_m9 142 rfl
theorem q2248 : (Jvm.Cond.instanceMethod ({ cls := "MakingHouseModel", name := "standsAt", desc := "(I)I" } : Jvm.MethodName)) ∈ lw_all := lw_g (lw_at lw_m9 143 rfl) rfl
theorem q2249 : (Jvm.Cond.code ({ cls := "MakingHouseModel", name := "standsAt", desc := "(I)I" } : Jvm.MethodName) prog_19_method_32_code (2 : Nat) (Option.some Jvm.ClassFile.FieldType.int)) ∈ lw_all := lw_g (lw_at lw_m9 144 rfl) rfl
theorem q2251 : (Jvm.Cond.instanceMethod ({ cls := "MakingHouseModel", name := "tool", desc := "(IIIII)I" } : Jvm.MethodName)) ∈ lw_all := lw_g (lw_at lw_m9 146 rfl) rfl
theorem q2252 : (Jvm.Cond.selects "MakingHouseModel" ({ cls := "MakingHouseModel", name := "tool", desc := "(IIIII)I" } : Jvm.MethodName) ({ cls := "MakingHouseModel", name := "tool", desc := "(IIIII)I" } : Jvm.MethodName)) ∈ lw_all := lw_g (lw_at lw_m9 147 rfl) rfl
theorem q2253 : (Jvm.Cond.code ({ cls := "MakingHouseModel", name := "tool", desc := "(IIIII)I" } : Jvm.MethodName) prog_19_method_35_code (6 : Nat) (Option.some Jvm.ClassFile.FieldType.int)) ∈ lw_all := lw_g (lw_at lw_m9 148 rfl) rfl
theorem q2255 : (Jvm.Cond.instanceMethod ({ cls := "MakingHouseModel", name := "feed", desc := "(IIIII)I" } : Jvm.MethodName)) ∈ lw_all := lw_g (lw_at lw_m9 150 rfl) rfl
theorem q2256 : (Jvm.Cond.selects "MakingHouseModel" ({ cls := "MakingHouseModel", name := "feed", desc := "(IIIII)I" } : Jvm.MethodName) ({ cls := "MakingHouseModel", name := "feed", desc := "(IIIII)I" } : Jvm.MethodName)) ∈ lw_all := lw_g (lw_at lw_m9 151 rfl) rfl
theorem q2257 : (Jvm.Cond.code ({ cls := "MakingHouseModel", name := "feed", desc := "(IIIII)I" } : Jvm.MethodName) prog_19_method_40_code (6 : Nat) (Option.some Jvm.ClassFile.FieldType.int)) ∈ lw_all := lw_g (lw_at lw_m9 152 rfl) rfl
theorem q2258 : (Jvm.Cond.constant "MakingHouseModel" (291 : Nat) (65536 : Int32)) ∈ lw_all := lw_g (lw_at lw_m9 153 rfl) rfl
theorem q2259 : (Jvm.Cond.methodLink "MakingHouseModel" (292 : Nat) ({ cls := "MakingHouseModel", name := "four", desc := "(I)V" } : Jvm.MethodName)) ∈ lw_all := lw_g (lw_at lw_m9 154 rfl) rfl
theorem q2260 : (Jvm.Cond.privateMethod ({ cls := "MakingHouseModel", name := "four", desc := "(I)V" } : Jvm.MethodName)) ∈ lw_tbl := lw_at lw_m9 155 rfl
theorem q2261 : (Jvm.Cond.instanceMethod ({ cls := "MakingHouseModel", name := "four", desc := "(I)V" } : Jvm.MethodName)) ∈ lw_all := lw_g (lw_at lw_m9 156 rfl) rfl
theorem q2262 : (Jvm.Cond.code ({ cls := "MakingHouseModel", name := "four", desc := "(I)V" } : Jvm.MethodName) prog_19_method_39_code (3 : Nat) (Option.none : Option Jvm.ClassFile.FieldType)) ∈ lw_all := lw_g (lw_at lw_m9 157 rfl) rfl
theorem q2264 : (Jvm.Cond.instanceMethod ({ cls := "MakingHouseModel", name := "end", desc := "(I)I" } : Jvm.MethodName)) ∈ lw_all := lw_g (lw_at lw_m9 159 rfl) rfl
theorem q2265 : (Jvm.Cond.selects "MakingHouseModel" ({ cls := "MakingHouseModel", name := "end", desc := "(I)I" } : Jvm.MethodName) ({ cls := "MakingHouseModel", name := "end", desc := "(I)I" } : Jvm.MethodName)) ∈ lw_all := lw_g (lw_at lw_m9 160 rfl) rfl
theorem q2266 : (Jvm.Cond.code ({ cls := "MakingHouseModel", name := "end", desc := "(I)I" } : Jvm.MethodName) prog_19_method_41_code (2 : Nat) (Option.some Jvm.ClassFile.FieldType.int)) ∈ lw_all := lw_g (lw_at lw_m9 161 rfl) rfl
theorem q2268 : (Jvm.Cond.instanceMethod ({ cls := "MakingHouseModel", name := "program", desc := "()I" } : Jvm.MethodName)) ∈ lw_all := lw_g (lw_at lw_m9 163 rfl) rfl
theorem q2269 : (Jvm.Cond.selects "MakingHouseModel" ({ cls := "MakingHouseModel", name := "program", desc := "()I" } : Jvm.MethodName) ({ cls := "MakingHouseModel", name := "program", desc := "()I" } : Jvm.MethodName)) ∈ lw_all := lw_g (lw_at lw_m9 164 rfl) rfl
theorem q2270 : (Jvm.Cond.codeWith ({ cls := "MakingHouseModel", name := "program", desc := "()I" } : Jvm.MethodName) prog_19_method_78_code (3 : Nat) (Option.some Jvm.ClassFile.FieldType.int) [((91 : Nat), (189 : Nat), (192 : Nat), (80 : Nat))]) ∈ lw_all := lw_g (lw_at lw_m9 165 rfl) rfl
theorem q2271 : (Jvm.Cond.methodLink "MakingHouseModel" (468 : Nat) ({ cls := "MakingHouseModel", name := "cutLine", desc := "(I)I" } : Jvm.MethodName)) ∈ lw_all := lw_g (lw_at lw_m9 166 rfl) rfl
theorem q2272 : (Jvm.Cond.privateMethod ({ cls := "MakingHouseModel", name := "cutLine", desc := "(I)I" } : Jvm.MethodName)) ∈ lw_tbl := lw_at lw_m9 167 rfl
theorem q2273 : (Jvm.Cond.instanceMethod ({ cls := "MakingHouseModel", name := "cutLine", desc := "(I)I" } : Jvm.MethodName)) ∈ lw_all := lw_g (lw_at lw_m9 168 rfl) rfl
theorem q2274 : (Jvm.Cond.code ({ cls := "MakingHouseModel", name := "cutLine", desc := "(I)I" } : Jvm.MethodName) prog_19_method_47_code (4 : Nat) (Option.some Jvm.ClassFile.FieldType.int)) ∈ lw_all := lw_g (lw_at lw_m9 169 rfl) rfl
theorem q2275 : (Jvm.Cond.methodLink "MakingHouseModel" (321 : Nat) ({ cls := "MakingHouseModel", name := "behindBlanks", desc := "(I)I" } : Jvm.MethodName)) ∈ lw_all := lw_g (lw_at lw_m9 170 rfl) rfl
theorem q2276 : (Jvm.Cond.privateMethod ({ cls := "MakingHouseModel", name := "behindBlanks", desc := "(I)I" } : Jvm.MethodName)) ∈ lw_tbl := lw_at lw_m9 171 rfl
theorem q2277 : (Jvm.Cond.instanceMethod ({ cls := "MakingHouseModel", name := "behindBlanks", desc := "(I)I" } : Jvm.MethodName)) ∈ lw_all := lw_g (lw_at lw_m9 172 rfl) rfl
theorem q2278 : (Jvm.Cond.code ({ cls := "MakingHouseModel", name := "behindBlanks", desc := "(I)I" } : Jvm.MethodName) prog_19_method_46_code (5 : Nat) (Option.some Jvm.ClassFile.FieldType.int)) ∈ lw_all := lw_g (lw_at lw_m9 173 rfl) rfl
theorem q2279 : (Jvm.Cond.methodLink "MakingHouseModel" (318 : Nat) ({ cls := "MakingHouseModel", name := "look", desc := "(I)I" } : Jvm.MethodName)) ∈ lw_all := lw_g (lw_at lw_m9 174 rfl) rfl
theorem q2280 : (Jvm.Cond.privateMethod ({ cls := "MakingHouseModel", name := "look", desc := "(I)I" } : Jvm.MethodName)) ∈ lw_tbl := lw_at lw_m9 175 rfl
theorem q2281 : (Jvm.Cond.instanceMethod ({ cls := "MakingHouseModel", name := "look", desc := "(I)I" } : Jvm.MethodName)) ∈ lw_all := lw_g (lw_at lw_m9 176 rfl) rfl
theorem q2282 : (Jvm.Cond.code ({ cls := "MakingHouseModel", name := "look", desc := "(I)I" } : Jvm.MethodName) prog_19_method_42_code (2 : Nat) (Option.some Jvm.ClassFile.FieldType.int)) ∈ lw_all := lw_g (lw_at lw_m9 177 rfl) rfl
theorem q2283 : (Jvm.Cond.methodLink "MakingHouseModel" (324 : Nat) ({ cls := "MakingHouseModel", name := "one", desc := "(I)I" } : Jvm.MethodName)) ∈ lw_all := lw_g (lw_at lw_m9 178 rfl) rfl
theorem q2284 : (Jvm.Cond.privateMethod ({ cls := "MakingHouseModel", name := "one", desc := "(I)I" } : Jvm.MethodName)) ∈ lw_tbl := lw_at lw_m9 179 rfl
theorem q2285 : (Jvm.Cond.instanceMethod ({ cls := "MakingHouseModel", name := "one", desc := "(I)I" } : Jvm.MethodName)) ∈ lw_all := lw_g (lw_at lw_m9 180 rfl) rfl
theorem q2286 : (Jvm.Cond.code ({ cls := "MakingHouseModel", name := "one", desc := "(I)I" } : Jvm.MethodName) prog_19_method_48_code (4 : Nat) (Option.some Jvm.ClassFile.FieldType.int)) ∈ lw_all := lw_g (lw_at lw_m9 181 rfl) rfl
theorem q2287 : (Jvm.Cond.methodLink "MakingHouseModel" (331 : Nat) ({ cls := "MakingHouseModel", name := "isDigit", desc := "(I)Z" } : Jvm.MethodName)) ∈ lw_all := lw_g (lw_at lw_m9 182 rfl) rfl
theorem q2288 : (Jvm.Cond.static ({ cls := "MakingHouseModel", name := "isDigit", desc := "(I)Z" } : Jvm.MethodName)) ∈ lw_all := lw_g (lw_at lw_m9 183 rfl) rfl
theorem q2289 : (Jvm.Cond.code ({ cls := "MakingHouseModel", name := "isDigit", desc := "(I)Z" } : Jvm.MethodName) prog_19_method_43_code (1 : Nat) (Option.some Jvm.ClassFile.FieldType.boolean)) ∈ lw_all := lw_g (lw_at lw_m9 184 rfl) rfl
theorem q2290 : (Jvm.Cond.methodLink "MakingHouseModel" (334 : Nat) ({ cls := "MakingHouseModel", name := "numberEnd", desc := "(I)I" } : Jvm.MethodName)) ∈ lw_all := lw_g (lw_at lw_m9 185 rfl) rfl
theorem q2291 : (Jvm.Cond.privateMethod ({ cls := "MakingHouseModel", name := "numberEnd", desc := "(I)I" } : Jvm.MethodName)) ∈ lw_tbl := lw_at lw_m9 186 rfl
theorem q2292 : (Jvm.Cond.instanceMethod ({ cls := "MakingHouseModel", name := "numberEnd", desc := "(I)I" } : Jvm.MethodName)) ∈ lw_all := lw_g (lw_at lw_m9 187 rfl) rfl
theorem q2293 : (Jvm.Cond.code ({ cls := "MakingHouseModel", name := "numberEnd", desc := "(I)I" } : Jvm.MethodName) prog_19_method_49_code (7 : Nat) (Option.some Jvm.ClassFile.FieldType.int)) ∈ lw_all := lw_g (lw_at lw_m9 188 rfl) rfl
theorem q2294 : (Jvm.Cond.methodLink "MakingHouseModel" (327 : Nat) ({ cls := "MakingHouseModel", name := "token", desc := "(IIIZ)V" } : Jvm.MethodName)) ∈ lw_all := lw_g (lw_at lw_m9 189 rfl) rfl
theorem q2295 : (Jvm.Cond.privateMethod ({ cls := "MakingHouseModel", name := "token", desc := "(IIIZ)V" } : Jvm.MethodName)) ∈ lw_tbl := lw_at lw_m9 190 rfl
theorem q2296 : (Jvm.Cond.instanceMethod ({ cls := "MakingHouseModel", name := "token", desc := "(IIIZ)V" } : Jvm.MethodName)) ∈ lw_all := lw_g (lw_at lw_m9 191 rfl) rfl
theorem q2297 : (Jvm.Cond.code ({ cls := "MakingHouseModel", name := "token", desc := "(IIIZ)V" } : Jvm.MethodName) prog_19_method_45_code (5 : Nat) (Option.none : Option Jvm.ClassFile.FieldType)) ∈ lw_all := lw_g (lw_at lw_m9 192 rfl) rfl
theorem q2298 : (Jvm.Cond.methodLink "MakingHouseModel" (337 : Nat) ({ cls := "MakingHouseModel", name := "isCapital", desc := "(I)Z" } : Jvm.MethodName)) ∈ lw_all := lw_g (lw_at lw_m9 193 rfl) rfl
theorem q2299 : (Jvm.Cond.static ({ cls := "MakingHouseModel", name := "isCapital", desc := "(I)Z" } : Jvm.MethodName)) ∈ lw_all := lw_g (lw_at lw_m9 194 rfl) rfl
theorem q2300 : (Jvm.Cond.code ({ cls := "MakingHouseModel", name := "isCapital", desc := "(I)Z" } : Jvm.MethodName) prog_19_method_44_code (1 : Nat) (Option.some Jvm.ClassFile.FieldType.boolean)) ∈ lw_all := lw_g (lw_at lw_m9 195 rfl) rfl
theorem q2301 : (Jvm.Cond.methodLink "MakingHouseModel" (340 : Nat) ({ cls := "MakingHouseModel", name := "word", desc := "(I)I" } : Jvm.MethodName)) ∈ lw_all := lw_g (lw_at lw_m9 196 rfl) rfl
theorem q2302 : (Jvm.Cond.privateMethod ({ cls := "MakingHouseModel", name := "word", desc := "(I)I" } : Jvm.MethodName)) ∈ lw_tbl := lw_at lw_m9 197 rfl
theorem q2303 : (Jvm.Cond.instanceMethod ({ cls := "MakingHouseModel", name := "word", desc := "(I)I" } : Jvm.MethodName)) ∈ lw_all := lw_g (lw_at lw_m9 198 rfl) rfl
theorem q2304 : (Jvm.Cond.code ({ cls := "MakingHouseModel", name := "word", desc := "(I)I" } : Jvm.MethodName) prog_19_method_51_code (7 : Nat) (Option.some Jvm.ClassFile.FieldType.int)) ∈ lw_all := lw_g (lw_at lw_m9 199 rfl) rfl
theorem q2305 : (Jvm.Cond.stringRef "MakingHouseModel" (343 : Nat) " IF GOTO WHILE DO END ABS FIX FUP ROOT MOD AND OR XOR EQ NE LT LE GT GE ") ∈ lw_tbl := lw_at lw_m9 200 rfl
theorem q2306 : (Jvm.Cond.methodLink "MakingHouseModel" (351 : Nat) ({ cls := "java/lang/String", name := "length", desc := "()I" } : Jvm.MethodName)) ∈ lw_all := lw_g (lw_at lw_m9 201 rfl) rfl
theorem q2307 : (Jvm.Cond.methodLink "MakingHouseModel" (345 : Nat) ({ cls := "java/lang/String", name := "charAt", desc := "(I)C" } : Jvm.MethodName)) ∈ lw_all := lw_g (lw_at lw_m9 202 rfl) rfl
theorem q2308 : (Jvm.Cond.methodLink "MakingHouseModel" (355 : Nat) ({ cls := "MakingHouseModel", name := "isAt", desc := "(III)Z" } : Jvm.MethodName)) ∈ lw_all := lw_g (lw_at lw_m9 203 rfl) rfl
theorem q2309 : (Jvm.Cond.privateMethod ({ cls := "MakingHouseModel", name := "isAt", desc := "(III)Z" } : Jvm.MethodName)) ∈ lw_tbl := lw_at lw_m9 204 rfl
theorem q2310 : (Jvm.Cond.instanceMethod ({ cls := "MakingHouseModel", name := "isAt", desc := "(III)Z" } : Jvm.MethodName)) ∈ lw_all := lw_g (lw_at lw_m9 205 rfl) rfl
theorem q2311 : (Jvm.Cond.code ({ cls := "MakingHouseModel", name := "isAt", desc := "(III)Z" } : Jvm.MethodName) prog_19_method_50_code (5 : Nat) (Option.some Jvm.ClassFile.FieldType.boolean)) ∈ lw_all := lw_g (lw_at lw_m9 206 rfl) rfl
theorem q2312 : (Jvm.Cond.methodLink "MakingHouseModel" (471 : Nat) ({ cls := "MakingHouseModel", name := "lookLine", desc := "(I)V" } : Jvm.MethodName)) ∈ lw_all := lw_g (lw_at lw_m9 207 rfl) rfl
theorem q2313 : (Jvm.Cond.privateMethod ({ cls := "MakingHouseModel", name := "lookLine", desc := "(I)V" } : Jvm.MethodName)) ∈ lw_tbl := lw_at lw_m9 208 rfl
theorem q2314 : (Jvm.Cond.instanceMethod ({ cls := "MakingHouseModel", name := "lookLine", desc := "(I)V" } : Jvm.MethodName)) ∈ lw_all := lw_g (lw_at lw_m9 209 rfl) rfl
theorem q2315 : (Jvm.Cond.code ({ cls := "MakingHouseModel", name := "lookLine", desc := "(I)V" } : Jvm.MethodName) prog_19_method_72_code (4 : Nat) (Option.none : Option Jvm.ClassFile.FieldType)) ∈ lw_all := lw_g (lw_at lw_m9 210 rfl) rfl
theorem q2316 : (Jvm.Cond.methodLink "MakingHouseModel" (440 : Nat) ({ cls := "MakingHouseModel", name := "isLetter", desc := "(I)Z" } : Jvm.MethodName)) ∈ lw_all := lw_g (lw_at lw_m9 211 rfl) rfl
theorem q2317 : (Jvm.Cond.privateMethod ({ cls := "MakingHouseModel", name := "isLetter", desc := "(I)Z" } : Jvm.MethodName)) ∈ lw_tbl := lw_at lw_m9 212 rfl
theorem q2318 : (Jvm.Cond.instanceMethod ({ cls := "MakingHouseModel", name := "isLetter", desc := "(I)Z" } : Jvm.MethodName)) ∈ lw_all := lw_g (lw_at lw_m9 213 rfl) rfl
theorem q2319 : (Jvm.Cond.code ({ cls := "MakingHouseModel", name := "isLetter", desc := "(I)Z" } : Jvm.MethodName) prog_19_method_55_code (2 : Nat) (Option.some Jvm.ClassFile.FieldType.boolean)) ∈ lw_all := lw_g (lw_at lw_m9 214 rfl) rfl
theorem q2320 : (Jvm.Cond.methodLink "MakingHouseModel" (362 : Nat) ({ cls := "MakingHouseModel", name := "kind", desc := "()I" } : Jvm.MethodName)) ∈ lw_all := lw_g (lw_at lw_m9 215 rfl) rfl
theorem q2321 : (Jvm.Cond.privateMethod ({ cls := "MakingHouseModel", name := "kind", desc := "()I" } : Jvm.MethodName)) ∈ lw_tbl := lw_at lw_m9 216 rfl
theorem q2322 : (Jvm.Cond.instanceMethod ({ cls := "MakingHouseModel", name := "kind", desc := "()I" } : Jvm.MethodName)) ∈ lw_all := lw_g (lw_at lw_m9 217 rfl) rfl
theorem q2323 : (Jvm.Cond.code ({ cls := "MakingHouseModel", name := "kind", desc := "()I" } : Jvm.MethodName) prog_19_method_52_code (1 : Nat) (Option.some Jvm.ClassFile.FieldType.int)) ∈ lw_all := lw_g (lw_at lw_m9 218 rfl) rfl
theorem q2324 : (Jvm.Cond.methodLink "MakingHouseModel" (394 : Nat) ({ cls := "MakingHouseModel", name := "whole", desc := "()V" } : Jvm.MethodName)) ∈ lw_all := lw_g (lw_at lw_m9 219 rfl) rfl
theorem q2325 : (Jvm.Cond.privateMethod ({ cls := "MakingHouseModel", name := "whole", desc := "()V" } : Jvm.MethodName)) ∈ lw_tbl := lw_at lw_m9 220 rfl
theorem q2326 : (Jvm.Cond.instanceMethod ({ cls := "MakingHouseModel", name := "whole", desc := "()V" } : Jvm.MethodName)) ∈ lw_all := lw_g (lw_at lw_m9 221 rfl) rfl
theorem q2327 : (Jvm.Cond.code ({ cls := "MakingHouseModel", name := "whole", desc := "()V" } : Jvm.MethodName) prog_19_method_59_code (1 : Nat) (Option.none : Option Jvm.ClassFile.FieldType)) ∈ lw_all := lw_g (lw_at lw_m9 222 rfl) rfl
theorem q2328 : (Jvm.Cond.methodLink "MakingHouseModel" (375 : Nat) ({ cls := "MakingHouseModel", name := "expect", desc := "(Z)V" } : Jvm.MethodName)) ∈ lw_all := lw_g (lw_at lw_m9 223 rfl) rfl
theorem q2329 : (Jvm.Cond.privateMethod ({ cls := "MakingHouseModel", name := "expect", desc := "(Z)V" } : Jvm.MethodName)) ∈ lw_tbl := lw_at lw_m9 224 rfl
theorem q2330 : (Jvm.Cond.instanceMethod ({ cls := "MakingHouseModel", name := "expect", desc := "(Z)V" } : Jvm.MethodName)) ∈ lw_all := lw_g (lw_at lw_m9 225 rfl) rfl
theorem q2331 : (Jvm.Cond.code ({ cls := "MakingHouseModel", name := "expect", desc := "(Z)V" } : Jvm.MethodName) prog_19_method_57_code (2 : Nat) (Option.none : Option Jvm.ClassFile.FieldType)) ∈ lw_all := lw_g (lw_at lw_m9 226 rfl) rfl
theorem q2332 : (Jvm.Cond.methodLink "MakingHouseModel" (368 : Nat) ({ cls := "MakingHouseModel", name := "wrong", desc := "()Ljava/lang/IllegalStateException;" } : Jvm.MethodName)) ∈ lw_all := lw_g (lw_at lw_m9 227 rfl) rfl
theorem q2333 : (Jvm.Cond.privateMethod ({ cls := "MakingHouseModel", name := "wrong", desc := "()Ljava/lang/IllegalStateException;" } : Jvm.MethodName)) ∈ lw_tbl := lw_at lw_m9 228 rfl
theorem q2334 : (Jvm.Cond.instanceMethod ({ cls := "MakingHouseModel", name := "wrong", desc := "()Ljava/lang/IllegalStateException;" } : Jvm.MethodName)) ∈ lw_all := lw_g (lw_at lw_m9 229 rfl) rfl
theorem q2335 : (Jvm.Cond.code ({ cls := "MakingHouseModel", name := "wrong", desc := "()Ljava/lang/IllegalStateException;" } : Jvm.MethodName) prog_19_method_56_code (1 : Nat) (Option.some (Jvm.ClassFile.FieldType.object "java/lang/IllegalStateException"))) ∈ lw_all := lw_g (lw_at lw_m9 230 rfl) rfl
theorem q2336 : (Jvm.Cond.methodLink "MakingHouseModel" (425 : Nat) ({ cls := "MakingHouseModel", name := "later", desc := "(I)V" } : Jvm.MethodName)) ∈ lw_all := lw_g (lw_at lw_m9 231 rfl) rfl
theorem q2337 : (Jvm.Cond.privateMethod ({ cls := "MakingHouseModel", name := "later", desc := "(I)V" } : Jvm.MethodName)) ∈ lw_tbl := lw_at lw_m9 232 rfl
theorem q2338 : (Jvm.Cond.instanceMethod ({ cls := "MakingHouseModel", name := "later", desc := "(I)V" } : Jvm.MethodName)) ∈ lw_all := lw_g (lw_at lw_m9 233 rfl) rfl
theorem q2339 : (Jvm.Cond.code ({ cls := "MakingHouseModel", name := "later", desc := "(I)V" } : Jvm.MethodName) prog_19_method_58_code (2 : Nat) (Option.none : Option Jvm.ClassFile.FieldType)) ∈ lw_all := lw_g (lw_at lw_m9 234 rfl) rfl
theorem q2340 : (Jvm.Cond.methodLink "MakingHouseModel" (449 : Nat) ({ cls := "MakingHouseModel", name := "lookRest", desc := "(I)V" } : Jvm.MethodName)) ∈ lw_all := lw_g (lw_at lw_m9 235 rfl) rfl
theorem q2341 : (Jvm.Cond.privateMethod ({ cls := "MakingHouseModel", name := "lookRest", desc := "(I)V" } : Jvm.MethodName)) ∈ lw_tbl := lw_at lw_m9 236 rfl
theorem q2342 : (Jvm.Cond.instanceMethod ({ cls := "MakingHouseModel", name := "lookRest", desc := "(I)V" } : Jvm.MethodName)) ∈ lw_all := lw_g (lw_at lw_m9 237 rfl) rfl
theorem q2343 : (Jvm.Cond.code ({ cls := "MakingHouseModel", name := "lookRest", desc := "(I)V" } : Jvm.MethodName) prog_19_method_73_code (3 : Nat) (Option.none : Option Jvm.ClassFile.FieldType)) ∈ lw_all := lw_g (lw_at lw_m9 238 rfl) rfl
theorem q2344 : (Jvm.Cond.methodLink "MakingHouseModel" (382 : Nat) ({ cls := "MakingHouseModel", name := "isSign", desc := "(I)Z" } : Jvm.MethodName)) ∈ lw_all := lw_g (lw_at lw_m9 239 rfl) rfl
theorem q2345 : (Jvm.Cond.privateMethod ({ cls := "MakingHouseModel", name := "isSign", desc := "(I)Z" } : Jvm.MethodName)) ∈ lw_tbl := lw_at lw_m10 0 rfl
theorem q2346 : (Jvm.Cond.instanceMethod ({ cls := "MakingHouseModel", name := "isSign", desc := "(I)Z" } : Jvm.MethodName)) ∈ lw_all := lw_g (lw_at lw_m10 1 rfl) rfl
theorem q2347 : (Jvm.Cond.code ({ cls := "MakingHouseModel", name := "isSign", desc := "(I)Z" } : Jvm.MethodName) prog_19_method_53_code (2 : Nat) (Option.some Jvm.ClassFile.FieldType.boolean)) ∈ lw_all := lw_g (lw_at lw_m10 2 rfl) rfl
theorem q2348 : (Jvm.Cond.methodLink "MakingHouseModel" (397 : Nat) ({ cls := "MakingHouseModel", name := "lookPlace", desc := "()V" } : Jvm.MethodName)) ∈ lw_all := lw_g (lw_at lw_m10 3 rfl) rfl
theorem q2349 : (Jvm.Cond.privateMethod ({ cls := "MakingHouseModel", name := "lookPlace", desc := "()V" } : Jvm.MethodName)) ∈ lw_tbl := lw_at lw_m10 4 rfl
theorem q2350 : (Jvm.Cond.instanceMethod ({ cls := "MakingHouseModel", name := "lookPlace", desc := "()V" } : Jvm.MethodName)) ∈ lw_all := lw_g (lw_at lw_m10 5 rfl) rfl
theorem q2351 : (Jvm.Cond.code ({ cls := "MakingHouseModel", name := "lookPlace", desc := "()V" } : Jvm.MethodName) prog_19_method_62_code (1 : Nat) (Option.none : Option Jvm.ClassFile.FieldType)) ∈ lw_all := lw_g (lw_at lw_m10 6 rfl) rfl
theorem q2352 : (Jvm.Cond.methodLink "MakingHouseModel" (391 : Nat) ({ cls := "MakingHouseModel", name := "bracket", desc := "()V" } : Jvm.MethodName)) ∈ lw_all := lw_g (lw_at lw_m10 7 rfl) rfl
theorem q2353 : (Jvm.Cond.privateMethod ({ cls := "MakingHouseModel", name := "bracket", desc := "()V" } : Jvm.MethodName)) ∈ lw_tbl := lw_at lw_m10 8 rfl
theorem q2354 : (Jvm.Cond.instanceMethod ({ cls := "MakingHouseModel", name := "bracket", desc := "()V" } : Jvm.MethodName)) ∈ lw_all := lw_g (lw_at lw_m10 9 rfl) rfl
theorem q2355 : (Jvm.Cond.code ({ cls := "MakingHouseModel", name := "bracket", desc := "()V" } : Jvm.MethodName) prog_19_method_61_code (1 : Nat) (Option.none : Option Jvm.ClassFile.FieldType)) ∈ lw_all := lw_g (lw_at lw_m10 10 rfl) rfl
theorem q2356 : (Jvm.Cond.methodLink "MakingHouseModel" (385 : Nat) ({ cls := "MakingHouseModel", name := "deeper", desc := "()V" } : Jvm.MethodName)) ∈ lw_all := lw_g (lw_at lw_m10 11 rfl) rfl
theorem q2357 : (Jvm.Cond.privateMethod ({ cls := "MakingHouseModel", name := "deeper", desc := "()V" } : Jvm.MethodName)) ∈ lw_tbl := lw_at lw_m10 12 rfl
theorem q2358 : (Jvm.Cond.instanceMethod ({ cls := "MakingHouseModel", name := "deeper", desc := "()V" } : Jvm.MethodName)) ∈ lw_all := lw_g (lw_at lw_m10 13 rfl) rfl
theorem q2359 : (Jvm.Cond.code ({ cls := "MakingHouseModel", name := "deeper", desc := "()V" } : Jvm.MethodName) prog_19_method_60_code (1 : Nat) (Option.none : Option Jvm.ClassFile.FieldType)) ∈ lw_all := lw_g (lw_at lw_m10 14 rfl) rfl
theorem q2360 : (Jvm.Cond.methodLink "MakingHouseModel" (388 : Nat) ({ cls := "MakingHouseModel", name := "lookTest", desc := "()V" } : Jvm.MethodName)) ∈ lw_all := lw_g (lw_at lw_m10 15 rfl) rfl
theorem q2361 : (Jvm.Cond.privateMethod ({ cls := "MakingHouseModel", name := "lookTest", desc := "()V" } : Jvm.MethodName)) ∈ lw_tbl := lw_at lw_m10 16 rfl
theorem q2362 : (Jvm.Cond.instanceMethod ({ cls := "MakingHouseModel", name := "lookTest", desc := "()V" } : Jvm.MethodName)) ∈ lw_all := lw_g (lw_at lw_m10 17 rfl) rfl
theorem q2363 : (Jvm.Cond.code ({ cls := "MakingHouseModel", name := "lookTest", desc := "()V" } : Jvm.MethodName) prog_19_method_69_code (1 : Nat) (Option.none : Option Jvm.ClassFile.FieldType)) ∈ lw_all := lw_g (lw_at lw_m10 18 rfl) rfl
theorem q2364 : (Jvm.Cond.methodLink "MakingHouseModel" (416 : Nat) ({ cls := "MakingHouseModel", name := "lookSum", desc := "()V" } : Jvm.MethodName)) ∈ lw_all := lw_g (lw_at lw_m10 19 rfl) rfl
theorem q2365 : (Jvm.Cond.privateMethod ({ cls := "MakingHouseModel", name := "lookSum", desc := "()V" } : Jvm.MethodName)) ∈ lw_tbl := lw_at lw_m10 20 rfl
theorem q2366 : (Jvm.Cond.instanceMethod ({ cls := "MakingHouseModel", name := "lookSum", desc := "()V" } : Jvm.MethodName)) ∈ lw_all := lw_g (lw_at lw_m10 21 rfl) rfl
theorem q2367 : (Jvm.Cond.code ({ cls := "MakingHouseModel", name := "lookSum", desc := "()V" } : Jvm.MethodName) prog_19_method_68_code (2 : Nat) (Option.none : Option Jvm.ClassFile.FieldType)) ∈ lw_all := lw_g (lw_at lw_m10 22 rfl) rfl
theorem q2368 : (Jvm.Cond.methodLink "MakingHouseModel" (400 : Nat) ({ cls := "MakingHouseModel", name := "lookFactor", desc := "()V" } : Jvm.MethodName)) ∈ lw_all := lw_g (lw_at lw_m10 23 rfl) rfl
theorem q2369 : (Jvm.Cond.privateMethod ({ cls := "MakingHouseModel", name := "lookFactor", desc := "()V" } : Jvm.MethodName)) ∈ lw_tbl := lw_at lw_m10 24 rfl
theorem q2370 : (Jvm.Cond.instanceMethod ({ cls := "MakingHouseModel", name := "lookFactor", desc := "()V" } : Jvm.MethodName)) ∈ lw_all := lw_g (lw_at lw_m10 25 rfl) rfl
theorem q2371 : (Jvm.Cond.code ({ cls := "MakingHouseModel", name := "lookFactor", desc := "()V" } : Jvm.MethodName) prog_19_method_64_code (1 : Nat) (Option.none : Option Jvm.ClassFile.FieldType)) ∈ lw_all := lw_g (lw_at lw_m10 26 rfl) rfl
theorem q2372 : (Jvm.Cond.methodLink "MakingHouseModel" (403 : Nat) ({ cls := "MakingHouseModel", name := "lookItem", desc := "()V" } : Jvm.MethodName)) ∈ lw_all := lw_g (lw_at lw_m10 27 rfl) rfl
theorem q2373 : (Jvm.Cond.privateMethod ({ cls := "MakingHouseModel", name := "lookItem", desc := "()V" } : Jvm.MethodName)) ∈ lw_tbl := lw_at lw_m10 28 rfl
theorem q2374 : (Jvm.Cond.instanceMethod ({ cls := "MakingHouseModel", name := "lookItem", desc := "()V" } : Jvm.MethodName)) ∈ lw_all := lw_g (lw_at lw_m10 29 rfl) rfl
theorem q2375 : (Jvm.Cond.code ({ cls := "MakingHouseModel", name := "lookItem", desc := "()V" } : Jvm.MethodName) prog_19_method_63_code (1 : Nat) (Option.none : Option Jvm.ClassFile.FieldType)) ∈ lw_all := lw_g (lw_at lw_m10 30 rfl) rfl
theorem q2376 : (Jvm.Cond.methodLink "MakingHouseModel" (409 : Nat) ({ cls := "MakingHouseModel", name := "isTimes", desc := "()Z" } : Jvm.MethodName)) ∈ lw_all := lw_g (lw_at lw_m10 31 rfl) rfl
theorem q2377 : (Jvm.Cond.privateMethod ({ cls := "MakingHouseModel", name := "isTimes", desc := "()Z" } : Jvm.MethodName)) ∈ lw_tbl := lw_at lw_m10 32 rfl
theorem q2378 : (Jvm.Cond.instanceMethod ({ cls := "MakingHouseModel", name := "isTimes", desc := "()Z" } : Jvm.MethodName)) ∈ lw_all := lw_g (lw_at lw_m10 33 rfl) rfl
theorem q2379 : (Jvm.Cond.code ({ cls := "MakingHouseModel", name := "isTimes", desc := "()Z" } : Jvm.MethodName) prog_19_method_65_code (1 : Nat) (Option.some Jvm.ClassFile.FieldType.boolean)) ∈ lw_all := lw_g (lw_at lw_m10 34 rfl) rfl
theorem q2380 : (Jvm.Cond.methodLink "MakingHouseModel" (406 : Nat) ({ cls := "MakingHouseModel", name := "isWord", desc := "(I)Z" } : Jvm.MethodName)) ∈ lw_all := lw_g (lw_at lw_m10 35 rfl) rfl
theorem q2381 : (Jvm.Cond.privateMethod ({ cls := "MakingHouseModel", name := "isWord", desc := "(I)Z" } : Jvm.MethodName)) ∈ lw_tbl := lw_at lw_m10 36 rfl
theorem q2382 : (Jvm.Cond.instanceMethod ({ cls := "MakingHouseModel", name := "isWord", desc := "(I)Z" } : Jvm.MethodName)) ∈ lw_all := lw_g (lw_at lw_m10 37 rfl) rfl
theorem q2383 : (Jvm.Cond.code ({ cls := "MakingHouseModel", name := "isWord", desc := "(I)Z" } : Jvm.MethodName) prog_19_method_54_code (2 : Nat) (Option.some Jvm.ClassFile.FieldType.boolean)) ∈ lw_all := lw_g (lw_at lw_m10 38 rfl) rfl
theorem q2384 : (Jvm.Cond.methodLink "MakingHouseModel" (413 : Nat) ({ cls := "MakingHouseModel", name := "isPlus", desc := "()Z" } : Jvm.MethodName)) ∈ lw_all := lw_g (lw_at lw_m10 39 rfl) rfl
theorem q2385 : (Jvm.Cond.privateMethod ({ cls := "MakingHouseModel", name := "isPlus", desc := "()Z" } : Jvm.MethodName)) ∈ lw_tbl := lw_at lw_m10 40 rfl
theorem q2386 : (Jvm.Cond.instanceMethod ({ cls := "MakingHouseModel", name := "isPlus", desc := "()Z" } : Jvm.MethodName)) ∈ lw_all := lw_g (lw_at lw_m10 41 rfl) rfl
theorem q2387 : (Jvm.Cond.code ({ cls := "MakingHouseModel", name := "isPlus", desc := "()Z" } : Jvm.MethodName) prog_19_method_66_code (1 : Nat) (Option.some Jvm.ClassFile.FieldType.boolean)) ∈ lw_all := lw_g (lw_at lw_m10 42 rfl) rfl
theorem q2388 : (Jvm.Cond.methodLink "MakingHouseModel" (419 : Nat) ({ cls := "MakingHouseModel", name := "isRelation", desc := "()Z" } : Jvm.MethodName)) ∈ lw_all := lw_g (lw_at lw_m10 43 rfl) rfl
theorem q2389 : (Jvm.Cond.privateMethod ({ cls := "MakingHouseModel", name := "isRelation", desc := "()Z" } : Jvm.MethodName)) ∈ lw_tbl := lw_at lw_m10 44 rfl
theorem q2390 : (Jvm.Cond.instanceMethod ({ cls := "MakingHouseModel", name := "isRelation", desc := "()Z" } : Jvm.MethodName)) ∈ lw_all := lw_g (lw_at lw_m10 45 rfl) rfl
theorem q2391 : (Jvm.Cond.code ({ cls := "MakingHouseModel", name := "isRelation", desc := "()Z" } : Jvm.MethodName) prog_19_method_67_code (1 : Nat) (Option.some Jvm.ClassFile.FieldType.boolean)) ∈ lw_all := lw_g (lw_at lw_m10 46 rfl) rfl
theorem q2392 : (Jvm.Cond.methodLink "MakingHouseModel" (452 : Nat) ({ cls := "MakingHouseModel", name := "lookDo", desc := "(II)V" } : Jvm.MethodName)) ∈ lw_all := lw_g (lw_at lw_m10 47 rfl) rfl
theorem q2393 : (Jvm.Cond.privateMethod ({ cls := "MakingHouseModel", name := "lookDo", desc := "(II)V" } : Jvm.MethodName)) ∈ lw_tbl := lw_at lw_m10 48 rfl
theorem q2394 : (Jvm.Cond.instanceMethod ({ cls := "MakingHouseModel", name := "lookDo", desc := "(II)V" } : Jvm.MethodName)) ∈ lw_all := lw_g (lw_at lw_m10 49 rfl) rfl
theorem q2395 : (Jvm.Cond.code ({ cls := "MakingHouseModel", name := "lookDo", desc := "(II)V" } : Jvm.MethodName) prog_19_method_74_code (6 : Nat) (Option.none : Option Jvm.ClassFile.FieldType)) ∈ lw_all := lw_g (lw_at lw_m10 50 rfl) rfl
theorem q2396 : (Jvm.Cond.methodLink "MakingHouseModel" (456 : Nat) ({ cls := "MakingHouseModel", name := "lookEnd", desc := "(II)V" } : Jvm.MethodName)) ∈ lw_all := lw_g (lw_at lw_m10 51 rfl) rfl
theorem q2397 : (Jvm.Cond.privateMethod ({ cls := "MakingHouseModel", name := "lookEnd", desc := "(II)V" } : Jvm.MethodName)) ∈ lw_tbl := lw_at lw_m10 52 rfl
theorem q2398 : (Jvm.Cond.instanceMethod ({ cls := "MakingHouseModel", name := "lookEnd", desc := "(II)V" } : Jvm.MethodName)) ∈ lw_all := lw_g (lw_at lw_m10 53 rfl) rfl
theorem q2399 : (Jvm.Cond.code ({ cls := "MakingHouseModel", name := "lookEnd", desc := "(II)V" } : Jvm.MethodName) prog_19_method_75_code (4 : Nat) (Option.none : Option Jvm.ClassFile.FieldType)) ∈ lw_all := lw_g (lw_at lw_m10 54 rfl) rfl
theorem q2400 : (Jvm.Cond.methodLink "MakingHouseModel" (459 : Nat) ({ cls := "MakingHouseModel", name := "lookWords", desc := "()V" } : Jvm.MethodName)) ∈ lw_all := lw_g (lw_at lw_m10 55 rfl) rfl
theorem q2401 : (Jvm.Cond.privateMethod ({ cls := "MakingHouseModel", name := "lookWords", desc := "()V" } : Jvm.MethodName)) ∈ lw_tbl := lw_at lw_m10 56 rfl
theorem q2402 : (Jvm.Cond.instanceMethod ({ cls := "MakingHouseModel", name := "lookWords", desc := "()V" } : Jvm.MethodName)) ∈ lw_all := lw_g (lw_at lw_m10 57 rfl) rfl
theorem q2403 : (Jvm.Cond.code ({ cls := "MakingHouseModel", name := "lookWords", desc := "()V" } : Jvm.MethodName) prog_19_method_71_code (2 : Nat) (Option.none : Option Jvm.ClassFile.FieldType)) ∈ lw_all := lw_g (lw_at lw_m10 58 rfl) rfl
theorem q2404 : (Jvm.Cond.methodLink "MakingHouseModel" (422 : Nat) ({ cls := "MakingHouseModel", name := "isWordLetter", desc := "(I)Z" } : Jvm.MethodName)) ∈ lw_all := lw_g (lw_at lw_m10 59 rfl) rfl
theorem q2405 : (Jvm.Cond.static ({ cls := "MakingHouseModel", name := "isWordLetter", desc := "(I)Z" } : Jvm.MethodName)) ∈ lw_all := lw_g (lw_at lw_m10 60 rfl) rfl
theorem q2406 : (Jvm.Cond.code ({ cls := "MakingHouseModel", name := "isWordLetter", desc := "(I)Z" } : Jvm.MethodName) prog_19_method_70_code (1 : Nat) (Option.some Jvm.ClassFile.FieldType.boolean)) ∈ lw_all := lw_g (lw_at lw_m10 61 rfl) rfl
theorem q2407 : (Jvm.Cond.methodLink "MakingHouseModel" (474 : Nat) ({ cls := "java/lang/Math", name := "min", desc := "(II)I" } : Jvm.MethodName)) ∈ lw_all := lw_g (lw_at lw_m10 62 rfl) rfl
theorem q2408 : (Jvm.Cond.methodLink "MakingHouseModel" (477 : Nat) ({ cls := "MakingHouseModel", name := "behindAll", desc := "()V" } : Jvm.MethodName)) ∈ lw_all := lw_g (lw_at lw_m10 63 rfl) rfl
theorem q2409 : (Jvm.Cond.privateMethod ({ cls := "MakingHouseModel", name := "behindAll", desc := "()V" } : Jvm.MethodName)) ∈ lw_tbl := lw_at lw_m10 64 rfl
theorem q2410 : (Jvm.Cond.instanceMethod ({ cls := "MakingHouseModel", name := "behindAll", desc := "()V" } : Jvm.MethodName)) ∈ lw_all := lw_g (lw_at lw_m10 65 rfl) rfl
theorem q2411 : (Jvm.Cond.code ({ cls := "MakingHouseModel", name := "behindAll", desc := "()V" } : Jvm.MethodName) prog_19_method_77_code (3 : Nat) (Option.none : Option Jvm.ClassFile.FieldType)) ∈ lw_all := lw_g (lw_at lw_m10 66 rfl) rfl
theorem q2412 : (Jvm.Cond.methodLink "MakingHouseModel" (465 : Nat) ({ cls := "MakingHouseModel", name := "lineOf", desc := "(II)I" } : Jvm.MethodName)) ∈ lw_all := lw_g (lw_at lw_m10 67 rfl) rfl
theorem q2413 : (Jvm.Cond.privateMethod ({ cls := "MakingHouseModel", name := "lineOf", desc := "(II)I" } : Jvm.MethodName)) ∈ lw_tbl := lw_at lw_m10 68 rfl
theorem q2414 : (Jvm.Cond.instanceMethod ({ cls := "MakingHouseModel", name := "lineOf", desc := "(II)I" } : Jvm.MethodName)) ∈ lw_all := lw_g (lw_at lw_m10 69 rfl) rfl
theorem q2415 : (Jvm.Cond.code ({ cls := "MakingHouseModel", name := "lineOf", desc := "(II)I" } : Jvm.MethodName) prog_19_method_76_code (4 : Nat) (Option.some Jvm.ClassFile.FieldType.int)) ∈ lw_all := lw_g (lw_at lw_m10 70 rfl) rfl
theorem q2417 : (Jvm.Cond.instanceMethod ({ cls := "MakingHouseModel", name := "place", desc := "()I" } : Jvm.MethodName)) ∈ lw_all := lw_g (lw_at lw_m10 72 rfl) rfl
theorem q2418 : (Jvm.Cond.selects "MakingHouseModel" ({ cls := "MakingHouseModel", name := "place", desc := "()I" } : Jvm.MethodName) ({ cls := "MakingHouseModel", name := "place", desc := "()I" } : Jvm.MethodName)) ∈ lw_all := lw_g (lw_at lw_m10 73 rfl) rfl
theorem q2419 : (Jvm.Cond.code ({ cls := "MakingHouseModel", name := "place", desc := "()I" } : Jvm.MethodName) prog_19_method_79_code (1 : Nat) (Option.some Jvm.ClassFile.FieldType.int)) ∈ lw_all := lw_g (lw_at lw_m10 74 rfl) rfl
theorem q2421 : (Jvm.Cond.instanceMethod ({ cls := "MakingHouseModel", name := "start", desc := "(I)I" } : Jvm.MethodName)) ∈ lw_all := lw_g (lw_at lw_m10 76 rfl) rfl
theorem q2422 : (Jvm.Cond.selects "MakingHouseModel" ({ cls := "MakingHouseModel", name := "start", desc := "(I)I" } : Jvm.MethodName) ({ cls := "MakingHouseModel", name := "start", desc := "(I)I" } : Jvm.MethodName)) ∈ lw_all := lw_g (lw_at lw_m10 77 rfl) rfl
theorem q2423 : (Jvm.Cond.codeWith ({ cls := "MakingHouseModel", name := "start", desc := "(I)I" } : Jvm.MethodName) prog_19_method_91_code (3 : Nat) (Option.some Jvm.ClassFile.FieldType.int) [((47 : Nat), (116 : Nat), (119 : Nat), (80 : Nat))]) ∈ lw_all := lw_g (lw_at lw_m10 78 rfl) rfl
theorem q2424 : (Jvm.Cond.methodLink "MakingHouseModel" (538 : Nat) ({ cls := "MakingHouseModel", name := "begin", desc := "()V" } : Jvm.MethodName)) ∈ lw_all := lw_g (lw_at lw_m10 79 rfl) rfl
theorem q2425 : (Jvm.Cond.privateMethod ({ cls := "MakingHouseModel", name := "begin", desc := "()V" } : Jvm.MethodName)) ∈ lw_tbl := lw_at lw_m10 80 rfl
theorem q2426 : (Jvm.Cond.instanceMethod ({ cls := "MakingHouseModel", name := "begin", desc := "()V" } : Jvm.MethodName)) ∈ lw_all := lw_g (lw_at lw_m10 81 rfl) rfl
theorem q2427 : (Jvm.Cond.code ({ cls := "MakingHouseModel", name := "begin", desc := "()V" } : Jvm.MethodName) prog_19_method_92_code (2 : Nat) (Option.none : Option Jvm.ClassFile.FieldType)) ∈ lw_all := lw_g (lw_at lw_m10 82 rfl) rfl
theorem q2428 : (Jvm.Cond.methodLink "MakingHouseModel" (596 : Nat) ({ cls := "MakingHouseModel", name := "forgetCycle", desc := "()V" } : Jvm.MethodName)) ∈ lw_all := lw_g (lw_at lw_m10 83 rfl) rfl
theorem q2429 : (Jvm.Cond.privateMethod ({ cls := "MakingHouseModel", name := "forgetCycle", desc := "()V" } : Jvm.MethodName)) ∈ lw_tbl := lw_at lw_m10 84 rfl
theorem q2430 : (Jvm.Cond.instanceMethod ({ cls := "MakingHouseModel", name := "forgetCycle", desc := "()V" } : Jvm.MethodName)) ∈ lw_all := lw_g (lw_at lw_m10 85 rfl) rfl
theorem q2431 : (Jvm.Cond.code ({ cls := "MakingHouseModel", name := "forgetCycle", desc := "()V" } : Jvm.MethodName) prog_19_method_93_code (1 : Nat) (Option.none : Option Jvm.ClassFile.FieldType)) ∈ lw_all := lw_g (lw_at lw_m10 86 rfl) rfl
theorem q2432 : (Jvm.Cond.methodLink "MakingHouseModel" (550 : Nat) ({ cls := "MakingHouseModel", name := "back", desc := "()V" } : Jvm.MethodName)) ∈ lw_all := lw_g (lw_at lw_m10 87 rfl) rfl
theorem q2433 : (Jvm.Cond.privateMethod ({ cls := "MakingHouseModel", name := "back", desc := "()V" } : Jvm.MethodName)) ∈ lw_tbl := lw_at lw_m10 88 rfl
theorem q2434 : (Jvm.Cond.instanceMethod ({ cls := "MakingHouseModel", name := "back", desc := "()V" } : Jvm.MethodName)) ∈ lw_all := lw_g (lw_at lw_m10 89 rfl) rfl
theorem q2435 : (Jvm.Cond.code ({ cls := "MakingHouseModel", name := "back", desc := "()V" } : Jvm.MethodName) prog_19_method_94_code (2 : Nat) (Option.none : Option Jvm.ClassFile.FieldType)) ∈ lw_all := lw_g (lw_at lw_m10 90 rfl) rfl
theorem q2436 : (Jvm.Cond.methodLink "MakingHouseModel" (553 : Nat) ({ cls := "MakingHouseModel", name := "doLine", desc := "()V" } : Jvm.MethodName)) ∈ lw_all := lw_g (lw_at lw_m10 91 rfl) rfl
theorem q2437 : (Jvm.Cond.privateMethod ({ cls := "MakingHouseModel", name := "doLine", desc := "()V" } : Jvm.MethodName)) ∈ lw_tbl := lw_at lw_m10 92 rfl
theorem q2438 : (Jvm.Cond.instanceMethod ({ cls := "MakingHouseModel", name := "doLine", desc := "()V" } : Jvm.MethodName)) ∈ lw_all := lw_g (lw_at lw_m10 93 rfl) rfl
theorem q2439 : (Jvm.Cond.code ({ cls := "MakingHouseModel", name := "doLine", desc := "()V" } : Jvm.MethodName) prog_19_method_95_code (2 : Nat) (Option.none : Option Jvm.ClassFile.FieldType)) ∈ lw_all := lw_g (lw_at lw_m10 94 rfl) rfl
theorem q2440 : (Jvm.Cond.methodLink "MakingHouseModel" (490 : Nat) ({ cls := "MakingHouseModel", name := "alarmed", desc := "(I)Ljava/lang/IllegalStateException;" } : Jvm.MethodName)) ∈ lw_all := lw_g (lw_at lw_m10 95 rfl) rfl
theorem q2441 : (Jvm.Cond.privateMethod ({ cls := "MakingHouseModel", name := "alarmed", desc := "(I)Ljava/lang/IllegalStateException;" } : Jvm.MethodName)) ∈ lw_tbl := lw_at lw_m10 96 rfl
theorem q2442 : (Jvm.Cond.instanceMethod ({ cls := "MakingHouseModel", name := "alarmed", desc := "(I)Ljava/lang/IllegalStateException;" } : Jvm.MethodName)) ∈ lw_all := lw_g (lw_at lw_m10 97 rfl) rfl
theorem q2443 : (Jvm.Cond.code ({ cls := "MakingHouseModel", name := "alarmed", desc := "(I)Ljava/lang/IllegalStateException;" } : Jvm.MethodName) prog_19_method_80_code (2 : Nat) (Option.some (Jvm.ClassFile.FieldType.object "java/lang/IllegalStateException"))) ∈ lw_all := lw_g (lw_at lw_m10 98 rfl) rfl
theorem q2444 : (Jvm.Cond.methodLink "MakingHouseModel" (505 : Nat) ({ cls := "MakingHouseModel", name := "variableAt", desc := "()I" } : Jvm.MethodName)) ∈ lw_all := lw_g (lw_at lw_m10 99 rfl) rfl
theorem q2445 : (Jvm.Cond.privateMethod ({ cls := "MakingHouseModel", name := "variableAt", desc := "()I" } : Jvm.MethodName)) ∈ lw_tbl := lw_at lw_m10 100 rfl
theorem q2446 : (Jvm.Cond.instanceMethod ({ cls := "MakingHouseModel", name := "variableAt", desc := "()I" } : Jvm.MethodName)) ∈ lw_all := lw_g (lw_at lw_m10 101 rfl) rfl
theorem q2447 : (Jvm.Cond.code ({ cls := "MakingHouseModel", name := "variableAt", desc := "()I" } : Jvm.MethodName) prog_19_method_83_code (3 : Nat) (Option.some Jvm.ClassFile.FieldType.int)) ∈ lw_all := lw_g (lw_at lw_m10 102 rfl) rfl
theorem q2448 : (Jvm.Cond.methodLink "MakingHouseModel" (498 : Nat) ({ cls := "MakingHouseModel", name := "bracketed", desc := "()J" } : Jvm.MethodName)) ∈ lw_all := lw_g (lw_at lw_m10 103 rfl) rfl
theorem q2449 : (Jvm.Cond.privateMethod ({ cls := "MakingHouseModel", name := "bracketed", desc := "()J" } : Jvm.MethodName)) ∈ lw_tbl := lw_at lw_m10 104 rfl
theorem q2450 : (Jvm.Cond.instanceMethod ({ cls := "MakingHouseModel", name := "bracketed", desc := "()J" } : Jvm.MethodName)) ∈ lw_all := lw_g (lw_at lw_m10 105 rfl) rfl
theorem q2451 : (Jvm.Cond.code ({ cls := "MakingHouseModel", name := "bracketed", desc := "()J" } : Jvm.MethodName) prog_19_method_82_code (3 : Nat) (Option.some Jvm.ClassFile.FieldType.long)) ∈ lw_all := lw_g (lw_at lw_m10 106 rfl) rfl
theorem q2452 : (Jvm.Cond.methodLink "MakingHouseModel" (494 : Nat) ({ cls := "MakingHouseModel", name := "test", desc := "()J" } : Jvm.MethodName)) ∈ lw_all := lw_g (lw_at lw_m10 107 rfl) rfl
theorem q2453 : (Jvm.Cond.privateMethod ({ cls := "MakingHouseModel", name := "test", desc := "()J" } : Jvm.MethodName)) ∈ lw_tbl := lw_at lw_m10 108 rfl
theorem q2454 : (Jvm.Cond.instanceMethod ({ cls := "MakingHouseModel", name := "test", desc := "()J" } : Jvm.MethodName)) ∈ lw_all := lw_g (lw_at lw_m10 109 rfl) rfl
theorem q2455 : (Jvm.Cond.code ({ cls := "MakingHouseModel", name := "test", desc := "()J" } : Jvm.MethodName) prog_19_method_89_code (7 : Nat) (Option.some Jvm.ClassFile.FieldType.long)) ∈ lw_all := lw_g (lw_at lw_m10 110 rfl) rfl
theorem q2456 : (Jvm.Cond.methodLink "MakingHouseModel" (529 : Nat) ({ cls := "MakingHouseModel", name := "sum", desc := "()J" } : Jvm.MethodName)) ∈ lw_all := lw_g (lw_at lw_m10 111 rfl) rfl
theorem q2457 : (Jvm.Cond.privateMethod ({ cls := "MakingHouseModel", name := "sum", desc := "()J" } : Jvm.MethodName)) ∈ lw_tbl := lw_at lw_m10 112 rfl
theorem q2458 : (Jvm.Cond.instanceMethod ({ cls := "MakingHouseModel", name := "sum", desc := "()J" } : Jvm.MethodName)) ∈ lw_all := lw_g (lw_at lw_m10 113 rfl) rfl
theorem q2459 : (Jvm.Cond.code ({ cls := "MakingHouseModel", name := "sum", desc := "()J" } : Jvm.MethodName) prog_19_method_88_code (6 : Nat) (Option.some Jvm.ClassFile.FieldType.long)) ∈ lw_all := lw_g (lw_at lw_m10 114 rfl) rfl
theorem q2460 : (Jvm.Cond.methodLink "MakingHouseModel" (526 : Nat) ({ cls := "MakingHouseModel", name := "product", desc := "()J" } : Jvm.MethodName)) ∈ lw_all := lw_g (lw_at lw_m10 115 rfl) rfl
theorem q2461 : (Jvm.Cond.privateMethod ({ cls := "MakingHouseModel", name := "product", desc := "()J" } : Jvm.MethodName)) ∈ lw_tbl := lw_at lw_m10 116 rfl
theorem q2462 : (Jvm.Cond.instanceMethod ({ cls := "MakingHouseModel", name := "product", desc := "()J" } : Jvm.MethodName)) ∈ lw_all := lw_g (lw_at lw_m10 117 rfl) rfl
theorem q2463 : (Jvm.Cond.code ({ cls := "MakingHouseModel", name := "product", desc := "()J" } : Jvm.MethodName) prog_19_method_86_code (6 : Nat) (Option.some Jvm.ClassFile.FieldType.long)) ∈ lw_all := lw_g (lw_at lw_m10 118 rfl) rfl
theorem q2464 : (Jvm.Cond.methodLink "MakingHouseModel" (508 : Nat) ({ cls := "MakingHouseModel", name := "factor", desc := "()J" } : Jvm.MethodName)) ∈ lw_all := lw_g (lw_at lw_m10 119 rfl) rfl
theorem q2465 : (Jvm.Cond.privateMethod ({ cls := "MakingHouseModel", name := "factor", desc := "()J" } : Jvm.MethodName)) ∈ lw_tbl := lw_at lw_m10 120 rfl
theorem q2466 : (Jvm.Cond.instanceMethod ({ cls := "MakingHouseModel", name := "factor", desc := "()J" } : Jvm.MethodName)) ∈ lw_all := lw_g (lw_at lw_m10 121 rfl) rfl
theorem q2467 : (Jvm.Cond.code ({ cls := "MakingHouseModel", name := "factor", desc := "()J" } : Jvm.MethodName) prog_19_method_85_code (4 : Nat) (Option.some Jvm.ClassFile.FieldType.long)) ∈ lw_all := lw_g (lw_at lw_m10 122 rfl) rfl
theorem q2468 : (Jvm.Cond.methodLink "MakingHouseModel" (511 : Nat) ({ cls := "MakingHouseModel", name := "item", desc := "()J" } : Jvm.MethodName)) ∈ lw_all := lw_g (lw_at lw_m10 123 rfl) rfl
theorem q2469 : (Jvm.Cond.privateMethod ({ cls := "MakingHouseModel", name := "item", desc := "()J" } : Jvm.MethodName)) ∈ lw_tbl := lw_at lw_m10 124 rfl
theorem q2470 : (Jvm.Cond.instanceMethod ({ cls := "MakingHouseModel", name := "item", desc := "()J" } : Jvm.MethodName)) ∈ lw_all := lw_g (lw_at lw_m10 125 rfl) rfl
theorem q2471 : (Jvm.Cond.code ({ cls := "MakingHouseModel", name := "item", desc := "()J" } : Jvm.MethodName) prog_19_method_84_code (1 : Nat) (Option.some Jvm.ClassFile.FieldType.long)) ∈ lw_all := lw_g (lw_at lw_m10 126 rfl) rfl
theorem q2472 : (Jvm.Cond.constantLong "MakingHouseModel" (501 : Nat) (1000 : Int64)) ∈ lw_all := lw_g (lw_at lw_m10 127 rfl) rfl
theorem q2473 : (Jvm.Cond.methodLink "MakingHouseModel" (514 : Nat) ({ cls := "MakingHouseModel", name := "down", desc := "(JJ)J" } : Jvm.MethodName)) ∈ lw_all := lw_g (lw_at lw_m10 128 rfl) rfl
theorem q2474 : (Jvm.Cond.static ({ cls := "MakingHouseModel", name := "down", desc := "(JJ)J" } : Jvm.MethodName)) ∈ lw_all := lw_g (lw_at lw_m10 129 rfl) rfl
theorem q2475 : (Jvm.Cond.code ({ cls := "MakingHouseModel", name := "down", desc := "(JJ)J" } : Jvm.MethodName) prog_19_method_116_code (6 : Nat) (Option.some Jvm.ClassFile.FieldType.long)) ∈ lw_all := lw_g (lw_at lw_m10 130 rfl) rfl
theorem q2476 : (Jvm.Cond.methodLink "MakingHouseModel" (518 : Nat) ({ cls := "MakingHouseModel", name := "fits", desc := "(J)J" } : Jvm.MethodName)) ∈ lw_all := lw_g (lw_at lw_m10 131 rfl) rfl
theorem q2477 : (Jvm.Cond.privateMethod ({ cls := "MakingHouseModel", name := "fits", desc := "(J)J" } : Jvm.MethodName)) ∈ lw_tbl := lw_at lw_m10 132 rfl
theorem q2478 : (Jvm.Cond.instanceMethod ({ cls := "MakingHouseModel", name := "fits", desc := "(J)J" } : Jvm.MethodName)) ∈ lw_all := lw_g (lw_at lw_m10 133 rfl) rfl
theorem q2479 : (Jvm.Cond.code ({ cls := "MakingHouseModel", name := "fits", desc := "(J)J" } : Jvm.MethodName) prog_19_method_81_code (3 : Nat) (Option.some Jvm.ClassFile.FieldType.long)) ∈ lw_all := lw_g (lw_at lw_m10 134 rfl) rfl
theorem q2480 : (Jvm.Cond.constantLong "MakingHouseModel" (486 : Nat) (1000000000000 : Int64)) ∈ lw_all := lw_g (lw_at lw_m10 135 rfl) rfl
theorem q2481 : (Jvm.Cond.constantLong "MakingHouseModel" (488 : Nat) (-1000000000000 : Int64)) ∈ lw_all := lw_g (lw_at lw_m10 136 rfl) rfl
theorem q2482 : (Jvm.Cond.methodLink "MakingHouseModel" (282 : Nat) ({ cls := "MakingHouseModel", name := "root", desc := "(J)J" } : Jvm.MethodName)) ∈ lw_all := lw_g (lw_at lw_m10 137 rfl) rfl
theorem q2483 : (Jvm.Cond.static ({ cls := "MakingHouseModel", name := "root", desc := "(J)J" } : Jvm.MethodName)) ∈ lw_all := lw_g (lw_at lw_m10 138 rfl) rfl
theorem q2484 : (Jvm.Cond.code ({ cls := "MakingHouseModel", name := "root", desc := "(J)J" } : Jvm.MethodName) prog_19_method_37_code (8 : Nat) (Option.some Jvm.ClassFile.FieldType.long)) ∈ lw_all := lw_g (lw_at lw_m10 139 rfl) rfl
theorem q2485 : (Jvm.Cond.constantLong "MakingHouseModel" (278 : Nat) (2000000000 : Int64)) ∈ lw_all := lw_g (lw_at lw_m10 140 rfl) rfl
theorem q2486 : (Jvm.Cond.constantLong "MakingHouseModel" (280 : Nat) (2 : Int64)) ∈ lw_all := lw_g (lw_at lw_m10 141 rfl) rfl
theorem q2487 : (Jvm.Cond.methodLink "MakingHouseModel" (521 : Nat) ({ cls := "MakingHouseModel", name := "times", desc := "(JJ)J" } : Jvm.MethodName)) ∈ lw_all := lw_g (lw_at lw_m10 142 rfl) rfl
theorem q2488 : (Jvm.Cond.privateMethod ({ cls := "MakingHouseModel", name := "times", desc := "(JJ)J" } : Jvm.MethodName)) ∈ lw_tbl := lw_at lw_m10 143 rfl
theorem q2489 : (Jvm.Cond.instanceMethod ({ cls := "MakingHouseModel", name := "times", desc := "(JJ)J" } : Jvm.MethodName)) ∈ lw_all := lw_g (lw_at lw_m10 144 rfl) rfl
theorem q2490 : (Jvm.Cond.code ({ cls := "MakingHouseModel", name := "times", desc := "(JJ)J" } : Jvm.MethodName) prog_19_method_87_code (9 : Nat) (Option.some Jvm.ClassFile.FieldType.long)) ∈ lw_all := lw_g (lw_at lw_m10 145 rfl) rfl
theorem q2491 : (Jvm.Cond.constantLong "MakingHouseModel" (524 : Nat) (1000000000000999 : Int64)) ∈ lw_all := lw_g (lw_at lw_m10 146 rfl) rfl
theorem q2492 : (Jvm.Cond.constantLong "MakingHouseModel" (503 : Nat) (199000 : Int64)) ∈ lw_all := lw_g (lw_at lw_m10 147 rfl) rfl
theorem q2493 : (Jvm.Cond.methodLink "MakingHouseModel" (620 : Nat) ({ cls := "MakingHouseModel", name := "words", desc := "()V" } : Jvm.MethodName)) ∈ lw_all := lw_g (lw_at lw_m10 148 rfl) rfl
theorem q2494 : (Jvm.Cond.privateMethod ({ cls := "MakingHouseModel", name := "words", desc := "()V" } : Jvm.MethodName)) ∈ lw_tbl := lw_at lw_m10 149 rfl
theorem q2495 : (Jvm.Cond.instanceMethod ({ cls := "MakingHouseModel", name := "words", desc := "()V" } : Jvm.MethodName)) ∈ lw_all := lw_g (lw_at lw_m10 150 rfl) rfl
theorem q2496 : (Jvm.Cond.code ({ cls := "MakingHouseModel", name := "words", desc := "()V" } : Jvm.MethodName) prog_19_method_97_code (4 : Nat) (Option.none : Option Jvm.ClassFile.FieldType)) ∈ lw_all := lw_g (lw_at lw_m10 151 rfl) rfl
theorem q2497 : (Jvm.Cond.methodLink "MakingHouseModel" (629 : Nat) ({ cls := "MakingHouseModel", name := "value", desc := "()J" } : Jvm.MethodName)) ∈ lw_all := lw_g (lw_at lw_m10 152 rfl) rfl
theorem q2498 : (Jvm.Cond.privateMethod ({ cls := "MakingHouseModel", name := "value", desc := "()J" } : Jvm.MethodName)) ∈ lw_tbl := lw_at lw_m10 153 rfl
theorem q2499 : (Jvm.Cond.instanceMethod ({ cls := "MakingHouseModel", name := "value", desc := "()J" } : Jvm.MethodName)) ∈ lw_all := lw_g (lw_at lw_m10 154 rfl) rfl
theorem q2500 : (Jvm.Cond.code ({ cls := "MakingHouseModel", name := "value", desc := "()J" } : Jvm.MethodName) prog_19_method_90_code (4 : Nat) (Option.some Jvm.ClassFile.FieldType.long)) ∈ lw_all := lw_g (lw_at lw_m10 155 rfl) rfl
theorem q2501 : (Jvm.Cond.methodLink "MakingHouseModel" (632 : Nat) ({ cls := "MakingHouseModel", name := "isWholeLetter", desc := "(I)Z" } : Jvm.MethodName)) ∈ lw_all := lw_g (lw_at lw_m10 156 rfl) rfl
theorem q2502 : (Jvm.Cond.static ({ cls := "MakingHouseModel", name := "isWholeLetter", desc := "(I)Z" } : Jvm.MethodName)) ∈ lw_all := lw_g (lw_at lw_m10 157 rfl) rfl
theorem q2503 : (Jvm.Cond.code ({ cls := "MakingHouseModel", name := "isWholeLetter", desc := "(I)Z" } : Jvm.MethodName) prog_19_method_96_code (1 : Nat) (Option.some Jvm.ClassFile.FieldType.boolean)) ∈ lw_all := lw_g (lw_at lw_m10 158 rfl) rfl
theorem q2504 : (Jvm.Cond.constantLong "MakingHouseModel" (635 : Nat) (99999000 : Int64)) ∈ lw_all := lw_g (lw_at lw_m10 159 rfl) rfl
theorem q2505 : (Jvm.Cond.methodLink "MakingHouseModel" (637 : Nat) ({ cls := "MakingHouseModel", name := "areAllowed", desc := "()Z" } : Jvm.MethodName)) ∈ lw_all := lw_g (lw_at lw_m10 160 rfl) rfl
theorem q2506 : (Jvm.Cond.privateMethod ({ cls := "MakingHouseModel", name := "areAllowed", desc := "()Z" } : Jvm.MethodName)) ∈ lw_tbl := lw_at lw_m10 161 rfl
theorem q2507 : (Jvm.Cond.instanceMethod ({ cls := "MakingHouseModel", name := "areAllowed", desc := "()Z" } : Jvm.MethodName)) ∈ lw_all := lw_g (lw_at lw_m10 162 rfl) rfl
theorem q2508 : (Jvm.Cond.code ({ cls := "MakingHouseModel", name := "areAllowed", desc := "()Z" } : Jvm.MethodName) prog_19_method_100_code (4 : Nat) (Option.some Jvm.ClassFile.FieldType.boolean)) ∈ lw_all := lw_g (lw_at lw_m10 163 rfl) rfl
theorem q2509 : (Jvm.Cond.methodLink "MakingHouseModel" (652 : Nat) ({ cls := "MakingHouseModel", name := "groupOfG", desc := "(I)I" } : Jvm.MethodName)) ∈ lw_all := lw_g (lw_at lw_m10 164 rfl) rfl
theorem q2510 : (Jvm.Cond.static ({ cls := "MakingHouseModel", name := "groupOfG", desc := "(I)I" } : Jvm.MethodName)) ∈ lw_all := lw_g (lw_at lw_m10 165 rfl) rfl
theorem q2511 : (Jvm.Cond.code ({ cls := "MakingHouseModel", name := "groupOfG", desc := "(I)I" } : Jvm.MethodName) prog_19_method_98_code (1 : Nat) (Option.some Jvm.ClassFile.FieldType.int)) ∈ lw_all := lw_g (lw_at lw_m10 166 rfl) rfl
theorem q2512 : (Jvm.Cond.methodLink "MakingHouseModel" (655 : Nat) ({ cls := "MakingHouseModel", name := "groupOfM", desc := "(I)I" } : Jvm.MethodName)) ∈ lw_all := lw_g (lw_at lw_m10 167 rfl) rfl
theorem q2513 : (Jvm.Cond.static ({ cls := "MakingHouseModel", name := "groupOfM", desc := "(I)I" } : Jvm.MethodName)) ∈ lw_all := lw_g (lw_at lw_m10 168 rfl) rfl
theorem q2514 : (Jvm.Cond.code ({ cls := "MakingHouseModel", name := "groupOfM", desc := "(I)I" } : Jvm.MethodName) prog_19_method_99_code (1 : Nat) (Option.some Jvm.ClassFile.FieldType.int)) ∈ lw_all := lw_g (lw_at lw_m10 169 rfl) rfl
theorem q2515 : (Jvm.Cond.methodLink "MakingHouseModel" (640 : Nat) ({ cls := "MakingHouseModel", name := "machineWords", desc := "()V" } : Jvm.MethodName)) ∈ lw_all := lw_g (lw_at lw_m10 170 rfl) rfl
theorem q2516 : (Jvm.Cond.privateMethod ({ cls := "MakingHouseModel", name := "machineWords", desc := "()V" } : Jvm.MethodName)) ∈ lw_tbl := lw_at lw_m10 171 rfl
theorem q2517 : (Jvm.Cond.instanceMethod ({ cls := "MakingHouseModel", name := "machineWords", desc := "()V" } : Jvm.MethodName)) ∈ lw_all := lw_g (lw_at lw_m10 172 rfl) rfl
theorem q2518 : (Jvm.Cond.code ({ cls := "MakingHouseModel", name := "machineWords", desc := "()V" } : Jvm.MethodName) prog_19_method_103_code (2 : Nat) (Option.none : Option Jvm.ClassFile.FieldType)) ∈ lw_all := lw_g (lw_at lw_m10 173 rfl) rfl
theorem q2519 : (Jvm.Cond.methodLink "MakingHouseModel" (658 : Nat) ({ cls := "MakingHouseModel", name := "hasM", desc := "(I)Z" } : Jvm.MethodName)) ∈ lw_all := lw_g (lw_at lw_m10 174 rfl) rfl
theorem q2520 : (Jvm.Cond.privateMethod ({ cls := "MakingHouseModel", name := "hasM", desc := "(I)Z" } : Jvm.MethodName)) ∈ lw_tbl := lw_at lw_m10 175 rfl
theorem q2521 : (Jvm.Cond.instanceMethod ({ cls := "MakingHouseModel", name := "hasM", desc := "(I)Z" } : Jvm.MethodName)) ∈ lw_all := lw_g (lw_at lw_m10 176 rfl) rfl
theorem q2522 : (Jvm.Cond.code ({ cls := "MakingHouseModel", name := "hasM", desc := "(I)Z" } : Jvm.MethodName) prog_19_method_102_code (3 : Nat) (Option.some Jvm.ClassFile.FieldType.boolean)) ∈ lw_all := lw_g (lw_at lw_m10 177 rfl) rfl
theorem q2523 : (Jvm.Cond.methodLink "MakingHouseModel" (661 : Nat) ({ cls := "MakingHouseModel", name := "isTool", desc := "(J)Z" } : Jvm.MethodName)) ∈ lw_all := lw_g (lw_at lw_m10 178 rfl) rfl
theorem q2524 : (Jvm.Cond.privateMethod ({ cls := "MakingHouseModel", name := "isTool", desc := "(J)Z" } : Jvm.MethodName)) ∈ lw_tbl := lw_at lw_m10 179 rfl
theorem q2525 : (Jvm.Cond.instanceMethod ({ cls := "MakingHouseModel", name := "isTool", desc := "(J)Z" } : Jvm.MethodName)) ∈ lw_all := lw_g (lw_at lw_m10 180 rfl) rfl
theorem q2526 : (Jvm.Cond.code ({ cls := "MakingHouseModel", name := "isTool", desc := "(J)Z" } : Jvm.MethodName) prog_19_method_36_code (3 : Nat) (Option.some Jvm.ClassFile.FieldType.boolean)) ∈ lw_all := lw_g (lw_at lw_m10 181 rfl) rfl
theorem q2527 : (Jvm.Cond.constantLong "MakingHouseModel" (276 : Nat) (12 : Int64)) ∈ lw_all := lw_g (lw_at lw_m10 182 rfl) rfl
theorem q2528 : (Jvm.Cond.methodLink "MakingHouseModel" (643 : Nat) ({ cls := "MakingHouseModel", name := "settings", desc := "()V" } : Jvm.MethodName)) ∈ lw_all := lw_g (lw_at lw_m10 183 rfl) rfl
theorem q2529 : (Jvm.Cond.privateMethod ({ cls := "MakingHouseModel", name := "settings", desc := "()V" } : Jvm.MethodName)) ∈ lw_tbl := lw_at lw_m10 184 rfl
theorem q2530 : (Jvm.Cond.instanceMethod ({ cls := "MakingHouseModel", name := "settings", desc := "()V" } : Jvm.MethodName)) ∈ lw_all := lw_g (lw_at lw_m10 185 rfl) rfl
theorem q2531 : (Jvm.Cond.code ({ cls := "MakingHouseModel", name := "settings", desc := "()V" } : Jvm.MethodName) prog_19_method_106_code (4 : Nat) (Option.none : Option Jvm.ClassFile.FieldType)) ∈ lw_all := lw_g (lw_at lw_m10 186 rfl) rfl
theorem q2532 : (Jvm.Cond.methodLink "MakingHouseModel" (672 : Nat) ({ cls := "MakingHouseModel", name := "hasG", desc := "(I)Z" } : Jvm.MethodName)) ∈ lw_all := lw_g (lw_at lw_m10 187 rfl) rfl
theorem q2533 : (Jvm.Cond.privateMethod ({ cls := "MakingHouseModel", name := "hasG", desc := "(I)Z" } : Jvm.MethodName)) ∈ lw_tbl := lw_at lw_m10 188 rfl
theorem q2534 : (Jvm.Cond.instanceMethod ({ cls := "MakingHouseModel", name := "hasG", desc := "(I)Z" } : Jvm.MethodName)) ∈ lw_all := lw_g (lw_at lw_m10 189 rfl) rfl
theorem q2535 : (Jvm.Cond.code ({ cls := "MakingHouseModel", name := "hasG", desc := "(I)Z" } : Jvm.MethodName) prog_19_method_101_code (3 : Nat) (Option.some Jvm.ClassFile.FieldType.boolean)) ∈ lw_all := lw_g (lw_at lw_m10 190 rfl) rfl
theorem q2536 : (Jvm.Cond.constantLong "MakingHouseModel" (675 : Nat) (4 : Int64)) ∈ lw_all := lw_g (lw_at lw_m10 191 rfl) rfl
theorem q2537 : (Jvm.Cond.methodLink "MakingHouseModel" (677 : Nat) ({ cls := "MakingHouseModel", name := "unitsOf", desc := "(I)J" } : Jvm.MethodName)) ∈ lw_all := lw_g (lw_at lw_m10 192 rfl) rfl
theorem q2538 : (Jvm.Cond.privateMethod ({ cls := "MakingHouseModel", name := "unitsOf", desc := "(I)J" } : Jvm.MethodName)) ∈ lw_tbl := lw_at lw_m10 193 rfl
theorem q2539 : (Jvm.Cond.instanceMethod ({ cls := "MakingHouseModel", name := "unitsOf", desc := "(I)J" } : Jvm.MethodName)) ∈ lw_all := lw_g (lw_at lw_m10 194 rfl) rfl
theorem q2540 : (Jvm.Cond.code ({ cls := "MakingHouseModel", name := "unitsOf", desc := "(I)J" } : Jvm.MethodName) prog_19_method_105_code (2 : Nat) (Option.some Jvm.ClassFile.FieldType.long)) ∈ lw_all := lw_g (lw_at lw_m10 195 rfl) rfl
theorem q2541 : (Jvm.Cond.methodLink "MakingHouseModel" (669 : Nat) ({ cls := "MakingHouseModel", name := "units", desc := "(J)J" } : Jvm.MethodName)) ∈ lw_all := lw_g (lw_at lw_m10 196 rfl) rfl
theorem q2542 : (Jvm.Cond.static ({ cls := "MakingHouseModel", name := "units", desc := "(J)J" } : Jvm.MethodName)) ∈ lw_all := lw_g (lw_at lw_m10 197 rfl) rfl
theorem q2543 : (Jvm.Cond.code ({ cls := "MakingHouseModel", name := "units", desc := "(J)J" } : Jvm.MethodName) prog_19_method_104_code (2 : Nat) (Option.some Jvm.ClassFile.FieldType.long)) ∈ lw_all := lw_g (lw_at lw_m10 198 rfl) rfl
theorem q2544 : (Jvm.Cond.constantLong "MakingHouseModel" (665 : Nat) (50 : Int64)) ∈ lw_all := lw_g (lw_at lw_m10 199 rfl) rfl
theorem q2545 : (Jvm.Cond.constantLong "MakingHouseModel" (667 : Nat) (100 : Int64)) ∈ lw_all := lw_g (lw_at lw_m10 200 rfl) rfl
theorem q2546 : (Jvm.Cond.constantLong "MakingHouseModel" (681 : Nat) (90000 : Int64)) ∈ lw_all := lw_g (lw_at lw_m10 201 rfl) rfl
theorem q2547 : (Jvm.Cond.constantLong "MakingHouseModel" (683 : Nat) (180000 : Int64)) ∈ lw_all := lw_g (lw_at lw_m10 202 rfl) rfl
theorem q2548 : (Jvm.Cond.constantLong "MakingHouseModel" (685 : Nat) (270000 : Int64)) ∈ lw_all := lw_g (lw_at lw_m10 203 rfl) rfl
theorem q2549 : (Jvm.Cond.methodLink "MakingHouseModel" (646 : Nat) ({ cls := "MakingHouseModel", name := "motions", desc := "()V" } : Jvm.MethodName)) ∈ lw_all := lw_g (lw_at lw_m10 204 rfl) rfl
theorem q2550 : (Jvm.Cond.privateMethod ({ cls := "MakingHouseModel", name := "motions", desc := "()V" } : Jvm.MethodName)) ∈ lw_tbl := lw_at lw_m10 205 rfl
theorem q2551 : (Jvm.Cond.instanceMethod ({ cls := "MakingHouseModel", name := "motions", desc := "()V" } : Jvm.MethodName)) ∈ lw_all := lw_g (lw_at lw_m10 206 rfl) rfl
theorem q2552 : (Jvm.Cond.code ({ cls := "MakingHouseModel", name := "motions", desc := "()V" } : Jvm.MethodName) prog_19_method_108_code (14 : Nat) (Option.none : Option Jvm.ClassFile.FieldType)) ∈ lw_all := lw_g (lw_at lw_m10 207 rfl) rfl
theorem q2553 : (Jvm.Cond.methodLink "MakingHouseModel" (687 : Nat) ({ cls := "MakingHouseModel", name := "tellCycle", desc := "()V" } : Jvm.MethodName)) ∈ lw_all := lw_g (lw_at lw_m10 208 rfl) rfl
theorem q2554 : (Jvm.Cond.privateMethod ({ cls := "MakingHouseModel", name := "tellCycle", desc := "()V" } : Jvm.MethodName)) ∈ lw_tbl := lw_at lw_m10 209 rfl
theorem q2555 : (Jvm.Cond.instanceMethod ({ cls := "MakingHouseModel", name := "tellCycle", desc := "()V" } : Jvm.MethodName)) ∈ lw_all := lw_g (lw_at lw_m10 210 rfl) rfl
theorem q2556 : (Jvm.Cond.code ({ cls := "MakingHouseModel", name := "tellCycle", desc := "()V" } : Jvm.MethodName) prog_19_method_111_code (1 : Nat) (Option.none : Option Jvm.ClassFile.FieldType)) ∈ lw_all := lw_g (lw_at lw_m10 211 rfl) rfl
theorem q2557 : (Jvm.Cond.methodLink "MakingHouseModel" (690 : Nat) ({ cls := "MakingHouseModel", name := "placeIn", desc := "(I)J" } : Jvm.MethodName)) ∈ lw_all := lw_g (lw_at lw_m10 212 rfl) rfl
theorem q2558 : (Jvm.Cond.privateMethod ({ cls := "MakingHouseModel", name := "placeIn", desc := "(I)J" } : Jvm.MethodName)) ∈ lw_tbl := lw_at lw_m10 213 rfl
theorem q2559 : (Jvm.Cond.instanceMethod ({ cls := "MakingHouseModel", name := "placeIn", desc := "(I)J" } : Jvm.MethodName)) ∈ lw_all := lw_g (lw_at lw_m10 214 rfl) rfl
theorem q2560 : (Jvm.Cond.code ({ cls := "MakingHouseModel", name := "placeIn", desc := "(I)J" } : Jvm.MethodName) prog_19_method_110_code (10 : Nat) (Option.some Jvm.ClassFile.FieldType.long)) ∈ lw_all := lw_g (lw_at lw_m10 215 rfl) rfl
theorem q2561 : (Jvm.Cond.methodLink "MakingHouseModel" (697 : Nat) ({ cls := "MakingHouseModel", name := "offset", desc := "(I)J" } : Jvm.MethodName)) ∈ lw_all := lw_g (lw_at lw_m10 216 rfl) rfl
theorem q2562 : (Jvm.Cond.privateMethod ({ cls := "MakingHouseModel", name := "offset", desc := "(I)J" } : Jvm.MethodName)) ∈ lw_tbl := lw_at lw_m10 217 rfl
theorem q2563 : (Jvm.Cond.instanceMethod ({ cls := "MakingHouseModel", name := "offset", desc := "(I)J" } : Jvm.MethodName)) ∈ lw_all := lw_g (lw_at lw_m10 218 rfl) rfl
theorem q2564 : (Jvm.Cond.code ({ cls := "MakingHouseModel", name := "offset", desc := "(I)J" } : Jvm.MethodName) prog_19_method_107_code (2 : Nat) (Option.some Jvm.ClassFile.FieldType.long)) ∈ lw_all := lw_g (lw_at lw_m10 219 rfl) rfl
theorem q2565 : (Jvm.Cond.methodLink "MakingHouseModel" (693 : Nat) ({ cls := "MakingHouseModel", name := "turnedX", desc := "(JJI)J" } : Jvm.MethodName)) ∈ lw_all := lw_g (lw_at lw_m10 220 rfl) rfl
theorem q2566 : (Jvm.Cond.static ({ cls := "MakingHouseModel", name := "turnedX", desc := "(JJI)J" } : Jvm.MethodName)) ∈ lw_all := lw_g (lw_at lw_m10 221 rfl) rfl
theorem q2567 : (Jvm.Cond.code ({ cls := "MakingHouseModel", name := "turnedX", desc := "(JJI)J" } : Jvm.MethodName) prog_19_method_109_code (6 : Nat) (Option.some Jvm.ClassFile.FieldType.long)) ∈ lw_all := lw_g (lw_at lw_m10 222 rfl) rfl
theorem q2568 : (Jvm.Cond.methodLink "MakingHouseModel" (700 : Nat) ({ cls := "MakingHouseModel", name := "drill", desc := "(JJ)V" } : Jvm.MethodName)) ∈ lw_all := lw_g (lw_at lw_m10 223 rfl) rfl
theorem q2569 : (Jvm.Cond.privateMethod ({ cls := "MakingHouseModel", name := "drill", desc := "(JJ)V" } : Jvm.MethodName)) ∈ lw_tbl := lw_at lw_m10 224 rfl
theorem q2570 : (Jvm.Cond.instanceMethod ({ cls := "MakingHouseModel", name := "drill", desc := "(JJ)V" } : Jvm.MethodName)) ∈ lw_all := lw_g (lw_at lw_m10 225 rfl) rfl
theorem q2571 : (Jvm.Cond.code ({ cls := "MakingHouseModel", name := "drill", desc := "(JJ)V" } : Jvm.MethodName) prog_19_method_112_code (15 : Nat) (Option.none : Option Jvm.ClassFile.FieldType)) ∈ lw_all := lw_g (lw_at lw_m10 226 rfl) rfl
theorem q2572 : (Jvm.Cond.methodLink "MakingHouseModel" (704 : Nat) ({ cls := "MakingHouseModel", name := "go", desc := "(JJJZ)V" } : Jvm.MethodName)) ∈ lw_all := lw_g (lw_at lw_m10 227 rfl) rfl
theorem q2573 : (Jvm.Cond.privateMethod ({ cls := "MakingHouseModel", name := "go", desc := "(JJJZ)V" } : Jvm.MethodName)) ∈ lw_tbl := lw_at lw_m10 228 rfl
theorem q2574 : (Jvm.Cond.instanceMethod ({ cls := "MakingHouseModel", name := "go", desc := "(JJJZ)V" } : Jvm.MethodName)) ∈ lw_all := lw_g (lw_at lw_m10 229 rfl) rfl
theorem q2575 : (Jvm.Cond.code ({ cls := "MakingHouseModel", name := "go", desc := "(JJJZ)V" } : Jvm.MethodName) prog_19_method_119_code (20 : Nat) (Option.none : Option Jvm.ClassFile.FieldType)) ∈ lw_all := lw_g (lw_at lw_m10 230 rfl) rfl
theorem q2576 : (Jvm.Cond.methodLink "MakingHouseModel" (739 : Nat) ({ cls := "MakingHouseModel", name := "mayGo", desc := "(JJJZ)V" } : Jvm.MethodName)) ∈ lw_all := lw_g (lw_at lw_m10 231 rfl) rfl
theorem q2577 : (Jvm.Cond.privateMethod ({ cls := "MakingHouseModel", name := "mayGo", desc := "(JJJZ)V" } : Jvm.MethodName)) ∈ lw_tbl := lw_at lw_m10 232 rfl
theorem q2578 : (Jvm.Cond.instanceMethod ({ cls := "MakingHouseModel", name := "mayGo", desc := "(JJJZ)V" } : Jvm.MethodName)) ∈ lw_all := lw_g (lw_at lw_m10 233 rfl) rfl
theorem q2579 : (Jvm.Cond.code ({ cls := "MakingHouseModel", name := "mayGo", desc := "(JJJZ)V" } : Jvm.MethodName) prog_19_method_115_code (8 : Nat) (Option.none : Option Jvm.ClassFile.FieldType)) ∈ lw_all := lw_g (lw_at lw_m10 234 rfl) rfl
theorem q2580 : (Jvm.Cond.constantLong "MakingHouseModel" (733 : Nat) (-2000 : Int64)) ∈ lw_all := lw_g (lw_at lw_m10 235 rfl) rfl
theorem q2581 : (Jvm.Cond.constantLong "MakingHouseModel" (735 : Nat) (4000 : Int64)) ∈ lw_all := lw_g (lw_at lw_m10 236 rfl) rfl
theorem q2582 : (Jvm.Cond.constantLong "MakingHouseModel" (737 : Nat) (2000 : Int64)) ∈ lw_all := lw_g (lw_at lw_m10 237 rfl) rfl
theorem q2583 : (Jvm.Cond.methodLink "MakingHouseModel" (742 : Nat) ({ cls := "MakingHouseModel", name := "amount", desc := "(J)J" } : Jvm.MethodName)) ∈ lw_all := lw_g (lw_at lw_m10 238 rfl) rfl
theorem q2584 : (Jvm.Cond.static ({ cls := "MakingHouseModel", name := "amount", desc := "(J)J" } : Jvm.MethodName)) ∈ lw_all := lw_g (lw_at lw_m10 239 rfl) rfl
theorem q2585 : (Jvm.Cond.code ({ cls := "MakingHouseModel", name := "amount", desc := "(J)J" } : Jvm.MethodName) prog_19_method_117_code (2 : Nat) (Option.some Jvm.ClassFile.FieldType.long)) ∈ lw_all := lw_g (lw_at lw_m11 0 rfl) rfl
theorem q2586 : (Jvm.Cond.methodLink "MakingHouseModel" (721 : Nat) ({ cls := "java/lang/Math", name := "max", desc := "(JJ)J" } : Jvm.MethodName)) ∈ lw_all := lw_g (lw_at lw_m11 1 rfl) rfl
theorem q2587 : (Jvm.Cond.methodLink "MakingHouseModel" (745 : Nat) ({ cls := "MakingHouseModel", name := "remember", desc := "()V" } : Jvm.MethodName)) ∈ lw_all := lw_g (lw_at lw_m11 2 rfl) rfl
theorem q2588 : (Jvm.Cond.privateMethod ({ cls := "MakingHouseModel", name := "remember", desc := "()V" } : Jvm.MethodName)) ∈ lw_tbl := lw_at lw_m11 3 rfl
theorem q2589 : (Jvm.Cond.instanceMethod ({ cls := "MakingHouseModel", name := "remember", desc := "()V" } : Jvm.MethodName)) ∈ lw_all := lw_g (lw_at lw_m11 4 rfl) rfl
theorem q2590 : (Jvm.Cond.code ({ cls := "MakingHouseModel", name := "remember", desc := "()V" } : Jvm.MethodName) prog_19_method_120_code (1 : Nat) (Option.none : Option Jvm.ClassFile.FieldType)) ∈ lw_all := lw_g (lw_at lw_m11 5 rfl) rfl
theorem q2591 : (Jvm.Cond.methodLink "MakingHouseModel" (748 : Nat) ({ cls := "MakingHouseModel", name := "partWay", desc := "(IJII)I" } : Jvm.MethodName)) ∈ lw_all := lw_g (lw_at lw_m11 6 rfl) rfl
theorem q2592 : (Jvm.Cond.static ({ cls := "MakingHouseModel", name := "partWay", desc := "(IJII)I" } : Jvm.MethodName)) ∈ lw_all := lw_g (lw_at lw_m11 7 rfl) rfl
theorem q2593 : (Jvm.Cond.code ({ cls := "MakingHouseModel", name := "partWay", desc := "(IJII)I" } : Jvm.MethodName) prog_19_method_118_code (5 : Nat) (Option.some Jvm.ClassFile.FieldType.int)) ∈ lw_all := lw_g (lw_at lw_m11 8 rfl) rfl
theorem q2594 : (Jvm.Cond.methodLink "MakingHouseModel" (752 : Nat) ({ cls := "MakingHouseModel", name := "tick", desc := "(IIIZ)V" } : Jvm.MethodName)) ∈ lw_all := lw_g (lw_at lw_m11 9 rfl) rfl
theorem q2595 : (Jvm.Cond.privateMethod ({ cls := "MakingHouseModel", name := "tick", desc := "(IIIZ)V" } : Jvm.MethodName)) ∈ lw_tbl := lw_at lw_m11 10 rfl
theorem q2596 : (Jvm.Cond.instanceMethod ({ cls := "MakingHouseModel", name := "tick", desc := "(IIIZ)V" } : Jvm.MethodName)) ∈ lw_all := lw_g (lw_at lw_m11 11 rfl) rfl
theorem q2597 : (Jvm.Cond.code ({ cls := "MakingHouseModel", name := "tick", desc := "(IIIZ)V" } : Jvm.MethodName) prog_19_method_127_code (5 : Nat) (Option.none : Option Jvm.ClassFile.FieldType)) ∈ lw_all := lw_g (lw_at lw_m11 12 rfl) rfl
theorem q2598 : (Jvm.Cond.methodLink "MakingHouseModel" (776 : Nat) ({ cls := "MakingHouseModel", name := "meets", desc := "(IIIIZZZ)Z" } : Jvm.MethodName)) ∈ lw_all := lw_g (lw_at lw_m11 13 rfl) rfl
theorem q2599 : (Jvm.Cond.privateMethod ({ cls := "MakingHouseModel", name := "meets", desc := "(IIIIZZZ)Z" } : Jvm.MethodName)) ∈ lw_tbl := lw_at lw_m11 14 rfl
theorem q2600 : (Jvm.Cond.instanceMethod ({ cls := "MakingHouseModel", name := "meets", desc := "(IIIIZZZ)Z" } : Jvm.MethodName)) ∈ lw_all := lw_g (lw_at lw_m11 15 rfl) rfl
theorem q2601 : (Jvm.Cond.code ({ cls := "MakingHouseModel", name := "meets", desc := "(IIIIZZZ)Z" } : Jvm.MethodName) prog_19_method_131_code (13 : Nat) (Option.some Jvm.ClassFile.FieldType.boolean)) ∈ lw_all := lw_g (lw_at lw_m11 16 rfl) rfl
theorem q2602 : (Jvm.Cond.methodLink "MakingHouseModel" (784 : Nat) ({ cls := "MakingHouseModel", name := "firstNear", desc := "(II)I" } : Jvm.MethodName)) ∈ lw_all := lw_g (lw_at lw_m11 17 rfl) rfl
theorem q2603 : (Jvm.Cond.privateMethod ({ cls := "MakingHouseModel", name := "firstNear", desc := "(II)I" } : Jvm.MethodName)) ∈ lw_tbl := lw_at lw_m11 18 rfl
theorem q2604 : (Jvm.Cond.instanceMethod ({ cls := "MakingHouseModel", name := "firstNear", desc := "(II)I" } : Jvm.MethodName)) ∈ lw_all := lw_g (lw_at lw_m11 19 rfl) rfl
theorem q2605 : (Jvm.Cond.code ({ cls := "MakingHouseModel", name := "firstNear", desc := "(II)I" } : Jvm.MethodName) prog_19_method_129_code (3 : Nat) (Option.some Jvm.ClassFile.FieldType.int)) ∈ lw_all := lw_g (lw_at lw_m11 20 rfl) rfl
theorem q2606 : (Jvm.Cond.methodLink "MakingHouseModel" (787 : Nat) ({ cls := "MakingHouseModel", name := "lastNear", desc := "(III)I" } : Jvm.MethodName)) ∈ lw_all := lw_g (lw_at lw_m11 21 rfl) rfl
theorem q2607 : (Jvm.Cond.privateMethod ({ cls := "MakingHouseModel", name := "lastNear", desc := "(III)I" } : Jvm.MethodName)) ∈ lw_tbl := lw_at lw_m11 22 rfl
theorem q2608 : (Jvm.Cond.instanceMethod ({ cls := "MakingHouseModel", name := "lastNear", desc := "(III)I" } : Jvm.MethodName)) ∈ lw_all := lw_g (lw_at lw_m11 23 rfl) rfl
theorem q2609 : (Jvm.Cond.code ({ cls := "MakingHouseModel", name := "lastNear", desc := "(III)I" } : Jvm.MethodName) prog_19_method_130_code (4 : Nat) (Option.some Jvm.ClassFile.FieldType.int)) ∈ lw_all := lw_g (lw_at lw_m11 24 rfl) rfl
theorem q2610 : (Jvm.Cond.methodLink "MakingHouseModel" (790 : Nat) ({ cls := "MakingHouseModel", name := "away", desc := "(IIII)J" } : Jvm.MethodName)) ∈ lw_all := lw_g (lw_at lw_m11 25 rfl) rfl
theorem q2611 : (Jvm.Cond.privateMethod ({ cls := "MakingHouseModel", name := "away", desc := "(IIII)J" } : Jvm.MethodName)) ∈ lw_tbl := lw_at lw_m11 26 rfl
theorem q2612 : (Jvm.Cond.instanceMethod ({ cls := "MakingHouseModel", name := "away", desc := "(IIII)J" } : Jvm.MethodName)) ∈ lw_all := lw_g (lw_at lw_m11 27 rfl) rfl
theorem q2613 : (Jvm.Cond.code ({ cls := "MakingHouseModel", name := "away", desc := "(IIII)J" } : Jvm.MethodName) prog_19_method_128_code (5 : Nat) (Option.some Jvm.ClassFile.FieldType.long)) ∈ lw_all := lw_g (lw_at lw_m11 28 rfl) rfl
theorem q2614 : (Jvm.Cond.methodLink "MakingHouseModel" (794 : Nat) ({ cls := "MakingHouseModel", name := "bulge", desc := "(II)I" } : Jvm.MethodName)) ∈ lw_all := lw_g (lw_at lw_m11 29 rfl) rfl
theorem q2615 : (Jvm.Cond.privateMethod ({ cls := "MakingHouseModel", name := "bulge", desc := "(II)I" } : Jvm.MethodName)) ∈ lw_tbl := lw_at lw_m11 30 rfl
theorem q2616 : (Jvm.Cond.instanceMethod ({ cls := "MakingHouseModel", name := "bulge", desc := "(II)I" } : Jvm.MethodName)) ∈ lw_all := lw_g (lw_at lw_m11 31 rfl) rfl
theorem q2617 : (Jvm.Cond.code ({ cls := "MakingHouseModel", name := "bulge", desc := "(II)I" } : Jvm.MethodName) prog_19_method_38_code (4 : Nat) (Option.some Jvm.ClassFile.FieldType.int)) ∈ lw_all := lw_g (lw_at lw_m11 32 rfl) rfl
theorem q2618 : (Jvm.Cond.methodLink "MakingHouseModel" (780 : Nat) ({ cls := "MakingHouseModel", name := "cut", desc := "(III)V" } : Jvm.MethodName)) ∈ lw_all := lw_g (lw_at lw_m11 33 rfl) rfl
theorem q2619 : (Jvm.Cond.privateMethod ({ cls := "MakingHouseModel", name := "cut", desc := "(III)V" } : Jvm.MethodName)) ∈ lw_tbl := lw_at lw_m11 34 rfl
theorem q2620 : (Jvm.Cond.instanceMethod ({ cls := "MakingHouseModel", name := "cut", desc := "(III)V" } : Jvm.MethodName)) ∈ lw_all := lw_g (lw_at lw_m11 35 rfl) rfl
theorem q2621 : (Jvm.Cond.code ({ cls := "MakingHouseModel", name := "cut", desc := "(III)V" } : Jvm.MethodName) prog_19_method_132_code (10 : Nat) (Option.none : Option Jvm.ClassFile.FieldType)) ∈ lw_all := lw_g (lw_at lw_m11 36 rfl) rfl
theorem q2622 : (Jvm.Cond.methodLink "MakingHouseModel" (755 : Nat) ({ cls := "MakingHouseModel", name := "stepped", desc := "(Z)V" } : Jvm.MethodName)) ∈ lw_all := lw_g (lw_at lw_m11 37 rfl) rfl
theorem q2623 : (Jvm.Cond.privateMethod ({ cls := "MakingHouseModel", name := "stepped", desc := "(Z)V" } : Jvm.MethodName)) ∈ lw_tbl := lw_at lw_m11 38 rfl
theorem q2624 : (Jvm.Cond.instanceMethod ({ cls := "MakingHouseModel", name := "stepped", desc := "(Z)V" } : Jvm.MethodName)) ∈ lw_all := lw_g (lw_at lw_m11 39 rfl) rfl
theorem q2625 : (Jvm.Cond.code ({ cls := "MakingHouseModel", name := "stepped", desc := "(Z)V" } : Jvm.MethodName) prog_19_method_121_code (4 : Nat) (Option.none : Option Jvm.ClassFile.FieldType)) ∈ lw_all := lw_g (lw_at lw_m11 40 rfl) rfl
theorem q2626 : (Jvm.Cond.methodLink "MakingHouseModel" (758 : Nat) ({ cls := "MakingHouseModel", name := "keepMove", desc := "(IIIII)V" } : Jvm.MethodName)) ∈ lw_all := lw_g (lw_at lw_m11 41 rfl) rfl
theorem q2627 : (Jvm.Cond.privateMethod ({ cls := "MakingHouseModel", name := "keepMove", desc := "(IIIII)V" } : Jvm.MethodName)) ∈ lw_tbl := lw_at lw_m11 42 rfl
theorem q2628 : (Jvm.Cond.instanceMethod ({ cls := "MakingHouseModel", name := "keepMove", desc := "(IIIII)V" } : Jvm.MethodName)) ∈ lw_all := lw_g (lw_at lw_m11 43 rfl) rfl
theorem q2629 : (Jvm.Cond.code ({ cls := "MakingHouseModel", name := "keepMove", desc := "(IIIII)V" } : Jvm.MethodName) prog_19_method_122_code (6 : Nat) (Option.none : Option Jvm.ClassFile.FieldType)) ∈ lw_all := lw_g (lw_at lw_m11 44 rfl) rfl
theorem q2630 : (Jvm.Cond.constantLong "MakingHouseModel" (723 : Nat) (5 : Int64)) ∈ lw_all := lw_g (lw_at lw_m11 45 rfl) rfl
theorem q2631 : (Jvm.Cond.methodLink "MakingHouseModel" (725 : Nat) ({ cls := "java/lang/Math", name := "min", desc := "(JJ)J" } : Jvm.MethodName)) ∈ lw_all := lw_g (lw_at lw_m11 46 rfl) rfl
theorem q2632 : (Jvm.Cond.methodLink "MakingHouseModel" (708 : Nat) ({ cls := "MakingHouseModel", name := "arc", desc := "(JJJ)V" } : Jvm.MethodName)) ∈ lw_all := lw_g (lw_at lw_m11 47 rfl) rfl
theorem q2633 : (Jvm.Cond.privateMethod ({ cls := "MakingHouseModel", name := "arc", desc := "(JJJ)V" } : Jvm.MethodName)) ∈ lw_tbl := lw_at lw_m11 48 rfl
theorem q2634 : (Jvm.Cond.instanceMethod ({ cls := "MakingHouseModel", name := "arc", desc := "(JJJ)V" } : Jvm.MethodName)) ∈ lw_all := lw_g (lw_at lw_m11 49 rfl) rfl
theorem q2635 : (Jvm.Cond.code ({ cls := "MakingHouseModel", name := "arc", desc := "(JJJ)V" } : Jvm.MethodName) prog_19_method_125_code (27 : Nat) (Option.none : Option Jvm.ClassFile.FieldType)) ∈ lw_all := lw_g (lw_at lw_m11 50 rfl) rfl
theorem q2636 : (Jvm.Cond.constantLong "MakingHouseModel" (762 : Nat) (5000 : Int64)) ∈ lw_all := lw_g (lw_at lw_m11 51 rfl) rfl
theorem q2637 : (Jvm.Cond.constantLong "MakingHouseModel" (764 : Nat) (25000000 : Int64)) ∈ lw_all := lw_g (lw_at lw_m11 52 rfl) rfl
theorem q2638 : (Jvm.Cond.methodLink "MakingHouseModel" (766 : Nat) ({ cls := "MakingHouseModel", name := "wayOf", desc := "(JJJJJZ)I" } : Jvm.MethodName)) ∈ lw_all := lw_g (lw_at lw_m11 53 rfl) rfl
theorem q2639 : (Jvm.Cond.privateMethod ({ cls := "MakingHouseModel", name := "wayOf", desc := "(JJJJJZ)I" } : Jvm.MethodName)) ∈ lw_tbl := lw_at lw_m11 54 rfl
theorem q2640 : (Jvm.Cond.instanceMethod ({ cls := "MakingHouseModel", name := "wayOf", desc := "(JJJJJZ)I" } : Jvm.MethodName)) ∈ lw_all := lw_g (lw_at lw_m11 55 rfl) rfl
theorem q2641 : (Jvm.Cond.code ({ cls := "MakingHouseModel", name := "wayOf", desc := "(JJJJJZ)I" } : Jvm.MethodName) prog_19_method_126_code (29 : Nat) (Option.some Jvm.ClassFile.FieldType.int)) ∈ lw_all := lw_g (lw_at lw_m11 56 rfl) rfl
theorem q2642 : (Jvm.Cond.methodLink "MakingHouseModel" (770 : Nat) ({ cls := "MakingHouseModel", name := "eastOf", desc := "(I)I" } : Jvm.MethodName)) ∈ lw_all := lw_g (lw_at lw_m11 57 rfl) rfl
theorem q2643 : (Jvm.Cond.static ({ cls := "MakingHouseModel", name := "eastOf", desc := "(I)I" } : Jvm.MethodName)) ∈ lw_all := lw_g (lw_at lw_m11 58 rfl) rfl
theorem q2644 : (Jvm.Cond.code ({ cls := "MakingHouseModel", name := "eastOf", desc := "(I)I" } : Jvm.MethodName) prog_19_method_123_code (1 : Nat) (Option.some Jvm.ClassFile.FieldType.int)) ∈ lw_all := lw_g (lw_at lw_m11 59 rfl) rfl
theorem q2645 : (Jvm.Cond.methodLink "MakingHouseModel" (773 : Nat) ({ cls := "MakingHouseModel", name := "northOf", desc := "(I)I" } : Jvm.MethodName)) ∈ lw_all := lw_g (lw_at lw_m11 60 rfl) rfl
theorem q2646 : (Jvm.Cond.static ({ cls := "MakingHouseModel", name := "northOf", desc := "(I)I" } : Jvm.MethodName)) ∈ lw_all := lw_g (lw_at lw_m11 61 rfl) rfl
theorem q2647 : (Jvm.Cond.code ({ cls := "MakingHouseModel", name := "northOf", desc := "(I)I" } : Jvm.MethodName) prog_19_method_124_code (1 : Nat) (Option.some Jvm.ClassFile.FieldType.int)) ∈ lw_all := lw_g (lw_at lw_m11 62 rfl) rfl
theorem q2648 : (Jvm.Cond.methodLink "MakingHouseModel" (649 : Nat) ({ cls := "MakingHouseModel", name := "ends", desc := "()V" } : Jvm.MethodName)) ∈ lw_all := lw_g (lw_at lw_m11 63 rfl) rfl
theorem q2649 : (Jvm.Cond.privateMethod ({ cls := "MakingHouseModel", name := "ends", desc := "()V" } : Jvm.MethodName)) ∈ lw_tbl := lw_at lw_m11 64 rfl
theorem q2650 : (Jvm.Cond.instanceMethod ({ cls := "MakingHouseModel", name := "ends", desc := "()V" } : Jvm.MethodName)) ∈ lw_all := lw_g (lw_at lw_m11 65 rfl) rfl
theorem q2651 : (Jvm.Cond.code ({ cls := "MakingHouseModel", name := "ends", desc := "()V" } : Jvm.MethodName) prog_19_method_113_code (4 : Nat) (Option.none : Option Jvm.ClassFile.FieldType)) ∈ lw_all := lw_g (lw_at lw_m11 66 rfl) rfl
theorem q2652 : (Jvm.Cond.methodLink "MakingHouseModel" (727 : Nat) ({ cls := "MakingHouseModel", name := "subprogram", desc := "(J)I" } : Jvm.MethodName)) ∈ lw_all := lw_g (lw_at lw_m11 67 rfl) rfl
theorem q2653 : (Jvm.Cond.privateMethod ({ cls := "MakingHouseModel", name := "subprogram", desc := "(J)I" } : Jvm.MethodName)) ∈ lw_tbl := lw_at lw_m11 68 rfl
theorem q2654 : (Jvm.Cond.instanceMethod ({ cls := "MakingHouseModel", name := "subprogram", desc := "(J)I" } : Jvm.MethodName)) ∈ lw_all := lw_g (lw_at lw_m11 69 rfl) rfl
theorem q2655 : (Jvm.Cond.code ({ cls := "MakingHouseModel", name := "subprogram", desc := "(J)I" } : Jvm.MethodName) prog_19_method_114_code (4 : Nat) (Option.some Jvm.ClassFile.FieldType.int)) ∈ lw_all := lw_g (lw_at lw_m11 70 rfl) rfl
theorem q2656 : (Jvm.Cond.constantLong "MakingHouseModel" (731 : Nat) (999 : Int64)) ∈ lw_all := lw_g (lw_at lw_m11 71 rfl) rfl
theorem q2658 : (Jvm.Cond.instanceMethod ({ cls := "MakingHouseModel", name := "told", desc := "(I)I" } : Jvm.MethodName)) ∈ lw_all := lw_g (lw_at lw_m11 73 rfl) rfl
theorem q2659 : (Jvm.Cond.selects "MakingHouseModel" ({ cls := "MakingHouseModel", name := "told", desc := "(I)I" } : Jvm.MethodName) ({ cls := "MakingHouseModel", name := "told", desc := "(I)I" } : Jvm.MethodName)) ∈ lw_all := lw_g (lw_at lw_m11 74 rfl) rfl
theorem q2660 : (Jvm.Cond.code ({ cls := "MakingHouseModel", name := "told", desc := "(I)I" } : Jvm.MethodName) prog_19_method_133_code (2 : Nat) (Option.some Jvm.ClassFile.FieldType.int)) ∈ lw_all := lw_g (lw_at lw_m11 75 rfl) rfl
theorem q2662 : (Jvm.Cond.instanceMethod ({ cls := "MakingHouseModel", name := "variable", desc := "(I)J" } : Jvm.MethodName)) ∈ lw_all := lw_g (lw_at lw_m11 77 rfl) rfl
theorem q2663 : (Jvm.Cond.selects "MakingHouseModel" ({ cls := "MakingHouseModel", name := "variable", desc := "(I)J" } : Jvm.MethodName) ({ cls := "MakingHouseModel", name := "variable", desc := "(I)J" } : Jvm.MethodName)) ∈ lw_all := lw_g (lw_at lw_m11 78 rfl) rfl
theorem q2664 : (Jvm.Cond.code ({ cls := "MakingHouseModel", name := "variable", desc := "(I)J" } : Jvm.MethodName) prog_19_method_134_code (2 : Nat) (Option.some Jvm.ClassFile.FieldType.long)) ∈ lw_all := lw_g (lw_at lw_m11 79 rfl) rfl
theorem q2666 : (Jvm.Cond.instanceMethod ({ cls := "MakingHouseModel", name := "move", desc := "(II)I" } : Jvm.MethodName)) ∈ lw_all := lw_g (lw_at lw_m11 81 rfl) rfl
theorem q2667 : (Jvm.Cond.selects "MakingHouseModel" ({ cls := "MakingHouseModel", name := "move", desc := "(II)I" } : Jvm.MethodName) ({ cls := "MakingHouseModel", name := "move", desc := "(II)I" } : Jvm.MethodName)) ∈ lw_all := lw_g (lw_at lw_m11 82 rfl) rfl
theorem q2668 : (Jvm.Cond.code ({ cls := "MakingHouseModel", name := "move", desc := "(II)I" } : Jvm.MethodName) prog_19_method_135_code (3 : Nat) (Option.some Jvm.ClassFile.FieldType.int)) ∈ lw_all := lw_g (lw_at lw_m11 83 rfl) rfl
theorem q2670 : (Jvm.Cond.instanceMethod ({ cls := "MakingHouseModel", name := "acceleration", desc := "(I)Z" } : Jvm.MethodName)) ∈ lw_all := lw_g (lw_at lw_m11 85 rfl) rfl
theorem q2671 : (Jvm.Cond.selects "MakingHouseModel" ({ cls := "MakingHouseModel", name := "acceleration", desc := "(I)Z" } : Jvm.MethodName) ({ cls := "MakingHouseModel", name := "acceleration", desc := "(I)Z" } : Jvm.MethodName)) ∈ lw_all := lw_g (lw_at lw_m11 86 rfl) rfl
theorem q2672 : (Jvm.Cond.code ({ cls := "MakingHouseModel", name := "acceleration", desc := "(I)Z" } : Jvm.MethodName) prog_19_method_136_code (2 : Nat) (Option.some Jvm.ClassFile.FieldType.boolean)) ∈ lw_all := lw_g (lw_at lw_m11 87 rfl) rfl
theorem q2674 : (Jvm.Cond.instanceMethod ({ cls := "MakingHouseModel", name := "speed", desc := "(I)I" } : Jvm.MethodName)) ∈ lw_all := lw_g (lw_at lw_m11 89 rfl) rfl
theorem q2675 : (Jvm.Cond.selects "MakingHouseModel" ({ cls := "MakingHouseModel", name := "speed", desc := "(I)I" } : Jvm.MethodName) ({ cls := "MakingHouseModel", name := "speed", desc := "(I)I" } : Jvm.MethodName)) ∈ lw_all := lw_g (lw_at lw_m11 90 rfl) rfl
theorem q2676 : (Jvm.Cond.code ({ cls := "MakingHouseModel", name := "speed", desc := "(I)I" } : Jvm.MethodName) prog_19_method_140_code (4 : Nat) (Option.some Jvm.ClassFile.FieldType.int)) ∈ lw_all := lw_g (lw_at lw_m11 91 rfl) rfl
theorem q2677 : (Jvm.Cond.methodLink "MakingHouseModel" (797 : Nat) ({ cls := "MakingHouseModel", name := "limit", desc := "(I)I" } : Jvm.MethodName)) ∈ lw_all := lw_g (lw_at lw_m11 92 rfl) rfl
theorem q2678 : (Jvm.Cond.privateMethod ({ cls := "MakingHouseModel", name := "limit", desc := "(I)I" } : Jvm.MethodName)) ∈ lw_tbl := lw_at lw_m11 93 rfl
theorem q2679 : (Jvm.Cond.instanceMethod ({ cls := "MakingHouseModel", name := "limit", desc := "(I)I" } : Jvm.MethodName)) ∈ lw_all := lw_g (lw_at lw_m11 94 rfl) rfl
theorem q2680 : (Jvm.Cond.code ({ cls := "MakingHouseModel", name := "limit", desc := "(I)I" } : Jvm.MethodName) prog_19_method_137_code (8 : Nat) (Option.some Jvm.ClassFile.FieldType.int)) ∈ lw_all := lw_g (lw_at lw_m11 95 rfl) rfl
theorem q2681 : (Jvm.Cond.methodLink "MakingHouseModel" (800 : Nat) ({ cls := "MakingHouseModel", name := "most", desc := "(II)I" } : Jvm.MethodName)) ∈ lw_all := lw_g (lw_at lw_m11 96 rfl) rfl
theorem q2682 : (Jvm.Cond.privateMethod ({ cls := "MakingHouseModel", name := "most", desc := "(II)I" } : Jvm.MethodName)) ∈ lw_tbl := lw_at lw_m11 97 rfl
theorem q2683 : (Jvm.Cond.instanceMethod ({ cls := "MakingHouseModel", name := "most", desc := "(II)I" } : Jvm.MethodName)) ∈ lw_all := lw_g (lw_at lw_m11 98 rfl) rfl
theorem q2684 : (Jvm.Cond.code ({ cls := "MakingHouseModel", name := "most", desc := "(II)I" } : Jvm.MethodName) prog_19_method_138_code (3 : Nat) (Option.some Jvm.ClassFile.FieldType.int)) ∈ lw_all := lw_g (lw_at lw_m11 99 rfl) rfl
theorem q2685 : (Jvm.Cond.methodLink "MakingHouseModel" (803 : Nat) ({ cls := "MakingHouseModel", name := "lowered", desc := "(II)Z" } : Jvm.MethodName)) ∈ lw_all := lw_g (lw_at lw_m11 100 rfl) rfl
theorem q2686 : (Jvm.Cond.privateMethod ({ cls := "MakingHouseModel", name := "lowered", desc := "(II)Z" } : Jvm.MethodName)) ∈ lw_tbl := lw_at lw_m11 101 rfl
theorem q2687 : (Jvm.Cond.instanceMethod ({ cls := "MakingHouseModel", name := "lowered", desc := "(II)Z" } : Jvm.MethodName)) ∈ lw_all := lw_g (lw_at lw_m11 102 rfl) rfl
theorem q2688 : (Jvm.Cond.code ({ cls := "MakingHouseModel", name := "lowered", desc := "(II)Z" } : Jvm.MethodName) prog_19_method_139_code (3 : Nat) (Option.some Jvm.ClassFile.FieldType.boolean)) ∈ lw_all := lw_g (lw_at lw_m11 103 rfl) rfl
theorem q2690 : (Jvm.Cond.instanceMethod ({ cls := "MakingHouseModel", name := "strays", desc := "()I" } : Jvm.MethodName)) ∈ lw_all := lw_g (lw_at lw_m11 105 rfl) rfl
theorem q2691 : (Jvm.Cond.selects "MakingHouseModel" ({ cls := "MakingHouseModel", name := "strays", desc := "()I" } : Jvm.MethodName) ({ cls := "MakingHouseModel", name := "strays", desc := "()I" } : Jvm.MethodName)) ∈ lw_all := lw_g (lw_at lw_m11 106 rfl) rfl
theorem q2692 : (Jvm.Cond.code ({ cls := "MakingHouseModel", name := "strays", desc := "()I" } : Jvm.MethodName) prog_19_method_141_code (1 : Nat) (Option.some Jvm.ClassFile.FieldType.int)) ∈ lw_all := lw_g (lw_at lw_m11 107 rfl) rfl
theorem q2712 : (Jvm.Cond.castable "MakingHouseModel" "java/lang/Object") ∈ lw_tbl := lw_at lw_m11 127 rfl
theorem in_X8 : ∀ w ∈ wsX80, w ∈ lw_all := lw_in wsX80 [1920, 1922, 1924, 1926, 1928, 1930, 1932, 1934, 1936, 1938, 1940, 1942, 1944, 1946, 1948, 1950, 1952, 1954, 1956, 1958, 1960, 1962, 1964, 1966, 1968, 1970, 1972, 1974, 1976, 1978, 1980, 1982, 1984, 1986, 1988, 1990, 1992, 1994, 1996, 1998, 2000, 2002, 2004, 2006, 2008, 2010, 2012, 2014, 2016, 2018, 2020, 2022, 2024, 2026, 2028, 2030, 2032, 2034, 2036, 2038, 2040, 2042, 2044, 2046, 2048, 2050, 2052, 2054, 2056, 2058, 2060, 2062, 2064, 2066, 2068, 2070, 2072, 2074, 2076, 2078, 2080, 2082, 2084, 2086, 2088, 2090, 2092, 2094, 2096, 2098, 2100, 2102, 2104, 2106, 2108, 2110, 2112, 2114, 2116] (by decide +kernel) (by decide +kernel)
/-! MakingHouseModel$Text -/
set_option maxRecDepth 100000
def RX9 : String := "MakingHouseModel$Text"
def TX9 : u_T := fun k => match k with
  | 0 => ("MakingHouseModel$Text", "bytes", "[B", true)
  | 1 => ("MakingHouseModel$Text", "size", "I", false)
  | 2 => ("MakingHouseModel$Text", "kinds", "[B", true)
  | 3 => ("MakingHouseModel$Text", "places", "[I", true)
  | 4 => ("MakingHouseModel$Text", "worths", "[I", true)
  | 5 => ("MakingHouseModel$Text", "wholes", "[Z", true)
  | 6 => ("MakingHouseModel$Text", "tokens", "I", false)
  | 7 => ("MakingHouseModel$Text", "firsts", "[I", true)
  | 8 => ("MakingHouseModel$Text", "sorts", "[B", true)
  | 9 => ("MakingHouseModel$Text", "labels", "[I", true)
  | 10 => ("MakingHouseModel$Text", "partners", "[I", true)
  | 11 => ("MakingHouseModel$Text", "jumps", "[I", true)
  | _ => ("MakingHouseModel$Text", "lines", "I", false)
def tyX9 : Nat → FieldType := fun k => match k with
  | 0 => .array .byte
  | 1 => .int
  | 2 => .array .byte
  | 3 => .array .int
  | 4 => .array .int
  | 5 => .array .boolean
  | 6 => .int
  | 7 => .array .int
  | 8 => .array .byte
  | 9 => .array .int
  | 10 => .array .int
  | 11 => .array .int
  | _ => .int
abbrev wsX90 : List Cond := u_ws RX9 TX9 13
set_option maxRecDepth 100000 in
theorem nmX9 : ∀ a, a < 13 → ∀ b, b < 13 → a ≠ b → (TX9 a).2.1 ≠ (TX9 b).2.1 := by decide +kernel
set_option maxRecDepth 100000 in
theorem tyX9_ok : ∀ k, k < 13 → parseFieldDescriptor (TX9 k).2.2.1 = some (tyX9 k) := by decide +kernel
abbrev cX9_init : ByteArray := prog_20_method_1_code
def yX9_init : MethodName := ⟨RX9, "<init>", "()V"⟩
theorem q202 : (Jvm.Cond.initialized "MakingHouseModel$Text") ∈ lw_all := lw_g (lw_at lw_m1 17 rfl) rfl
theorem q959 : (Jvm.Cond.selects "MakingHouseModel$Text" ({ cls := "java/lang/Object", name := "getClass", desc := "()Ljava/lang/Class;" } : Jvm.MethodName) ({ cls := "java/lang/Object", name := "getClass", desc := "()Ljava/lang/Class;" } : Jvm.MethodName)) ∈ lw_all := lw_g (lw_at lw_m4 54 rfl) rfl
theorem q1763 : (Jvm.Cond.instantiable "MakingHouseModel$Text" (13 : Nat)) ∈ lw_all := lw_g (lw_at lw_m7 138 rfl) rfl
theorem q1765 : (Jvm.Cond.instanceMethod ({ cls := "MakingHouseModel$Text", name := "<init>", desc := "()V" } : Jvm.MethodName)) ∈ lw_all := lw_g (lw_at lw_m7 140 rfl) rfl
theorem q1766 : (Jvm.Cond.code ({ cls := "MakingHouseModel$Text", name := "<init>", desc := "()V" } : Jvm.MethodName) prog_20_method_1_code (1 : Nat) (Option.none : Option Jvm.ClassFile.FieldType)) ∈ lw_all := lw_g (lw_at lw_m7 141 rfl) rfl
theorem q1767 : (Jvm.Cond.methodLink "MakingHouseModel$Text" (3 : Nat) ({ cls := "java/lang/Object", name := "<init>", desc := "()V" } : Jvm.MethodName)) ∈ lw_all := lw_g (lw_at lw_m7 142 rfl) rfl
theorem q1768 : (Jvm.Cond.fieldLink "MakingHouseModel$Text" (9 : Nat) "MakingHouseModel$Text" "bytes" "[B") ∈ lw_all := lw_g (lw_at lw_m7 143 rfl) rfl
theorem q1771 : (Jvm.Cond.fieldLink "MakingHouseModel$Text" (15 : Nat) "MakingHouseModel$Text" "kinds" "[B") ∈ lw_all := lw_g (lw_at lw_m7 146 rfl) rfl
theorem q1773 : (Jvm.Cond.fieldLink "MakingHouseModel$Text" (18 : Nat) "MakingHouseModel$Text" "places" "[I") ∈ lw_all := lw_g (lw_at lw_m7 148 rfl) rfl
theorem q1775 : (Jvm.Cond.fieldLink "MakingHouseModel$Text" (22 : Nat) "MakingHouseModel$Text" "worths" "[I") ∈ lw_all := lw_g (lw_at lw_m7 150 rfl) rfl
theorem q1777 : (Jvm.Cond.fieldLink "MakingHouseModel$Text" (25 : Nat) "MakingHouseModel$Text" "wholes" "[Z") ∈ lw_all := lw_g (lw_at lw_m7 152 rfl) rfl
theorem q1780 : (Jvm.Cond.fieldLink "MakingHouseModel$Text" (29 : Nat) "MakingHouseModel$Text" "firsts" "[I") ∈ lw_all := lw_g (lw_at lw_m7 155 rfl) rfl
theorem q1782 : (Jvm.Cond.fieldLink "MakingHouseModel$Text" (32 : Nat) "MakingHouseModel$Text" "sorts" "[B") ∈ lw_all := lw_g (lw_at lw_m7 157 rfl) rfl
theorem q1784 : (Jvm.Cond.fieldLink "MakingHouseModel$Text" (35 : Nat) "MakingHouseModel$Text" "labels" "[I") ∈ lw_all := lw_g (lw_at lw_m7 159 rfl) rfl
theorem q1786 : (Jvm.Cond.fieldLink "MakingHouseModel$Text" (38 : Nat) "MakingHouseModel$Text" "partners" "[I") ∈ lw_all := lw_g (lw_at lw_m7 161 rfl) rfl
theorem q1788 : (Jvm.Cond.fieldLink "MakingHouseModel$Text" (41 : Nat) "MakingHouseModel$Text" "jumps" "[I") ∈ lw_all := lw_g (lw_at lw_m7 163 rfl) rfl
theorem q1791 : (Jvm.Cond.laysFinal "MakingHouseModel$Text" "MakingHouseModel$Text" "bytes" "[B") ∈ lw_all := lw_g (lw_at lw_m7 166 rfl) rfl
theorem q1792 : (Jvm.Cond.soleField "MakingHouseModel$Text" "bytes") ∈ lw_all := lw_g (lw_at lw_m7 167 rfl) rfl
theorem q1793 : (Jvm.Cond.lays "MakingHouseModel$Text" "MakingHouseModel$Text" "size" "I") ∈ lw_all := lw_g (lw_at lw_m7 168 rfl) rfl
theorem q1794 : (Jvm.Cond.soleField "MakingHouseModel$Text" "size") ∈ lw_all := lw_g (lw_at lw_m7 169 rfl) rfl
theorem q1795 : (Jvm.Cond.laysFinal "MakingHouseModel$Text" "MakingHouseModel$Text" "kinds" "[B") ∈ lw_all := lw_g (lw_at lw_m7 170 rfl) rfl
theorem q1796 : (Jvm.Cond.soleField "MakingHouseModel$Text" "kinds") ∈ lw_all := lw_g (lw_at lw_m7 171 rfl) rfl
theorem q1797 : (Jvm.Cond.laysFinal "MakingHouseModel$Text" "MakingHouseModel$Text" "places" "[I") ∈ lw_all := lw_g (lw_at lw_m7 172 rfl) rfl
theorem q1798 : (Jvm.Cond.soleField "MakingHouseModel$Text" "places") ∈ lw_all := lw_g (lw_at lw_m7 173 rfl) rfl
theorem q1799 : (Jvm.Cond.laysFinal "MakingHouseModel$Text" "MakingHouseModel$Text" "worths" "[I") ∈ lw_all := lw_g (lw_at lw_m7 174 rfl) rfl
theorem q1800 : (Jvm.Cond.soleField "MakingHouseModel$Text" "worths") ∈ lw_all := lw_g (lw_at lw_m7 175 rfl) rfl
theorem q1801 : (Jvm.Cond.laysFinal "MakingHouseModel$Text" "MakingHouseModel$Text" "wholes" "[Z") ∈ lw_all := lw_g (lw_at lw_m7 176 rfl) rfl
theorem q1802 : (Jvm.Cond.soleField "MakingHouseModel$Text" "wholes") ∈ lw_all := lw_g (lw_at lw_m7 177 rfl) rfl
theorem q1803 : (Jvm.Cond.lays "MakingHouseModel$Text" "MakingHouseModel$Text" "tokens" "I") ∈ lw_all := lw_g (lw_at lw_m7 178 rfl) rfl
theorem q1804 : (Jvm.Cond.soleField "MakingHouseModel$Text" "tokens") ∈ lw_all := lw_g (lw_at lw_m7 179 rfl) rfl
theorem q1805 : (Jvm.Cond.laysFinal "MakingHouseModel$Text" "MakingHouseModel$Text" "firsts" "[I") ∈ lw_all := lw_g (lw_at lw_m7 180 rfl) rfl
theorem q1806 : (Jvm.Cond.soleField "MakingHouseModel$Text" "firsts") ∈ lw_all := lw_g (lw_at lw_m7 181 rfl) rfl
theorem q1807 : (Jvm.Cond.laysFinal "MakingHouseModel$Text" "MakingHouseModel$Text" "sorts" "[B") ∈ lw_all := lw_g (lw_at lw_m7 182 rfl) rfl
theorem q1808 : (Jvm.Cond.soleField "MakingHouseModel$Text" "sorts") ∈ lw_all := lw_g (lw_at lw_m7 183 rfl) rfl
theorem q1809 : (Jvm.Cond.laysFinal "MakingHouseModel$Text" "MakingHouseModel$Text" "labels" "[I") ∈ lw_all := lw_g (lw_at lw_m7 184 rfl) rfl
theorem q1810 : (Jvm.Cond.soleField "MakingHouseModel$Text" "labels") ∈ lw_all := lw_g (lw_at lw_m7 185 rfl) rfl
theorem q1811 : (Jvm.Cond.laysFinal "MakingHouseModel$Text" "MakingHouseModel$Text" "partners" "[I") ∈ lw_all := lw_g (lw_at lw_m7 186 rfl) rfl
theorem q1812 : (Jvm.Cond.soleField "MakingHouseModel$Text" "partners") ∈ lw_all := lw_g (lw_at lw_m7 187 rfl) rfl
theorem q1813 : (Jvm.Cond.laysFinal "MakingHouseModel$Text" "MakingHouseModel$Text" "jumps" "[I") ∈ lw_all := lw_g (lw_at lw_m7 188 rfl) rfl
theorem q1814 : (Jvm.Cond.soleField "MakingHouseModel$Text" "jumps") ∈ lw_all := lw_g (lw_at lw_m7 189 rfl) rfl
theorem q1815 : (Jvm.Cond.lays "MakingHouseModel$Text" "MakingHouseModel$Text" "lines" "I") ∈ lw_all := lw_g (lw_at lw_m7 190 rfl) rfl
theorem q1816 : (Jvm.Cond.soleField "MakingHouseModel$Text" "lines") ∈ lw_all := lw_g (lw_at lw_m7 191 rfl) rfl
theorem q1817 : (Jvm.Cond.superclass "MakingHouseModel$Text" "java/lang/Object") ∈ lw_all := lw_g (lw_at lw_m7 192 rfl) rfl
theorem q2713 : (Jvm.Cond.castable "MakingHouseModel$Text" "java/lang/Object") ∈ lw_tbl := lw_at lw_m11 128 rfl
theorem in_X9 : ∀ w ∈ wsX90, w ∈ lw_all := lw_in wsX90 [1791, 1793, 1795, 1797, 1799, 1801, 1803, 1805, 1807, 1809, 1811, 1813, 1815] (by decide +kernel) (by decide +kernel)
/-! MakingHouse$Solid -/
set_option maxRecDepth 100000
def RX10 : String := "MakingHouse$Solid"
abbrev cX10_init : ByteArray := prog_12_method_1_code
def yX10_init : MethodName := ⟨RX10, "<init>", "(I)V"⟩
theorem q204 : (Jvm.Cond.initialized "MakingHouse$Solid") ∈ lw_all := lw_g (lw_at lw_m1 19 rfl) rfl
theorem q859 : (Jvm.Cond.instanceMethod ({ cls := "MakingHouse$Solid", name := "<init>", desc := "(I)V" } : Jvm.MethodName)) ∈ lw_all := lw_g (lw_at lw_m3 194 rfl) rfl
theorem q860 : (Jvm.Cond.code ({ cls := "MakingHouse$Solid", name := "<init>", desc := "(I)V" } : Jvm.MethodName) prog_12_method_1_code (2 : Nat) (Option.none : Option Jvm.ClassFile.FieldType)) ∈ lw_all := lw_g (lw_at lw_m3 195 rfl) rfl
theorem q861 : (Jvm.Cond.methodLink "MakingHouse$Solid" (1 : Nat) ({ cls := "java/lang/Object", name := "<init>", desc := "()V" } : Jvm.MethodName)) ∈ lw_all := lw_g (lw_at lw_m3 196 rfl) rfl
theorem q866 : (Jvm.Cond.fieldLink "MakingHouse$Solid" (7 : Nat) "MakingHouse$Solid" "weight" "I") ∈ lw_all := lw_g (lw_at lw_m3 201 rfl) rfl
theorem q871 : (Jvm.Cond.soleField "MakingHouse$Solid" "weight") ∈ lw_all := lw_g (lw_at lw_m3 206 rfl) rfl
theorem q1062 : (Jvm.Cond.declares ({ cls := "MakingHouse$Solid", name := "has", desc := "(JJJ)Z" } : Jvm.MethodName)) ∈ lw_tbl := lw_at lw_m4 157 rfl
theorem q1063 : (Jvm.Cond.sameMethod "MakingHouse$Solid" "MakingHouse$Solid" "has" "(JJJ)Z") ∈ lw_all := lw_g (lw_at lw_m4 158 rfl) rfl
theorem q1106 : (Jvm.Cond.declares ({ cls := "MakingHouse$Solid", name := "over", desc := "(JJLMakingHouse$Spans;[LMakingHouse$Spans;I)V" } : Jvm.MethodName)) ∈ lw_tbl := lw_at lw_m4 201 rfl
theorem q1107 : (Jvm.Cond.sameMethod "MakingHouse$Solid" "MakingHouse$Solid" "over" "(JJLMakingHouse$Spans;[LMakingHouse$Spans;I)V") ∈ lw_all := lw_g (lw_at lw_m4 202 rfl) rfl
/-! MakingHouse$Box -/
set_option maxRecDepth 100000
def RX11 : String := "MakingHouse$Box"
def TX11 : u_T := fun k => match k with
  | 0 => ("MakingHouse$Solid", "weight", "I", true)
  | _ => ("MakingHouse$Box", "s", "[I", true)
def tyX11 : Nat → FieldType := fun k => match k with
  | 0 => .int
  | _ => .array .int
abbrev wsX110 : List Cond := u_ws RX11 TX11 2
theorem nmX11 : ∀ a, a < 2 → ∀ b, b < 2 → a ≠ b → (TX11 a).2.1 ≠ (TX11 b).2.1 := by decide +kernel
theorem tyX11_ok : ∀ k, k < 2 → parseFieldDescriptor (TX11 k).2.2.1 = some (tyX11 k) := by decide +kernel
abbrev cX11_init : ByteArray := prog_3_method_1_code
def yX11_init : MethodName := ⟨RX11, "<init>", "([I)V"⟩
abbrev cX11_has : ByteArray := prog_3_method_2_code
def yX11_has : MethodName := ⟨RX11, "has", "(JJJ)Z"⟩
abbrev cX11_over : ByteArray := prog_3_method_3_code
def yX11_over : MethodName := ⟨RX11, "over", "(JJLMakingHouse$Spans;[LMakingHouse$Spans;I)V"⟩
theorem q205 : (Jvm.Cond.initialized "MakingHouse$Box") ∈ lw_all := lw_g (lw_at lw_m1 20 rfl) rfl
theorem q267 : (Jvm.Cond.fieldLink "MakingHouse$Box" (13 : Nat) "MakingHouse$Spans" "count" "I") ∈ lw_all := lw_g (lw_at lw_m1 82 rfl) rfl
theorem q854 : (Jvm.Cond.instantiable "MakingHouse$Box" (2 : Nat)) ∈ lw_all := lw_g (lw_at lw_m3 189 rfl) rfl
theorem q856 : (Jvm.Cond.instanceMethod ({ cls := "MakingHouse$Box", name := "<init>", desc := "([I)V" } : Jvm.MethodName)) ∈ lw_all := lw_g (lw_at lw_m3 191 rfl) rfl
theorem q857 : (Jvm.Cond.code ({ cls := "MakingHouse$Box", name := "<init>", desc := "([I)V" } : Jvm.MethodName) prog_3_method_1_code (2 : Nat) (Option.none : Option Jvm.ClassFile.FieldType)) ∈ lw_all := lw_g (lw_at lw_m3 192 rfl) rfl
theorem q858 : (Jvm.Cond.methodLink "MakingHouse$Box" (1 : Nat) ({ cls := "MakingHouse$Solid", name := "<init>", desc := "(I)V" } : Jvm.MethodName)) ∈ lw_all := lw_g (lw_at lw_m3 193 rfl) rfl
theorem q862 : (Jvm.Cond.fieldLink "MakingHouse$Box" (7 : Nat) "MakingHouse$Box" "s" "[I") ∈ lw_all := lw_g (lw_at lw_m3 197 rfl) rfl
theorem q868 : (Jvm.Cond.laysFinal "MakingHouse$Box" "MakingHouse$Box" "s" "[I") ∈ lw_all := lw_g (lw_at lw_m3 203 rfl) rfl
theorem q869 : (Jvm.Cond.soleField "MakingHouse$Box" "s") ∈ lw_all := lw_g (lw_at lw_m3 204 rfl) rfl
theorem q870 : (Jvm.Cond.laysFinal "MakingHouse$Box" "MakingHouse$Solid" "weight" "I") ∈ lw_all := lw_g (lw_at lw_m3 205 rfl) rfl
theorem q872 : (Jvm.Cond.superclass "MakingHouse$Box" "MakingHouse$Solid") ∈ lw_all := lw_g (lw_at lw_m3 207 rfl) rfl
theorem q944 : (Jvm.Cond.selects "MakingHouse$Box" ({ cls := "java/lang/Object", name := "getClass", desc := "()Ljava/lang/Class;" } : Jvm.MethodName) ({ cls := "java/lang/Object", name := "getClass", desc := "()Ljava/lang/Class;" } : Jvm.MethodName)) ∈ lw_all := lw_g (lw_at lw_m4 39 rfl) rfl
theorem q1070 : (Jvm.Cond.selects "MakingHouse$Box" ({ cls := "MakingHouse$Solid", name := "has", desc := "(JJJ)Z" } : Jvm.MethodName) ({ cls := "MakingHouse$Box", name := "has", desc := "(JJJ)Z" } : Jvm.MethodName)) ∈ lw_all := lw_g (lw_at lw_m4 165 rfl) rfl
theorem q1071 : (Jvm.Cond.instanceMethod ({ cls := "MakingHouse$Box", name := "has", desc := "(JJJ)Z" } : Jvm.MethodName)) ∈ lw_all := lw_g (lw_at lw_m4 166 rfl) rfl
theorem q1072 : (Jvm.Cond.code ({ cls := "MakingHouse$Box", name := "has", desc := "(JJJ)Z" } : Jvm.MethodName) prog_3_method_2_code (7 : Nat) (Option.some Jvm.ClassFile.FieldType.boolean)) ∈ lw_all := lw_g (lw_at lw_m4 167 rfl) rfl
theorem q1119 : (Jvm.Cond.selects "MakingHouse$Box" ({ cls := "MakingHouse$Solid", name := "over", desc := "(JJLMakingHouse$Spans;[LMakingHouse$Spans;I)V" } : Jvm.MethodName) ({ cls := "MakingHouse$Box", name := "over", desc := "(JJLMakingHouse$Spans;[LMakingHouse$Spans;I)V" } : Jvm.MethodName)) ∈ lw_all := lw_g (lw_at lw_m4 214 rfl) rfl
theorem q1120 : (Jvm.Cond.instanceMethod ({ cls := "MakingHouse$Box", name := "over", desc := "(JJLMakingHouse$Spans;[LMakingHouse$Spans;I)V" } : Jvm.MethodName)) ∈ lw_all := lw_g (lw_at lw_m4 215 rfl) rfl
theorem q1121 : (Jvm.Cond.code ({ cls := "MakingHouse$Box", name := "over", desc := "(JJLMakingHouse$Spans;[LMakingHouse$Spans;I)V" } : Jvm.MethodName) prog_3_method_3_code (8 : Nat) (Option.none : Option Jvm.ClassFile.FieldType)) ∈ lw_all := lw_g (lw_at lw_m4 216 rfl) rfl
theorem q1122 : (Jvm.Cond.methodLink "MakingHouse$Box" (19 : Nat) ({ cls := "MakingHouse$Spans", name := "add", desc := "(JJ)V" } : Jvm.MethodName)) ∈ lw_all := lw_g (lw_at lw_m4 217 rfl) rfl
theorem q2695 : (Jvm.Cond.castable "MakingHouse$Box" "MakingHouse$Solid") ∈ lw_tbl := lw_at lw_m11 110 rfl
theorem q2714 : (Jvm.Cond.castable "MakingHouse$Box" "java/lang/Object") ∈ lw_tbl := lw_at lw_m11 129 rfl
theorem in_X11 : ∀ w ∈ wsX110, w ∈ lw_all := lw_in wsX110 [870, 868] (by decide +kernel) (by decide +kernel)
/-! MakingHouse$Post -/
set_option maxRecDepth 100000
def RX12 : String := "MakingHouse$Post"
def TX12 : u_T := fun k => match k with
  | 0 => ("MakingHouse$Solid", "weight", "I", true)
  | _ => ("MakingHouse$Post", "s", "[I", true)
def tyX12 : Nat → FieldType := fun k => match k with
  | 0 => .int
  | _ => .array .int
abbrev wsX120 : List Cond := u_ws RX12 TX12 2
theorem nmX12 : ∀ a, a < 2 → ∀ b, b < 2 → a ≠ b → (TX12 a).2.1 ≠ (TX12 b).2.1 := by decide +kernel
theorem tyX12_ok : ∀ k, k < 2 → parseFieldDescriptor (TX12 k).2.2.1 = some (tyX12 k) := by decide +kernel
abbrev cX12_init : ByteArray := prog_8_method_1_code
def yX12_init : MethodName := ⟨RX12, "<init>", "([I)V"⟩
abbrev cX12_has : ByteArray := prog_8_method_2_code
def yX12_has : MethodName := ⟨RX12, "has", "(JJJ)Z"⟩
abbrev cX12_over : ByteArray := prog_8_method_3_code
def yX12_over : MethodName := ⟨RX12, "over", "(JJLMakingHouse$Spans;[LMakingHouse$Spans;I)V"⟩
theorem q206 : (Jvm.Cond.initialized "MakingHouse$Post") ∈ lw_all := lw_g (lw_at lw_m1 21 rfl) rfl
theorem q268 : (Jvm.Cond.fieldLink "MakingHouse$Post" (19 : Nat) "MakingHouse$Spans" "count" "I") ∈ lw_all := lw_g (lw_at lw_m1 83 rfl) rfl
theorem q874 : (Jvm.Cond.instantiable "MakingHouse$Post" (2 : Nat)) ∈ lw_all := lw_g (lw_at lw_m3 209 rfl) rfl
theorem q876 : (Jvm.Cond.instanceMethod ({ cls := "MakingHouse$Post", name := "<init>", desc := "([I)V" } : Jvm.MethodName)) ∈ lw_all := lw_g (lw_at lw_m3 211 rfl) rfl
theorem q877 : (Jvm.Cond.code ({ cls := "MakingHouse$Post", name := "<init>", desc := "([I)V" } : Jvm.MethodName) prog_8_method_1_code (2 : Nat) (Option.none : Option Jvm.ClassFile.FieldType)) ∈ lw_all := lw_g (lw_at lw_m3 212 rfl) rfl
theorem q878 : (Jvm.Cond.methodLink "MakingHouse$Post" (1 : Nat) ({ cls := "MakingHouse$Solid", name := "<init>", desc := "(I)V" } : Jvm.MethodName)) ∈ lw_all := lw_g (lw_at lw_m3 213 rfl) rfl
theorem q879 : (Jvm.Cond.fieldLink "MakingHouse$Post" (7 : Nat) "MakingHouse$Post" "s" "[I") ∈ lw_all := lw_g (lw_at lw_m3 214 rfl) rfl
theorem q880 : (Jvm.Cond.laysFinal "MakingHouse$Post" "MakingHouse$Post" "s" "[I") ∈ lw_all := lw_g (lw_at lw_m3 215 rfl) rfl
theorem q881 : (Jvm.Cond.soleField "MakingHouse$Post" "s") ∈ lw_all := lw_g (lw_at lw_m3 216 rfl) rfl
theorem q882 : (Jvm.Cond.laysFinal "MakingHouse$Post" "MakingHouse$Solid" "weight" "I") ∈ lw_all := lw_g (lw_at lw_m3 217 rfl) rfl
theorem q883 : (Jvm.Cond.superclass "MakingHouse$Post" "MakingHouse$Solid") ∈ lw_all := lw_g (lw_at lw_m3 218 rfl) rfl
theorem q949 : (Jvm.Cond.selects "MakingHouse$Post" ({ cls := "java/lang/Object", name := "getClass", desc := "()Ljava/lang/Class;" } : Jvm.MethodName) ({ cls := "java/lang/Object", name := "getClass", desc := "()Ljava/lang/Class;" } : Jvm.MethodName)) ∈ lw_all := lw_g (lw_at lw_m4 44 rfl) rfl
theorem q1088 : (Jvm.Cond.instanceMethod ({ cls := "MakingHouse$Post", name := "has", desc := "(JJJ)Z" } : Jvm.MethodName)) ∈ lw_all := lw_g (lw_at lw_m4 183 rfl) rfl
theorem q1089 : (Jvm.Cond.code ({ cls := "MakingHouse$Post", name := "has", desc := "(JJJ)Z" } : Jvm.MethodName) prog_8_method_2_code (7 : Nat) (Option.some Jvm.ClassFile.FieldType.boolean)) ∈ lw_all := lw_g (lw_at lw_m4 184 rfl) rfl
theorem q1090 : (Jvm.Cond.methodLinkNest "MakingHouse$Post" (13 : Nat) ({ cls := "MakingHouse", name := "square", desc := "(JJ)J" } : Jvm.MethodName) "MakingHouse") ∈ lw_tbl := lw_at lw_m4 185 rfl
theorem q1095 : (Jvm.Cond.selects "MakingHouse$Post" ({ cls := "MakingHouse$Solid", name := "has", desc := "(JJJ)Z" } : Jvm.MethodName) ({ cls := "MakingHouse$Post", name := "has", desc := "(JJJ)Z" } : Jvm.MethodName)) ∈ lw_all := lw_g (lw_at lw_m4 190 rfl) rfl
theorem q1135 : (Jvm.Cond.instanceMethod ({ cls := "MakingHouse$Post", name := "over", desc := "(JJLMakingHouse$Spans;[LMakingHouse$Spans;I)V" } : Jvm.MethodName)) ∈ lw_all := lw_g (lw_at lw_m4 230 rfl) rfl
theorem q1136 : (Jvm.Cond.code ({ cls := "MakingHouse$Post", name := "over", desc := "(JJLMakingHouse$Spans;[LMakingHouse$Spans;I)V" } : Jvm.MethodName) prog_8_method_3_code (8 : Nat) (Option.none : Option Jvm.ClassFile.FieldType)) ∈ lw_all := lw_g (lw_at lw_m4 231 rfl) rfl
theorem q1137 : (Jvm.Cond.methodLink "MakingHouse$Post" (25 : Nat) ({ cls := "MakingHouse$Spans", name := "add", desc := "(JJ)V" } : Jvm.MethodName)) ∈ lw_all := lw_g (lw_at lw_m4 232 rfl) rfl
theorem q1159 : (Jvm.Cond.selects "MakingHouse$Post" ({ cls := "MakingHouse$Solid", name := "over", desc := "(JJLMakingHouse$Spans;[LMakingHouse$Spans;I)V" } : Jvm.MethodName) ({ cls := "MakingHouse$Post", name := "over", desc := "(JJLMakingHouse$Spans;[LMakingHouse$Spans;I)V" } : Jvm.MethodName)) ∈ lw_all := lw_g (lw_at lw_m5 14 rfl) rfl
theorem q2699 : (Jvm.Cond.castable "MakingHouse$Post" "MakingHouse$Solid") ∈ lw_tbl := lw_at lw_m11 114 rfl
theorem q2715 : (Jvm.Cond.castable "MakingHouse$Post" "java/lang/Object") ∈ lw_tbl := lw_at lw_m11 130 rfl
theorem in_X12 : ∀ w ∈ wsX120, w ∈ lw_all := lw_in wsX120 [882, 880] (by decide +kernel) (by decide +kernel)
/-! MakingHouse$Ball -/
set_option maxRecDepth 100000
def RX13 : String := "MakingHouse$Ball"
def TX13 : u_T := fun k => match k with
  | 0 => ("MakingHouse$Solid", "weight", "I", true)
  | _ => ("MakingHouse$Ball", "s", "[I", true)
def tyX13 : Nat → FieldType := fun k => match k with
  | 0 => .int
  | _ => .array .int
abbrev wsX130 : List Cond := u_ws RX13 TX13 2
theorem nmX13 : ∀ a, a < 2 → ∀ b, b < 2 → a ≠ b → (TX13 a).2.1 ≠ (TX13 b).2.1 := by decide +kernel
theorem tyX13_ok : ∀ k, k < 2 → parseFieldDescriptor (TX13 k).2.2.1 = some (tyX13 k) := by decide +kernel
abbrev cX13_init : ByteArray := prog_2_method_1_code
def yX13_init : MethodName := ⟨RX13, "<init>", "([I)V"⟩
abbrev cX13_has : ByteArray := prog_2_method_2_code
def yX13_has : MethodName := ⟨RX13, "has", "(JJJ)Z"⟩
abbrev cX13_over : ByteArray := prog_2_method_3_code
def yX13_over : MethodName := ⟨RX13, "over", "(JJLMakingHouse$Spans;[LMakingHouse$Spans;I)V"⟩
theorem q207 : (Jvm.Cond.initialized "MakingHouse$Ball") ∈ lw_all := lw_g (lw_at lw_m1 22 rfl) rfl
theorem q266 : (Jvm.Cond.fieldLink "MakingHouse$Ball" (19 : Nat) "MakingHouse$Spans" "count" "I") ∈ lw_all := lw_g (lw_at lw_m1 81 rfl) rfl
theorem q885 : (Jvm.Cond.instantiable "MakingHouse$Ball" (2 : Nat)) ∈ lw_all := lw_g (lw_at lw_m3 220 rfl) rfl
theorem q887 : (Jvm.Cond.instanceMethod ({ cls := "MakingHouse$Ball", name := "<init>", desc := "([I)V" } : Jvm.MethodName)) ∈ lw_all := lw_g (lw_at lw_m3 222 rfl) rfl
theorem q888 : (Jvm.Cond.code ({ cls := "MakingHouse$Ball", name := "<init>", desc := "([I)V" } : Jvm.MethodName) prog_2_method_1_code (2 : Nat) (Option.none : Option Jvm.ClassFile.FieldType)) ∈ lw_all := lw_g (lw_at lw_m3 223 rfl) rfl
theorem q889 : (Jvm.Cond.methodLink "MakingHouse$Ball" (1 : Nat) ({ cls := "MakingHouse$Solid", name := "<init>", desc := "(I)V" } : Jvm.MethodName)) ∈ lw_all := lw_g (lw_at lw_m3 224 rfl) rfl
theorem q890 : (Jvm.Cond.fieldLink "MakingHouse$Ball" (7 : Nat) "MakingHouse$Ball" "s" "[I") ∈ lw_all := lw_g (lw_at lw_m3 225 rfl) rfl
theorem q891 : (Jvm.Cond.laysFinal "MakingHouse$Ball" "MakingHouse$Ball" "s" "[I") ∈ lw_all := lw_g (lw_at lw_m3 226 rfl) rfl
theorem q892 : (Jvm.Cond.soleField "MakingHouse$Ball" "s") ∈ lw_all := lw_g (lw_at lw_m3 227 rfl) rfl
theorem q893 : (Jvm.Cond.laysFinal "MakingHouse$Ball" "MakingHouse$Solid" "weight" "I") ∈ lw_all := lw_g (lw_at lw_m3 228 rfl) rfl
theorem q894 : (Jvm.Cond.superclass "MakingHouse$Ball" "MakingHouse$Solid") ∈ lw_all := lw_g (lw_at lw_m3 229 rfl) rfl
theorem q943 : (Jvm.Cond.selects "MakingHouse$Ball" ({ cls := "java/lang/Object", name := "getClass", desc := "()Ljava/lang/Class;" } : Jvm.MethodName) ({ cls := "java/lang/Object", name := "getClass", desc := "()Ljava/lang/Class;" } : Jvm.MethodName)) ∈ lw_all := lw_g (lw_at lw_m4 38 rfl) rfl
theorem q1064 : (Jvm.Cond.selects "MakingHouse$Ball" ({ cls := "MakingHouse$Solid", name := "has", desc := "(JJJ)Z" } : Jvm.MethodName) ({ cls := "MakingHouse$Ball", name := "has", desc := "(JJJ)Z" } : Jvm.MethodName)) ∈ lw_all := lw_g (lw_at lw_m4 159 rfl) rfl
theorem q1065 : (Jvm.Cond.instanceMethod ({ cls := "MakingHouse$Ball", name := "has", desc := "(JJJ)Z" } : Jvm.MethodName)) ∈ lw_all := lw_g (lw_at lw_m4 160 rfl) rfl
theorem q1066 : (Jvm.Cond.code ({ cls := "MakingHouse$Ball", name := "has", desc := "(JJJ)Z" } : Jvm.MethodName) prog_2_method_2_code (7 : Nat) (Option.some Jvm.ClassFile.FieldType.boolean)) ∈ lw_all := lw_g (lw_at lw_m4 161 rfl) rfl
theorem q1067 : (Jvm.Cond.methodLinkNest "MakingHouse$Ball" (13 : Nat) ({ cls := "MakingHouse", name := "square", desc := "(JJ)J" } : Jvm.MethodName) "MakingHouse") ∈ lw_tbl := lw_at lw_m4 162 rfl
theorem q1108 : (Jvm.Cond.selects "MakingHouse$Ball" ({ cls := "MakingHouse$Solid", name := "over", desc := "(JJLMakingHouse$Spans;[LMakingHouse$Spans;I)V" } : Jvm.MethodName) ({ cls := "MakingHouse$Ball", name := "over", desc := "(JJLMakingHouse$Spans;[LMakingHouse$Spans;I)V" } : Jvm.MethodName)) ∈ lw_all := lw_g (lw_at lw_m4 203 rfl) rfl
theorem q1109 : (Jvm.Cond.instanceMethod ({ cls := "MakingHouse$Ball", name := "over", desc := "(JJLMakingHouse$Spans;[LMakingHouse$Spans;I)V" } : Jvm.MethodName)) ∈ lw_all := lw_g (lw_at lw_m4 204 rfl) rfl
theorem q1110 : (Jvm.Cond.code ({ cls := "MakingHouse$Ball", name := "over", desc := "(JJLMakingHouse$Spans;[LMakingHouse$Spans;I)V" } : Jvm.MethodName) prog_2_method_3_code (12 : Nat) (Option.none : Option Jvm.ClassFile.FieldType)) ∈ lw_all := lw_g (lw_at lw_m4 205 rfl) rfl
theorem q1111 : (Jvm.Cond.methodLinkNest "MakingHouse$Ball" (25 : Nat) ({ cls := "MakingHouse", name := "root", desc := "(J)J" } : Jvm.MethodName) "MakingHouse") ∈ lw_tbl := lw_at lw_m4 206 rfl
theorem q1115 : (Jvm.Cond.methodLink "MakingHouse$Ball" (29 : Nat) ({ cls := "MakingHouse$Spans", name := "add", desc := "(JJ)V" } : Jvm.MethodName)) ∈ lw_all := lw_g (lw_at lw_m4 210 rfl) rfl
theorem q2694 : (Jvm.Cond.castable "MakingHouse$Ball" "MakingHouse$Solid") ∈ lw_tbl := lw_at lw_m11 109 rfl
theorem q2716 : (Jvm.Cond.castable "MakingHouse$Ball" "java/lang/Object") ∈ lw_tbl := lw_at lw_m11 131 rfl
theorem in_X13 : ∀ w ∈ wsX130, w ∈ lw_all := lw_in wsX130 [893, 891] (by decide +kernel) (by decide +kernel)
/-! MakingHouse$Cone -/
set_option maxRecDepth 100000
def RX14 : String := "MakingHouse$Cone"
def TX14 : u_T := fun k => match k with
  | 0 => ("MakingHouse$Solid", "weight", "I", true)
  | _ => ("MakingHouse$Cone", "s", "[I", true)
def tyX14 : Nat → FieldType := fun k => match k with
  | 0 => .int
  | _ => .array .int
abbrev wsX140 : List Cond := u_ws RX14 TX14 2
theorem nmX14 : ∀ a, a < 2 → ∀ b, b < 2 → a ≠ b → (TX14 a).2.1 ≠ (TX14 b).2.1 := by decide +kernel
theorem tyX14_ok : ∀ k, k < 2 → parseFieldDescriptor (TX14 k).2.2.1 = some (tyX14 k) := by decide +kernel
abbrev cX14_init : ByteArray := prog_4_method_1_code
def yX14_init : MethodName := ⟨RX14, "<init>", "([I)V"⟩
abbrev cX14_has : ByteArray := prog_4_method_3_code
def yX14_has : MethodName := ⟨RX14, "has", "(JJJ)Z"⟩
abbrev cX14_isWithin : ByteArray := prog_4_method_2_code
def yX14_isWithin : MethodName := ⟨RX14, "isWithin", "(JJ)Z"⟩
abbrev cX14_over : ByteArray := prog_4_method_4_code
def yX14_over : MethodName := ⟨RX14, "over", "(JJLMakingHouse$Spans;[LMakingHouse$Spans;I)V"⟩
theorem q208 : (Jvm.Cond.initialized "MakingHouse$Cone") ∈ lw_all := lw_g (lw_at lw_m1 23 rfl) rfl
theorem q269 : (Jvm.Cond.fieldLink "MakingHouse$Cone" (23 : Nat) "MakingHouse$Spans" "count" "I") ∈ lw_all := lw_g (lw_at lw_m1 84 rfl) rfl
theorem q896 : (Jvm.Cond.instantiable "MakingHouse$Cone" (2 : Nat)) ∈ lw_all := lw_g (lw_at lw_m3 231 rfl) rfl
theorem q898 : (Jvm.Cond.instanceMethod ({ cls := "MakingHouse$Cone", name := "<init>", desc := "([I)V" } : Jvm.MethodName)) ∈ lw_all := lw_g (lw_at lw_m3 233 rfl) rfl
theorem q899 : (Jvm.Cond.code ({ cls := "MakingHouse$Cone", name := "<init>", desc := "([I)V" } : Jvm.MethodName) prog_4_method_1_code (2 : Nat) (Option.none : Option Jvm.ClassFile.FieldType)) ∈ lw_all := lw_g (lw_at lw_m3 234 rfl) rfl
theorem q900 : (Jvm.Cond.methodLink "MakingHouse$Cone" (1 : Nat) ({ cls := "MakingHouse$Solid", name := "<init>", desc := "(I)V" } : Jvm.MethodName)) ∈ lw_all := lw_g (lw_at lw_m3 235 rfl) rfl
theorem q901 : (Jvm.Cond.fieldLink "MakingHouse$Cone" (7 : Nat) "MakingHouse$Cone" "s" "[I") ∈ lw_all := lw_g (lw_at lw_m3 236 rfl) rfl
theorem q902 : (Jvm.Cond.laysFinal "MakingHouse$Cone" "MakingHouse$Cone" "s" "[I") ∈ lw_all := lw_g (lw_at lw_m3 237 rfl) rfl
theorem q903 : (Jvm.Cond.soleField "MakingHouse$Cone" "s") ∈ lw_all := lw_g (lw_at lw_m3 238 rfl) rfl
theorem q904 : (Jvm.Cond.laysFinal "MakingHouse$Cone" "MakingHouse$Solid" "weight" "I") ∈ lw_all := lw_g (lw_at lw_m3 239 rfl) rfl
theorem q905 : (Jvm.Cond.superclass "MakingHouse$Cone" "MakingHouse$Solid") ∈ lw_all := lw_g (lw_at lw_m4 0 rfl) rfl
theorem q945 : (Jvm.Cond.selects "MakingHouse$Cone" ({ cls := "java/lang/Object", name := "getClass", desc := "()Ljava/lang/Class;" } : Jvm.MethodName) ({ cls := "java/lang/Object", name := "getClass", desc := "()Ljava/lang/Class;" } : Jvm.MethodName)) ∈ lw_all := lw_g (lw_at lw_m4 40 rfl) rfl
theorem q1073 : (Jvm.Cond.selects "MakingHouse$Cone" ({ cls := "MakingHouse$Solid", name := "has", desc := "(JJJ)Z" } : Jvm.MethodName) ({ cls := "MakingHouse$Cone", name := "has", desc := "(JJJ)Z" } : Jvm.MethodName)) ∈ lw_all := lw_g (lw_at lw_m4 168 rfl) rfl
theorem q1074 : (Jvm.Cond.instanceMethod ({ cls := "MakingHouse$Cone", name := "has", desc := "(JJJ)Z" } : Jvm.MethodName)) ∈ lw_all := lw_g (lw_at lw_m4 169 rfl) rfl
theorem q1075 : (Jvm.Cond.code ({ cls := "MakingHouse$Cone", name := "has", desc := "(JJJ)Z" } : Jvm.MethodName) prog_4_method_3_code (7 : Nat) (Option.some Jvm.ClassFile.FieldType.boolean)) ∈ lw_all := lw_g (lw_at lw_m4 170 rfl) rfl
theorem q1076 : (Jvm.Cond.methodLinkNest "MakingHouse$Cone" (13 : Nat) ({ cls := "MakingHouse", name := "square", desc := "(JJ)J" } : Jvm.MethodName) "MakingHouse") ∈ lw_tbl := lw_at lw_m4 171 rfl
theorem q1077 : (Jvm.Cond.methodLink "MakingHouse$Cone" (19 : Nat) ({ cls := "MakingHouse$Cone", name := "isWithin", desc := "(JJ)Z" } : Jvm.MethodName)) ∈ lw_all := lw_g (lw_at lw_m4 172 rfl) rfl
theorem q1078 : (Jvm.Cond.privateMethod ({ cls := "MakingHouse$Cone", name := "isWithin", desc := "(JJ)Z" } : Jvm.MethodName)) ∈ lw_tbl := lw_at lw_m4 173 rfl
theorem q1079 : (Jvm.Cond.instanceMethod ({ cls := "MakingHouse$Cone", name := "isWithin", desc := "(JJ)Z" } : Jvm.MethodName)) ∈ lw_all := lw_g (lw_at lw_m4 174 rfl) rfl
theorem q1080 : (Jvm.Cond.code ({ cls := "MakingHouse$Cone", name := "isWithin", desc := "(JJ)Z" } : Jvm.MethodName) prog_4_method_2_code (9 : Nat) (Option.some Jvm.ClassFile.FieldType.boolean)) ∈ lw_all := lw_g (lw_at lw_m4 175 rfl) rfl
theorem q1123 : (Jvm.Cond.selects "MakingHouse$Cone" ({ cls := "MakingHouse$Solid", name := "over", desc := "(JJLMakingHouse$Spans;[LMakingHouse$Spans;I)V" } : Jvm.MethodName) ({ cls := "MakingHouse$Cone", name := "over", desc := "(JJLMakingHouse$Spans;[LMakingHouse$Spans;I)V" } : Jvm.MethodName)) ∈ lw_all := lw_g (lw_at lw_m4 218 rfl) rfl
theorem q1124 : (Jvm.Cond.instanceMethod ({ cls := "MakingHouse$Cone", name := "over", desc := "(JJLMakingHouse$Spans;[LMakingHouse$Spans;I)V" } : Jvm.MethodName)) ∈ lw_all := lw_g (lw_at lw_m4 219 rfl) rfl
theorem q1125 : (Jvm.Cond.code ({ cls := "MakingHouse$Cone", name := "over", desc := "(JJLMakingHouse$Spans;[LMakingHouse$Spans;I)V" } : Jvm.MethodName) prog_4_method_4_code (16 : Nat) (Option.none : Option Jvm.ClassFile.FieldType)) ∈ lw_all := lw_g (lw_at lw_m4 220 rfl) rfl
theorem q1126 : (Jvm.Cond.constantLong "MakingHouse$Cone" (29 : Nat) (2 : Int64)) ∈ lw_all := lw_g (lw_at lw_m4 221 rfl) rfl
theorem q1127 : (Jvm.Cond.methodLink "MakingHouse$Cone" (31 : Nat) ({ cls := "MakingHouse$Spans", name := "add", desc := "(JJ)V" } : Jvm.MethodName)) ∈ lw_all := lw_g (lw_at lw_m4 222 rfl) rfl
theorem q2696 : (Jvm.Cond.castable "MakingHouse$Cone" "MakingHouse$Solid") ∈ lw_tbl := lw_at lw_m11 111 rfl
theorem q2717 : (Jvm.Cond.castable "MakingHouse$Cone" "java/lang/Object") ∈ lw_tbl := lw_at lw_m11 132 rfl
theorem in_X14 : ∀ w ∈ wsX140, w ∈ lw_all := lw_in wsX140 [904, 902] (by decide +kernel) (by decide +kernel)
/-! jdk/internal/util/ArraysSupport -/
set_option maxRecDepth 100000
def RJ7 : String := "jdk/internal/util/ArraysSupport"
abbrev cJ7_newLength : ByteArray := prog_42_method_27_code
def yJ7_newLength : MethodName := ⟨RJ7, "newLength", "(III)I"⟩
abbrev cJ7_hugeLength : ByteArray := prog_42_method_28_code
def yJ7_hugeLength : MethodName := ⟨RJ7, "hugeLength", "(II)I"⟩
theorem q209 : (Jvm.Cond.initialized "jdk/internal/util/ArraysSupport") ∈ lw_all := lw_g (lw_at lw_m1 24 rfl) rfl
theorem q927 : (Jvm.Cond.static ({ cls := "jdk/internal/util/ArraysSupport", name := "newLength", desc := "(III)I" } : Jvm.MethodName)) ∈ lw_all := lw_g (lw_at lw_m4 22 rfl) rfl
theorem q928 : (Jvm.Cond.code ({ cls := "jdk/internal/util/ArraysSupport", name := "newLength", desc := "(III)I" } : Jvm.MethodName) prog_42_method_27_code (4 : Nat) (Option.some Jvm.ClassFile.FieldType.int)) ∈ lw_all := lw_g (lw_at lw_m4 23 rfl) rfl
theorem q929 : (Jvm.Cond.methodLink "jdk/internal/util/ArraysSupport" (194 : Nat) ({ cls := "java/lang/Math", name := "max", desc := "(II)I" } : Jvm.MethodName)) ∈ lw_all := lw_g (lw_at lw_m4 24 rfl) rfl
theorem q932 : (Jvm.Cond.constant "jdk/internal/util/ArraysSupport" (200 : Nat) (2147483639 : Int32)) ∈ lw_all := lw_g (lw_at lw_m4 27 rfl) rfl
theorem q933 : (Jvm.Cond.methodLink "jdk/internal/util/ArraysSupport" (201 : Nat) ({ cls := "jdk/internal/util/ArraysSupport", name := "hugeLength", desc := "(II)I" } : Jvm.MethodName)) ∈ lw_all := lw_g (lw_at lw_m4 28 rfl) rfl
theorem q934 : (Jvm.Cond.static ({ cls := "jdk/internal/util/ArraysSupport", name := "hugeLength", desc := "(II)I" } : Jvm.MethodName)) ∈ lw_all := lw_g (lw_at lw_m4 29 rfl) rfl
theorem q935 : (Jvm.Cond.code ({ cls := "jdk/internal/util/ArraysSupport", name := "hugeLength", desc := "(II)I" } : Jvm.MethodName) prog_42_method_28_code (3 : Nat) (Option.some Jvm.ClassFile.FieldType.int)) ∈ lw_all := lw_g (lw_at lw_m4 30 rfl) rfl
/-! java/lang/Math -/
set_option maxRecDepth 100000
def RJ8 : String := "java/lang/Math"
abbrev cJ8_max : ByteArray := prog_26_method_65_code
def yJ8_max : MethodName := ⟨RJ8, "max", "(II)I"⟩
abbrev cJ8_min : ByteArray := prog_26_method_69_code
def yJ8_min : MethodName := ⟨RJ8, "min", "(II)I"⟩
abbrev cJ8_min_2 : ByteArray := prog_26_method_70_code
def yJ8_min_2 : MethodName := ⟨RJ8, "min", "(JJ)J"⟩
abbrev cJ8_max_2 : ByteArray := prog_26_method_66_code
def yJ8_max_2 : MethodName := ⟨RJ8, "max", "(JJ)J"⟩
abbrev cJ8_abs : ByteArray := prog_26_method_59_code
def yJ8_abs : MethodName := ⟨RJ8, "abs", "(I)I"⟩
abbrev cJ8_abs_2 : ByteArray := prog_26_method_61_code
def yJ8_abs_2 : MethodName := ⟨RJ8, "abs", "(J)J"⟩
theorem q210 : (Jvm.Cond.initialized "java/lang/Math") ∈ lw_all := lw_g (lw_at lw_m1 25 rfl) rfl
theorem q930 : (Jvm.Cond.static ({ cls := "java/lang/Math", name := "max", desc := "(II)I" } : Jvm.MethodName)) ∈ lw_all := lw_g (lw_at lw_m4 25 rfl) rfl
theorem q931 : (Jvm.Cond.code ({ cls := "java/lang/Math", name := "max", desc := "(II)I" } : Jvm.MethodName) prog_26_method_65_code (2 : Nat) (Option.some Jvm.ClassFile.FieldType.int)) ∈ lw_all := lw_g (lw_at lw_m4 26 rfl) rfl
theorem q970 : (Jvm.Cond.static ({ cls := "java/lang/Math", name := "min", desc := "(II)I" } : Jvm.MethodName)) ∈ lw_all := lw_g (lw_at lw_m4 65 rfl) rfl
theorem q971 : (Jvm.Cond.code ({ cls := "java/lang/Math", name := "min", desc := "(II)I" } : Jvm.MethodName) prog_26_method_69_code (2 : Nat) (Option.some Jvm.ClassFile.FieldType.int)) ∈ lw_all := lw_g (lw_at lw_m4 66 rfl) rfl
theorem q1151 : (Jvm.Cond.static ({ cls := "java/lang/Math", name := "min", desc := "(JJ)J" } : Jvm.MethodName)) ∈ lw_all := lw_g (lw_at lw_m5 6 rfl) rfl
theorem q1152 : (Jvm.Cond.code ({ cls := "java/lang/Math", name := "min", desc := "(JJ)J" } : Jvm.MethodName) prog_26_method_70_code (4 : Nat) (Option.some Jvm.ClassFile.FieldType.long)) ∈ lw_all := lw_g (lw_at lw_m5 7 rfl) rfl
theorem q1246 : (Jvm.Cond.static ({ cls := "java/lang/Math", name := "max", desc := "(JJ)J" } : Jvm.MethodName)) ∈ lw_all := lw_g (lw_at lw_m5 101 rfl) rfl
theorem q1247 : (Jvm.Cond.code ({ cls := "java/lang/Math", name := "max", desc := "(JJ)J" } : Jvm.MethodName) prog_26_method_66_code (4 : Nat) (Option.some Jvm.ClassFile.FieldType.long)) ∈ lw_all := lw_g (lw_at lw_m5 102 rfl) rfl
theorem q1649 : (Jvm.Cond.static ({ cls := "java/lang/Math", name := "abs", desc := "(I)I" } : Jvm.MethodName)) ∈ lw_all := lw_g (lw_at lw_m7 24 rfl) rfl
theorem q1650 : (Jvm.Cond.code ({ cls := "java/lang/Math", name := "abs", desc := "(I)I" } : Jvm.MethodName) prog_26_method_59_code (1 : Nat) (Option.some Jvm.ClassFile.FieldType.int)) ∈ lw_all := lw_g (lw_at lw_m7 25 rfl) rfl
theorem q1712 : (Jvm.Cond.static ({ cls := "java/lang/Math", name := "abs", desc := "(J)J" } : Jvm.MethodName)) ∈ lw_all := lw_g (lw_at lw_m7 87 rfl) rfl
theorem q1713 : (Jvm.Cond.code ({ cls := "java/lang/Math", name := "abs", desc := "(J)J" } : Jvm.MethodName) prog_26_method_61_code (2 : Nat) (Option.some Jvm.ClassFile.FieldType.long)) ∈ lw_all := lw_g (lw_at lw_m7 88 rfl) rfl
/-! java/util/Arrays -/
set_option maxRecDepth 100000
def RJ9 : String := "java/util/Arrays"
abbrev cJ9_copyOf : ByteArray := prog_36_method_119_code
def yJ9_copyOf : MethodName := ⟨RJ9, "copyOf", "([Ljava/lang/Object;I)[Ljava/lang/Object;"⟩
abbrev cJ9_copyOf_2 : ByteArray := prog_36_method_120_code
def yJ9_copyOf_2 : MethodName := ⟨RJ9, "copyOf", "([Ljava/lang/Object;ILjava/lang/Class;)[Ljava/lang/Object;"⟩
theorem q211 : (Jvm.Cond.initialized "java/util/Arrays") ∈ lw_all := lw_g (lw_at lw_m1 26 rfl) rfl
theorem q937 : (Jvm.Cond.static ({ cls := "java/util/Arrays", name := "copyOf", desc := "([Ljava/lang/Object;I)[Ljava/lang/Object;" } : Jvm.MethodName)) ∈ lw_all := lw_g (lw_at lw_m4 32 rfl) rfl
theorem q938 : (Jvm.Cond.code ({ cls := "java/util/Arrays", name := "copyOf", desc := "([Ljava/lang/Object;I)[Ljava/lang/Object;" } : Jvm.MethodName) prog_36_method_119_code (2 : Nat) (Option.some (Jvm.ClassFile.FieldType.array (Jvm.ClassFile.FieldType.object "java/lang/Object")))) ∈ lw_all := lw_g (lw_at lw_m4 33 rfl) rfl
theorem q939 : (Jvm.Cond.methodLink "java/util/Arrays" (86 : Nat) ({ cls := "java/lang/Object", name := "getClass", desc := "()Ljava/lang/Class;" } : Jvm.MethodName)) ∈ lw_all := lw_g (lw_at lw_m4 34 rfl) rfl
theorem q963 : (Jvm.Cond.methodLink "java/util/Arrays" (300 : Nat) ({ cls := "java/util/Arrays", name := "copyOf", desc := "([Ljava/lang/Object;ILjava/lang/Class;)[Ljava/lang/Object;" } : Jvm.MethodName)) ∈ lw_all := lw_g (lw_at lw_m4 58 rfl) rfl
theorem q964 : (Jvm.Cond.static ({ cls := "java/util/Arrays", name := "copyOf", desc := "([Ljava/lang/Object;ILjava/lang/Class;)[Ljava/lang/Object;" } : Jvm.MethodName)) ∈ lw_all := lw_g (lw_at lw_m4 59 rfl) rfl
theorem q965 : (Jvm.Cond.code ({ cls := "java/util/Arrays", name := "copyOf", desc := "([Ljava/lang/Object;ILjava/lang/Class;)[Ljava/lang/Object;" } : Jvm.MethodName) prog_36_method_120_code (4 : Nat) (Option.some (Jvm.ClassFile.FieldType.array (Jvm.ClassFile.FieldType.object "java/lang/Object")))) ∈ lw_all := lw_g (lw_at lw_m4 60 rfl) rfl
theorem q966 : (Jvm.Cond.classLink "java/util/Arrays" (110 : Nat) "[Ljava/lang/Object;") ∈ lw_all := lw_g (lw_at lw_m4 61 rfl) rfl
theorem q968 : (Jvm.Cond.classLink "java/util/Arrays" (2 : Nat) "java/lang/Object") ∈ lw_all := lw_g (lw_at lw_m4 63 rfl) rfl
theorem q969 : (Jvm.Cond.methodLink "java/util/Arrays" (304 : Nat) ({ cls := "java/lang/Math", name := "min", desc := "(II)I" } : Jvm.MethodName)) ∈ lw_all := lw_g (lw_at lw_m4 64 rfl) rfl
theorem q972 : (Jvm.Cond.methodLink "java/util/Arrays" (150 : Nat) ({ cls := "java/lang/System", name := "arraycopy", desc := "(Ljava/lang/Object;ILjava/lang/Object;II)V" } : Jvm.MethodName)) ∈ lw_all := lw_g (lw_at lw_m4 67 rfl) rfl
/-! java/util/Objects -/
set_option maxRecDepth 100000
def RJ10 : String := "java/util/Objects"
abbrev cJ10_checkIndex : ByteArray := prog_39_method_17_code
def yJ10_checkIndex : MethodName := ⟨RJ10, "checkIndex", "(II)I"⟩
theorem q212 : (Jvm.Cond.initialized "java/util/Objects") ∈ lw_all := lw_g (lw_at lw_m1 27 rfl) rfl
theorem q992 : (Jvm.Cond.static ({ cls := "java/util/Objects", name := "checkIndex", desc := "(II)I" } : Jvm.MethodName)) ∈ lw_all := lw_g (lw_at lw_m4 87 rfl) rfl
theorem q993 : (Jvm.Cond.code ({ cls := "java/util/Objects", name := "checkIndex", desc := "(II)I" } : Jvm.MethodName) prog_39_method_17_code (2 : Nat) (Option.some Jvm.ClassFile.FieldType.int)) ∈ lw_all := lw_g (lw_at lw_m4 88 rfl) rfl
theorem q994 : (Jvm.Cond.methodLink "java/util/Objects" (105 : Nat) ({ cls := "jdk/internal/util/Preconditions", name := "checkIndex", desc := "(IILjava/util/function/BiFunction;)I" } : Jvm.MethodName)) ∈ lw_all := lw_g (lw_at lw_m4 89 rfl) rfl
/-! jdk/internal/util/Preconditions -/
set_option maxRecDepth 100000
def RJ11 : String := "jdk/internal/util/Preconditions"
abbrev cJ11_checkIndex : ByteArray := prog_43_method_11_code
def yJ11_checkIndex : MethodName := ⟨RJ11, "checkIndex", "(IILjava/util/function/BiFunction;)I"⟩
theorem q213 : (Jvm.Cond.initialized "jdk/internal/util/Preconditions") ∈ lw_all := lw_g (lw_at lw_m1 28 rfl) rfl
theorem q995 : (Jvm.Cond.static ({ cls := "jdk/internal/util/Preconditions", name := "checkIndex", desc := "(IILjava/util/function/BiFunction;)I" } : Jvm.MethodName)) ∈ lw_all := lw_g (lw_at lw_m4 90 rfl) rfl
theorem q996 : (Jvm.Cond.code ({ cls := "jdk/internal/util/Preconditions", name := "checkIndex", desc := "(IILjava/util/function/BiFunction;)I" } : Jvm.MethodName) prog_43_method_11_code (3 : Nat) (Option.some Jvm.ClassFile.FieldType.int)) ∈ lw_all := lw_g (lw_at lw_m4 91 rfl) rfl
theorem q1356 : (Jvm.Cond.laysStatic "jdk/internal/util/Preconditions" "SIOOBE_FORMATTER" "Ljava/util/function/BiFunction;") ∈ lw_tbl := lw_at lw_m5 211 rfl
/-! MakingHouse$Join -/
set_option maxRecDepth 100000
def RX15 : String := "MakingHouse$Join"
def TX15 : u_T := fun k => match k with
  | 0 => ("MakingHouse$Solid", "weight", "I", true)
  | 1 => ("MakingHouse$Join", "a", "LMakingHouse$Solid;", true)
  | 2 => ("MakingHouse$Join", "b", "LMakingHouse$Solid;", true)
  | _ => ("MakingHouse$Join", "how", "I", true)
def tyX15 : Nat → FieldType := fun k => match k with
  | 0 => .int
  | 1 => .object "MakingHouse$Solid"
  | 2 => .object "MakingHouse$Solid"
  | _ => .int
abbrev wsX150 : List Cond := u_ws RX15 TX15 4
theorem nmX15 : ∀ a, a < 4 → ∀ b, b < 4 → a ≠ b → (TX15 a).2.1 ≠ (TX15 b).2.1 := by decide +kernel
theorem tyX15_ok : ∀ k, k < 4 → parseFieldDescriptor (TX15 k).2.2.1 = some (tyX15 k) := by decide +kernel
abbrev cX15_init : ByteArray := prog_5_method_1_code
def yX15_init : MethodName := ⟨RX15, "<init>", "(LMakingHouse$Solid;LMakingHouse$Solid;I)V"⟩
abbrev cX15_has : ByteArray := prog_5_method_2_code
def yX15_has : MethodName := ⟨RX15, "has", "(JJJ)Z"⟩
abbrev cX15_over : ByteArray := prog_5_method_3_code
def yX15_over : MethodName := ⟨RX15, "over", "(JJLMakingHouse$Spans;[LMakingHouse$Spans;I)V"⟩
theorem q214 : (Jvm.Cond.initialized "MakingHouse$Join") ∈ lw_all := lw_g (lw_at lw_m1 29 rfl) rfl
theorem q863 : (Jvm.Cond.fieldLink "MakingHouse$Join" (1 : Nat) "MakingHouse$Solid" "weight" "I") ∈ lw_all := lw_g (lw_at lw_m3 198 rfl) rfl
theorem q946 : (Jvm.Cond.selects "MakingHouse$Join" ({ cls := "java/lang/Object", name := "getClass", desc := "()Ljava/lang/Class;" } : Jvm.MethodName) ({ cls := "java/lang/Object", name := "getClass", desc := "()Ljava/lang/Class;" } : Jvm.MethodName)) ∈ lw_all := lw_g (lw_at lw_m4 41 rfl) rfl
theorem q1003 : (Jvm.Cond.instantiable "MakingHouse$Join" (4 : Nat)) ∈ lw_all := lw_g (lw_at lw_m4 98 rfl) rfl
theorem q1005 : (Jvm.Cond.instanceMethod ({ cls := "MakingHouse$Join", name := "<init>", desc := "(LMakingHouse$Solid;LMakingHouse$Solid;I)V" } : Jvm.MethodName)) ∈ lw_all := lw_g (lw_at lw_m4 100 rfl) rfl
theorem q1006 : (Jvm.Cond.code ({ cls := "MakingHouse$Join", name := "<init>", desc := "(LMakingHouse$Solid;LMakingHouse$Solid;I)V" } : Jvm.MethodName) prog_5_method_1_code (4 : Nat) (Option.none : Option Jvm.ClassFile.FieldType)) ∈ lw_all := lw_g (lw_at lw_m4 101 rfl) rfl
theorem q1007 : (Jvm.Cond.methodLink "MakingHouse$Join" (7 : Nat) ({ cls := "MakingHouse$Solid", name := "<init>", desc := "(I)V" } : Jvm.MethodName)) ∈ lw_all := lw_g (lw_at lw_m4 102 rfl) rfl
theorem q1008 : (Jvm.Cond.fieldLink "MakingHouse$Join" (11 : Nat) "MakingHouse$Join" "a" "LMakingHouse$Solid;") ∈ lw_all := lw_g (lw_at lw_m4 103 rfl) rfl
theorem q1009 : (Jvm.Cond.fieldLink "MakingHouse$Join" (17 : Nat) "MakingHouse$Join" "b" "LMakingHouse$Solid;") ∈ lw_all := lw_g (lw_at lw_m4 104 rfl) rfl
theorem q1010 : (Jvm.Cond.fieldLink "MakingHouse$Join" (20 : Nat) "MakingHouse$Join" "how" "I") ∈ lw_all := lw_g (lw_at lw_m4 105 rfl) rfl
theorem q1011 : (Jvm.Cond.laysFinal "MakingHouse$Join" "MakingHouse$Join" "a" "LMakingHouse$Solid;") ∈ lw_all := lw_g (lw_at lw_m4 106 rfl) rfl
theorem q1012 : (Jvm.Cond.soleField "MakingHouse$Join" "a") ∈ lw_all := lw_g (lw_at lw_m4 107 rfl) rfl
theorem q1013 : (Jvm.Cond.laysFinal "MakingHouse$Join" "MakingHouse$Join" "b" "LMakingHouse$Solid;") ∈ lw_all := lw_g (lw_at lw_m4 108 rfl) rfl
theorem q1014 : (Jvm.Cond.soleField "MakingHouse$Join" "b") ∈ lw_all := lw_g (lw_at lw_m4 109 rfl) rfl
theorem q1015 : (Jvm.Cond.laysFinal "MakingHouse$Join" "MakingHouse$Join" "how" "I") ∈ lw_all := lw_g (lw_at lw_m4 110 rfl) rfl
theorem q1016 : (Jvm.Cond.soleField "MakingHouse$Join" "how") ∈ lw_all := lw_g (lw_at lw_m4 111 rfl) rfl
theorem q1017 : (Jvm.Cond.laysFinal "MakingHouse$Join" "MakingHouse$Solid" "weight" "I") ∈ lw_all := lw_g (lw_at lw_m4 112 rfl) rfl
theorem q1018 : (Jvm.Cond.superclass "MakingHouse$Join" "MakingHouse$Solid") ∈ lw_all := lw_g (lw_at lw_m4 113 rfl) rfl
theorem q1081 : (Jvm.Cond.selects "MakingHouse$Join" ({ cls := "MakingHouse$Solid", name := "has", desc := "(JJJ)Z" } : Jvm.MethodName) ({ cls := "MakingHouse$Join", name := "has", desc := "(JJJ)Z" } : Jvm.MethodName)) ∈ lw_all := lw_g (lw_at lw_m4 176 rfl) rfl
theorem q1082 : (Jvm.Cond.instanceMethod ({ cls := "MakingHouse$Join", name := "has", desc := "(JJJ)Z" } : Jvm.MethodName)) ∈ lw_all := lw_g (lw_at lw_m4 177 rfl) rfl
theorem q1083 : (Jvm.Cond.code ({ cls := "MakingHouse$Join", name := "has", desc := "(JJJ)Z" } : Jvm.MethodName) prog_5_method_2_code (7 : Nat) (Option.some Jvm.ClassFile.FieldType.boolean)) ∈ lw_all := lw_g (lw_at lw_m4 178 rfl) rfl
theorem q1084 : (Jvm.Cond.methodLink "MakingHouse$Join" (23 : Nat) ({ cls := "MakingHouse$Solid", name := "has", desc := "(JJJ)Z" } : Jvm.MethodName)) ∈ lw_all := lw_g (lw_at lw_m4 179 rfl) rfl
theorem q1128 : (Jvm.Cond.selects "MakingHouse$Join" ({ cls := "MakingHouse$Solid", name := "over", desc := "(JJLMakingHouse$Spans;[LMakingHouse$Spans;I)V" } : Jvm.MethodName) ({ cls := "MakingHouse$Join", name := "over", desc := "(JJLMakingHouse$Spans;[LMakingHouse$Spans;I)V" } : Jvm.MethodName)) ∈ lw_all := lw_g (lw_at lw_m4 223 rfl) rfl
theorem q1129 : (Jvm.Cond.instanceMethod ({ cls := "MakingHouse$Join", name := "over", desc := "(JJLMakingHouse$Spans;[LMakingHouse$Spans;I)V" } : Jvm.MethodName)) ∈ lw_all := lw_g (lw_at lw_m4 224 rfl) rfl
theorem q1130 : (Jvm.Cond.code ({ cls := "MakingHouse$Join", name := "over", desc := "(JJLMakingHouse$Spans;[LMakingHouse$Spans;I)V" } : Jvm.MethodName) prog_5_method_3_code (10 : Nat) (Option.none : Option Jvm.ClassFile.FieldType)) ∈ lw_all := lw_g (lw_at lw_m4 225 rfl) rfl
theorem q1131 : (Jvm.Cond.methodLink "MakingHouse$Join" (27 : Nat) ({ cls := "MakingHouse$Solid", name := "over", desc := "(JJLMakingHouse$Spans;[LMakingHouse$Spans;I)V" } : Jvm.MethodName)) ∈ lw_all := lw_g (lw_at lw_m4 226 rfl) rfl
theorem q1145 : (Jvm.Cond.methodLink "MakingHouse$Join" (31 : Nat) ({ cls := "MakingHouse$Spans", name := "joined", desc := "(LMakingHouse$Spans;LMakingHouse$Spans;I)V" } : Jvm.MethodName)) ∈ lw_all := lw_g (lw_at lw_m5 0 rfl) rfl
theorem q2697 : (Jvm.Cond.castable "MakingHouse$Join" "MakingHouse$Solid") ∈ lw_tbl := lw_at lw_m11 112 rfl
theorem q2718 : (Jvm.Cond.castable "MakingHouse$Join" "java/lang/Object") ∈ lw_tbl := lw_at lw_m11 133 rfl
theorem in_X15 : ∀ w ∈ wsX150, w ∈ lw_all := lw_in wsX150 [1017, 1011, 1013, 1015] (by decide +kernel) (by decide +kernel)
/-! MakingHouse$Moved -/
set_option maxRecDepth 100000
def RX16 : String := "MakingHouse$Moved"
def TX16 : u_T := fun k => match k with
  | 0 => ("MakingHouse$Solid", "weight", "I", true)
  | 1 => ("MakingHouse$Moved", "of", "LMakingHouse$Solid;", true)
  | _ => ("MakingHouse$Moved", "by", "[I", true)
def tyX16 : Nat → FieldType := fun k => match k with
  | 0 => .int
  | 1 => .object "MakingHouse$Solid"
  | _ => .array .int
abbrev wsX160 : List Cond := u_ws RX16 TX16 3
theorem nmX16 : ∀ a, a < 3 → ∀ b, b < 3 → a ≠ b → (TX16 a).2.1 ≠ (TX16 b).2.1 := by decide +kernel
theorem tyX16_ok : ∀ k, k < 3 → parseFieldDescriptor (TX16 k).2.2.1 = some (tyX16 k) := by decide +kernel
abbrev cX16_init : ByteArray := prog_7_method_1_code
def yX16_init : MethodName := ⟨RX16, "<init>", "(LMakingHouse$Solid;[I)V"⟩
abbrev cX16_has : ByteArray := prog_7_method_2_code
def yX16_has : MethodName := ⟨RX16, "has", "(JJJ)Z"⟩
abbrev cX16_over : ByteArray := prog_7_method_3_code
def yX16_over : MethodName := ⟨RX16, "over", "(JJLMakingHouse$Spans;[LMakingHouse$Spans;I)V"⟩
theorem q215 : (Jvm.Cond.initialized "MakingHouse$Moved") ∈ lw_all := lw_g (lw_at lw_m1 30 rfl) rfl
theorem q864 : (Jvm.Cond.fieldLink "MakingHouse$Moved" (1 : Nat) "MakingHouse$Solid" "weight" "I") ∈ lw_all := lw_g (lw_at lw_m3 199 rfl) rfl
theorem q948 : (Jvm.Cond.selects "MakingHouse$Moved" ({ cls := "java/lang/Object", name := "getClass", desc := "()Ljava/lang/Class;" } : Jvm.MethodName) ({ cls := "java/lang/Object", name := "getClass", desc := "()Ljava/lang/Class;" } : Jvm.MethodName)) ∈ lw_all := lw_g (lw_at lw_m4 43 rfl) rfl
theorem q1024 : (Jvm.Cond.instantiable "MakingHouse$Moved" (3 : Nat)) ∈ lw_all := lw_g (lw_at lw_m4 119 rfl) rfl
theorem q1026 : (Jvm.Cond.instanceMethod ({ cls := "MakingHouse$Moved", name := "<init>", desc := "(LMakingHouse$Solid;[I)V" } : Jvm.MethodName)) ∈ lw_all := lw_g (lw_at lw_m4 121 rfl) rfl
theorem q1027 : (Jvm.Cond.code ({ cls := "MakingHouse$Moved", name := "<init>", desc := "(LMakingHouse$Solid;[I)V" } : Jvm.MethodName) prog_7_method_1_code (3 : Nat) (Option.none : Option Jvm.ClassFile.FieldType)) ∈ lw_all := lw_g (lw_at lw_m4 122 rfl) rfl
theorem q1028 : (Jvm.Cond.methodLink "MakingHouse$Moved" (7 : Nat) ({ cls := "MakingHouse$Solid", name := "<init>", desc := "(I)V" } : Jvm.MethodName)) ∈ lw_all := lw_g (lw_at lw_m4 123 rfl) rfl
theorem q1029 : (Jvm.Cond.fieldLink "MakingHouse$Moved" (11 : Nat) "MakingHouse$Moved" "of" "LMakingHouse$Solid;") ∈ lw_all := lw_g (lw_at lw_m4 124 rfl) rfl
theorem q1030 : (Jvm.Cond.fieldLink "MakingHouse$Moved" (17 : Nat) "MakingHouse$Moved" "by" "[I") ∈ lw_all := lw_g (lw_at lw_m4 125 rfl) rfl
theorem q1031 : (Jvm.Cond.laysFinal "MakingHouse$Moved" "MakingHouse$Moved" "of" "LMakingHouse$Solid;") ∈ lw_all := lw_g (lw_at lw_m4 126 rfl) rfl
theorem q1032 : (Jvm.Cond.soleField "MakingHouse$Moved" "of") ∈ lw_all := lw_g (lw_at lw_m4 127 rfl) rfl
theorem q1033 : (Jvm.Cond.laysFinal "MakingHouse$Moved" "MakingHouse$Moved" "by" "[I") ∈ lw_all := lw_g (lw_at lw_m4 128 rfl) rfl
theorem q1034 : (Jvm.Cond.soleField "MakingHouse$Moved" "by") ∈ lw_all := lw_g (lw_at lw_m4 129 rfl) rfl
theorem q1035 : (Jvm.Cond.laysFinal "MakingHouse$Moved" "MakingHouse$Solid" "weight" "I") ∈ lw_all := lw_g (lw_at lw_m4 130 rfl) rfl
theorem q1036 : (Jvm.Cond.superclass "MakingHouse$Moved" "MakingHouse$Solid") ∈ lw_all := lw_g (lw_at lw_m4 131 rfl) rfl
theorem q1085 : (Jvm.Cond.instanceMethod ({ cls := "MakingHouse$Moved", name := "has", desc := "(JJJ)Z" } : Jvm.MethodName)) ∈ lw_all := lw_g (lw_at lw_m4 180 rfl) rfl
theorem q1086 : (Jvm.Cond.code ({ cls := "MakingHouse$Moved", name := "has", desc := "(JJJ)Z" } : Jvm.MethodName) prog_7_method_2_code (7 : Nat) (Option.some Jvm.ClassFile.FieldType.boolean)) ∈ lw_all := lw_g (lw_at lw_m4 181 rfl) rfl
theorem q1087 : (Jvm.Cond.methodLink "MakingHouse$Moved" (21 : Nat) ({ cls := "MakingHouse$Solid", name := "has", desc := "(JJJ)Z" } : Jvm.MethodName)) ∈ lw_all := lw_g (lw_at lw_m4 182 rfl) rfl
theorem q1094 : (Jvm.Cond.selects "MakingHouse$Moved" ({ cls := "MakingHouse$Solid", name := "has", desc := "(JJJ)Z" } : Jvm.MethodName) ({ cls := "MakingHouse$Moved", name := "has", desc := "(JJJ)Z" } : Jvm.MethodName)) ∈ lw_all := lw_g (lw_at lw_m4 189 rfl) rfl
theorem q1132 : (Jvm.Cond.instanceMethod ({ cls := "MakingHouse$Moved", name := "over", desc := "(JJLMakingHouse$Spans;[LMakingHouse$Spans;I)V" } : Jvm.MethodName)) ∈ lw_all := lw_g (lw_at lw_m4 227 rfl) rfl
theorem q1133 : (Jvm.Cond.code ({ cls := "MakingHouse$Moved", name := "over", desc := "(JJLMakingHouse$Spans;[LMakingHouse$Spans;I)V" } : Jvm.MethodName) prog_7_method_3_code (8 : Nat) (Option.none : Option Jvm.ClassFile.FieldType)) ∈ lw_all := lw_g (lw_at lw_m4 228 rfl) rfl
theorem q1134 : (Jvm.Cond.methodLink "MakingHouse$Moved" (25 : Nat) ({ cls := "MakingHouse$Solid", name := "over", desc := "(JJLMakingHouse$Spans;[LMakingHouse$Spans;I)V" } : Jvm.MethodName)) ∈ lw_all := lw_g (lw_at lw_m4 229 rfl) rfl
theorem q1141 : (Jvm.Cond.methodLink "MakingHouse$Moved" (29 : Nat) ({ cls := "MakingHouse$Spans", name := "moved", desc := "(J)V" } : Jvm.MethodName)) ∈ lw_all := lw_g (lw_at lw_m4 236 rfl) rfl
theorem q1158 : (Jvm.Cond.selects "MakingHouse$Moved" ({ cls := "MakingHouse$Solid", name := "over", desc := "(JJLMakingHouse$Spans;[LMakingHouse$Spans;I)V" } : Jvm.MethodName) ({ cls := "MakingHouse$Moved", name := "over", desc := "(JJLMakingHouse$Spans;[LMakingHouse$Spans;I)V" } : Jvm.MethodName)) ∈ lw_all := lw_g (lw_at lw_m5 13 rfl) rfl
theorem q2698 : (Jvm.Cond.castable "MakingHouse$Moved" "MakingHouse$Solid") ∈ lw_tbl := lw_at lw_m11 113 rfl
theorem q2719 : (Jvm.Cond.castable "MakingHouse$Moved" "java/lang/Object") ∈ lw_tbl := lw_at lw_m11 134 rfl
theorem in_X16 : ∀ w ∈ wsX160, w ∈ lw_all := lw_in wsX160 [1035, 1031, 1033] (by decide +kernel) (by decide +kernel)
/-! MakingHouse$Turned -/
set_option maxRecDepth 100000
def RX17 : String := "MakingHouse$Turned"
def TX17 : u_T := fun k => match k with
  | 0 => ("MakingHouse$Solid", "weight", "I", true)
  | _ => ("MakingHouse$Turned", "of", "LMakingHouse$Solid;", true)
def tyX17 : Nat → FieldType := fun k => match k with
  | 0 => .int
  | _ => .object "MakingHouse$Solid"
abbrev wsX170 : List Cond := u_ws RX17 TX17 2
theorem nmX17 : ∀ a, a < 2 → ∀ b, b < 2 → a ≠ b → (TX17 a).2.1 ≠ (TX17 b).2.1 := by decide +kernel
theorem tyX17_ok : ∀ k, k < 2 → parseFieldDescriptor (TX17 k).2.2.1 = some (tyX17 k) := by decide +kernel
abbrev cX17_init : ByteArray := prog_17_method_1_code
def yX17_init : MethodName := ⟨RX17, "<init>", "(LMakingHouse$Solid;)V"⟩
abbrev cX17_has : ByteArray := prog_17_method_2_code
def yX17_has : MethodName := ⟨RX17, "has", "(JJJ)Z"⟩
abbrev cX17_over : ByteArray := prog_17_method_3_code
def yX17_over : MethodName := ⟨RX17, "over", "(JJLMakingHouse$Spans;[LMakingHouse$Spans;I)V"⟩
theorem q216 : (Jvm.Cond.initialized "MakingHouse$Turned") ∈ lw_all := lw_g (lw_at lw_m1 31 rfl) rfl
theorem q865 : (Jvm.Cond.fieldLink "MakingHouse$Turned" (1 : Nat) "MakingHouse$Solid" "weight" "I") ∈ lw_all := lw_g (lw_at lw_m3 200 rfl) rfl
theorem q957 : (Jvm.Cond.selects "MakingHouse$Turned" ({ cls := "java/lang/Object", name := "getClass", desc := "()Ljava/lang/Class;" } : Jvm.MethodName) ({ cls := "java/lang/Object", name := "getClass", desc := "()Ljava/lang/Class;" } : Jvm.MethodName)) ∈ lw_all := lw_g (lw_at lw_m4 52 rfl) rfl
theorem q1042 : (Jvm.Cond.instantiable "MakingHouse$Turned" (2 : Nat)) ∈ lw_all := lw_g (lw_at lw_m4 137 rfl) rfl
theorem q1044 : (Jvm.Cond.instanceMethod ({ cls := "MakingHouse$Turned", name := "<init>", desc := "(LMakingHouse$Solid;)V" } : Jvm.MethodName)) ∈ lw_all := lw_g (lw_at lw_m4 139 rfl) rfl
theorem q1045 : (Jvm.Cond.code ({ cls := "MakingHouse$Turned", name := "<init>", desc := "(LMakingHouse$Solid;)V" } : Jvm.MethodName) prog_17_method_1_code (2 : Nat) (Option.none : Option Jvm.ClassFile.FieldType)) ∈ lw_all := lw_g (lw_at lw_m4 140 rfl) rfl
theorem q1046 : (Jvm.Cond.methodLink "MakingHouse$Turned" (7 : Nat) ({ cls := "MakingHouse$Solid", name := "<init>", desc := "(I)V" } : Jvm.MethodName)) ∈ lw_all := lw_g (lw_at lw_m4 141 rfl) rfl
theorem q1047 : (Jvm.Cond.fieldLink "MakingHouse$Turned" (11 : Nat) "MakingHouse$Turned" "of" "LMakingHouse$Solid;") ∈ lw_all := lw_g (lw_at lw_m4 142 rfl) rfl
theorem q1048 : (Jvm.Cond.laysFinal "MakingHouse$Turned" "MakingHouse$Turned" "of" "LMakingHouse$Solid;") ∈ lw_all := lw_g (lw_at lw_m4 143 rfl) rfl
theorem q1049 : (Jvm.Cond.soleField "MakingHouse$Turned" "of") ∈ lw_all := lw_g (lw_at lw_m4 144 rfl) rfl
theorem q1050 : (Jvm.Cond.laysFinal "MakingHouse$Turned" "MakingHouse$Solid" "weight" "I") ∈ lw_all := lw_g (lw_at lw_m4 145 rfl) rfl
theorem q1051 : (Jvm.Cond.superclass "MakingHouse$Turned" "MakingHouse$Solid") ∈ lw_all := lw_g (lw_at lw_m4 146 rfl) rfl
theorem q1091 : (Jvm.Cond.instanceMethod ({ cls := "MakingHouse$Turned", name := "has", desc := "(JJJ)Z" } : Jvm.MethodName)) ∈ lw_all := lw_g (lw_at lw_m4 186 rfl) rfl
theorem q1092 : (Jvm.Cond.code ({ cls := "MakingHouse$Turned", name := "has", desc := "(JJJ)Z" } : Jvm.MethodName) prog_17_method_2_code (7 : Nat) (Option.some Jvm.ClassFile.FieldType.boolean)) ∈ lw_all := lw_g (lw_at lw_m4 187 rfl) rfl
theorem q1093 : (Jvm.Cond.methodLink "MakingHouse$Turned" (17 : Nat) ({ cls := "MakingHouse$Solid", name := "has", desc := "(JJJ)Z" } : Jvm.MethodName)) ∈ lw_all := lw_g (lw_at lw_m4 188 rfl) rfl
theorem q1096 : (Jvm.Cond.selects "MakingHouse$Turned" ({ cls := "MakingHouse$Solid", name := "has", desc := "(JJJ)Z" } : Jvm.MethodName) ({ cls := "MakingHouse$Turned", name := "has", desc := "(JJJ)Z" } : Jvm.MethodName)) ∈ lw_all := lw_g (lw_at lw_m4 191 rfl) rfl
theorem q1138 : (Jvm.Cond.instanceMethod ({ cls := "MakingHouse$Turned", name := "over", desc := "(JJLMakingHouse$Spans;[LMakingHouse$Spans;I)V" } : Jvm.MethodName)) ∈ lw_all := lw_g (lw_at lw_m4 233 rfl) rfl
theorem q1139 : (Jvm.Cond.code ({ cls := "MakingHouse$Turned", name := "over", desc := "(JJLMakingHouse$Spans;[LMakingHouse$Spans;I)V" } : Jvm.MethodName) prog_17_method_3_code (8 : Nat) (Option.none : Option Jvm.ClassFile.FieldType)) ∈ lw_all := lw_g (lw_at lw_m4 234 rfl) rfl
theorem q1140 : (Jvm.Cond.methodLink "MakingHouse$Turned" (21 : Nat) ({ cls := "MakingHouse$Solid", name := "over", desc := "(JJLMakingHouse$Spans;[LMakingHouse$Spans;I)V" } : Jvm.MethodName)) ∈ lw_all := lw_g (lw_at lw_m4 235 rfl) rfl
theorem q1160 : (Jvm.Cond.selects "MakingHouse$Turned" ({ cls := "MakingHouse$Solid", name := "over", desc := "(JJLMakingHouse$Spans;[LMakingHouse$Spans;I)V" } : Jvm.MethodName) ({ cls := "MakingHouse$Turned", name := "over", desc := "(JJLMakingHouse$Spans;[LMakingHouse$Spans;I)V" } : Jvm.MethodName)) ∈ lw_all := lw_g (lw_at lw_m5 15 rfl) rfl
theorem q2700 : (Jvm.Cond.castable "MakingHouse$Turned" "MakingHouse$Solid") ∈ lw_tbl := lw_at lw_m11 115 rfl
theorem q2720 : (Jvm.Cond.castable "MakingHouse$Turned" "java/lang/Object") ∈ lw_tbl := lw_at lw_m11 135 rfl
theorem in_X17 : ∀ w ∈ wsX170, w ∈ lw_all := lw_in wsX170 [1050, 1048] (by decide +kernel) (by decide +kernel)
/-! MakingHouse$Tool -/
set_option maxRecDepth 100000
def RX18 : String := "MakingHouse$Tool"
def TX18 : u_T := fun k => match k with
  | 0 => ("MakingHouse$Tool", "kind", "I", true)
  | 1 => ("MakingHouse$Tool", "radius", "I", true)
  | 2 => ("MakingHouse$Tool", "length", "I", true)
  | _ => ("MakingHouse$Tool", "holder", "I", true)
def tyX18 : Nat → FieldType := fun k => match k with
  | 0 => .int
  | 1 => .int
  | 2 => .int
  | _ => .int
abbrev wsX180 : List Cond := u_ws RX18 TX18 4
theorem nmX18 : ∀ a, a < 4 → ∀ b, b < 4 → a ≠ b → (TX18 a).2.1 ≠ (TX18 b).2.1 := by decide +kernel
theorem tyX18_ok : ∀ k, k < 4 → parseFieldDescriptor (TX18 k).2.2.1 = some (tyX18 k) := by decide +kernel
abbrev cX18_init : ByteArray := prog_15_method_1_code
def yX18_init : MethodName := ⟨RX18, "<init>", "(IIII)V"⟩
abbrev cX18_rise : ByteArray := prog_15_method_2_code
def yX18_rise : MethodName := ⟨RX18, "rise", "(J)I"⟩
theorem q217 : (Jvm.Cond.initialized "MakingHouse$Tool") ∈ lw_all := lw_g (lw_at lw_m1 32 rfl) rfl
theorem q955 : (Jvm.Cond.selects "MakingHouse$Tool" ({ cls := "java/lang/Object", name := "getClass", desc := "()Ljava/lang/Class;" } : Jvm.MethodName) ({ cls := "java/lang/Object", name := "getClass", desc := "()Ljava/lang/Class;" } : Jvm.MethodName)) ∈ lw_all := lw_g (lw_at lw_m4 50 rfl) rfl
theorem q1252 : (Jvm.Cond.instantiable "MakingHouse$Tool" (4 : Nat)) ∈ lw_all := lw_g (lw_at lw_m5 107 rfl) rfl
theorem q1254 : (Jvm.Cond.instanceMethod ({ cls := "MakingHouse$Tool", name := "<init>", desc := "(IIII)V" } : Jvm.MethodName)) ∈ lw_all := lw_g (lw_at lw_m5 109 rfl) rfl
theorem q1255 : (Jvm.Cond.code ({ cls := "MakingHouse$Tool", name := "<init>", desc := "(IIII)V" } : Jvm.MethodName) prog_15_method_1_code (5 : Nat) (Option.none : Option Jvm.ClassFile.FieldType)) ∈ lw_all := lw_g (lw_at lw_m5 110 rfl) rfl
theorem q1256 : (Jvm.Cond.methodLink "MakingHouse$Tool" (3 : Nat) ({ cls := "java/lang/Object", name := "<init>", desc := "()V" } : Jvm.MethodName)) ∈ lw_all := lw_g (lw_at lw_m5 111 rfl) rfl
theorem q1257 : (Jvm.Cond.fieldLink "MakingHouse$Tool" (9 : Nat) "MakingHouse$Tool" "kind" "I") ∈ lw_all := lw_g (lw_at lw_m5 112 rfl) rfl
theorem q1258 : (Jvm.Cond.fieldLink "MakingHouse$Tool" (15 : Nat) "MakingHouse$Tool" "radius" "I") ∈ lw_all := lw_g (lw_at lw_m5 113 rfl) rfl
theorem q1260 : (Jvm.Cond.fieldLink "MakingHouse$Tool" (18 : Nat) "MakingHouse$Tool" "length" "I") ∈ lw_all := lw_g (lw_at lw_m5 115 rfl) rfl
theorem q1262 : (Jvm.Cond.fieldLink "MakingHouse$Tool" (21 : Nat) "MakingHouse$Tool" "holder" "I") ∈ lw_all := lw_g (lw_at lw_m5 117 rfl) rfl
theorem q1264 : (Jvm.Cond.laysFinal "MakingHouse$Tool" "MakingHouse$Tool" "kind" "I") ∈ lw_all := lw_g (lw_at lw_m5 119 rfl) rfl
theorem q1265 : (Jvm.Cond.soleField "MakingHouse$Tool" "kind") ∈ lw_all := lw_g (lw_at lw_m5 120 rfl) rfl
theorem q1266 : (Jvm.Cond.laysFinal "MakingHouse$Tool" "MakingHouse$Tool" "radius" "I") ∈ lw_all := lw_g (lw_at lw_m5 121 rfl) rfl
theorem q1267 : (Jvm.Cond.soleField "MakingHouse$Tool" "radius") ∈ lw_all := lw_g (lw_at lw_m5 122 rfl) rfl
theorem q1268 : (Jvm.Cond.laysFinal "MakingHouse$Tool" "MakingHouse$Tool" "length" "I") ∈ lw_all := lw_g (lw_at lw_m5 123 rfl) rfl
theorem q1269 : (Jvm.Cond.soleField "MakingHouse$Tool" "length") ∈ lw_all := lw_g (lw_at lw_m5 124 rfl) rfl
theorem q1270 : (Jvm.Cond.laysFinal "MakingHouse$Tool" "MakingHouse$Tool" "holder" "I") ∈ lw_all := lw_g (lw_at lw_m5 125 rfl) rfl
theorem q1271 : (Jvm.Cond.soleField "MakingHouse$Tool" "holder") ∈ lw_all := lw_g (lw_at lw_m5 126 rfl) rfl
theorem q1272 : (Jvm.Cond.superclass "MakingHouse$Tool" "java/lang/Object") ∈ lw_all := lw_g (lw_at lw_m5 127 rfl) rfl
theorem q1676 : (Jvm.Cond.instanceMethod ({ cls := "MakingHouse$Tool", name := "rise", desc := "(J)I" } : Jvm.MethodName)) ∈ lw_all := lw_g (lw_at lw_m7 51 rfl) rfl
theorem q1677 : (Jvm.Cond.selects "MakingHouse$Tool" ({ cls := "MakingHouse$Tool", name := "rise", desc := "(J)I" } : Jvm.MethodName) ({ cls := "MakingHouse$Tool", name := "rise", desc := "(J)I" } : Jvm.MethodName)) ∈ lw_all := lw_g (lw_at lw_m7 52 rfl) rfl
theorem q1678 : (Jvm.Cond.code ({ cls := "MakingHouse$Tool", name := "rise", desc := "(J)I" } : Jvm.MethodName) prog_15_method_2_code (4 : Nat) (Option.some Jvm.ClassFile.FieldType.int)) ∈ lw_all := lw_g (lw_at lw_m7 53 rfl) rfl
theorem q1679 : (Jvm.Cond.methodLinkNest "MakingHouse$Tool" (24 : Nat) ({ cls := "MakingHouse", name := "root", desc := "(J)J" } : Jvm.MethodName) "MakingHouse") ∈ lw_tbl := lw_at lw_m7 54 rfl
theorem q2702 : (Jvm.Cond.castable "MakingHouse$Tool" "java/lang/Object") ∈ lw_tbl := lw_at lw_m11 117 rfl
theorem in_X18 : ∀ w ∈ wsX180, w ∈ lw_all := lw_in wsX180 [1264, 1266, 1268, 1270] (by decide +kernel) (by decide +kernel)
/-! java/lang/String -/
set_option maxRecDepth 100000
def RJ12 : String := "java/lang/String"
abbrev cJ12_length : ByteArray := prog_28_method_54_code
def yJ12_length : MethodName := ⟨RJ12, "length", "()I"⟩
abbrev cJ12_coder : ByteArray := prog_28_method_152_code
def yJ12_coder : MethodName := ⟨RJ12, "coder", "()B"⟩
abbrev cJ12_charAt : ByteArray := prog_28_method_56_code
def yJ12_charAt : MethodName := ⟨RJ12, "charAt", "(I)C"⟩
abbrev cJ12_isLatin1 : ByteArray := prog_28_method_154_code
def yJ12_isLatin1 : MethodName := ⟨RJ12, "isLatin1", "()Z"⟩
abbrev cJ12_checkIndex : ByteArray := prog_28_method_155_code
def yJ12_checkIndex : MethodName := ⟨RJ12, "checkIndex", "(II)V"⟩
theorem q218 : (Jvm.Cond.initialized "java/lang/String") ∈ lw_all := lw_g (lw_at lw_m1 33 rfl) rfl
theorem q1332 : (Jvm.Cond.instanceMethod ({ cls := "java/lang/String", name := "length", desc := "()I" } : Jvm.MethodName)) ∈ lw_all := lw_g (lw_at lw_m5 187 rfl) rfl
theorem q1333 : (Jvm.Cond.selects "java/lang/String" ({ cls := "java/lang/String", name := "length", desc := "()I" } : Jvm.MethodName) ({ cls := "java/lang/String", name := "length", desc := "()I" } : Jvm.MethodName)) ∈ lw_all := lw_g (lw_at lw_m5 188 rfl) rfl
theorem q1334 : (Jvm.Cond.code ({ cls := "java/lang/String", name := "length", desc := "()I" } : Jvm.MethodName) prog_28_method_54_code (1 : Nat) (Option.some Jvm.ClassFile.FieldType.int)) ∈ lw_all := lw_g (lw_at lw_m5 189 rfl) rfl
theorem q1335 : (Jvm.Cond.methodLink "java/lang/String" (335 : Nat) ({ cls := "java/lang/String", name := "coder", desc := "()B" } : Jvm.MethodName)) ∈ lw_all := lw_g (lw_at lw_m5 190 rfl) rfl
theorem q1336 : (Jvm.Cond.instanceMethod ({ cls := "java/lang/String", name := "coder", desc := "()B" } : Jvm.MethodName)) ∈ lw_all := lw_g (lw_at lw_m5 191 rfl) rfl
theorem q1337 : (Jvm.Cond.selects "java/lang/String" ({ cls := "java/lang/String", name := "coder", desc := "()B" } : Jvm.MethodName) ({ cls := "java/lang/String", name := "coder", desc := "()B" } : Jvm.MethodName)) ∈ lw_all := lw_g (lw_at lw_m5 192 rfl) rfl
theorem q1338 : (Jvm.Cond.code ({ cls := "java/lang/String", name := "coder", desc := "()B" } : Jvm.MethodName) prog_28_method_152_code (1 : Nat) (Option.some Jvm.ClassFile.FieldType.byte)) ∈ lw_all := lw_g (lw_at lw_m5 193 rfl) rfl
theorem q1339 : (Jvm.Cond.fieldLink "java/lang/String" (38 : Nat) "java/lang/String" "COMPACT_STRINGS" "Z") ∈ lw_all := lw_g (lw_at lw_m5 194 rfl) rfl
theorem q1340 : (Jvm.Cond.laysStatic "java/lang/String" "COMPACT_STRINGS" "Z") ∈ lw_tbl := lw_at lw_m5 195 rfl
theorem q1342 : (Jvm.Cond.instanceMethod ({ cls := "java/lang/String", name := "charAt", desc := "(I)C" } : Jvm.MethodName)) ∈ lw_all := lw_g (lw_at lw_m5 197 rfl) rfl
theorem q1343 : (Jvm.Cond.selects "java/lang/String" ({ cls := "java/lang/String", name := "charAt", desc := "(I)C" } : Jvm.MethodName) ({ cls := "java/lang/String", name := "charAt", desc := "(I)C" } : Jvm.MethodName)) ∈ lw_all := lw_g (lw_at lw_m5 198 rfl) rfl
theorem q1344 : (Jvm.Cond.code ({ cls := "java/lang/String", name := "charAt", desc := "(I)C" } : Jvm.MethodName) prog_28_method_56_code (2 : Nat) (Option.some Jvm.ClassFile.FieldType.char)) ∈ lw_all := lw_g (lw_at lw_m5 199 rfl) rfl
theorem q1345 : (Jvm.Cond.methodLink "java/lang/String" (492 : Nat) ({ cls := "java/lang/String", name := "isLatin1", desc := "()Z" } : Jvm.MethodName)) ∈ lw_all := lw_g (lw_at lw_m5 200 rfl) rfl
theorem q1346 : (Jvm.Cond.instanceMethod ({ cls := "java/lang/String", name := "isLatin1", desc := "()Z" } : Jvm.MethodName)) ∈ lw_all := lw_g (lw_at lw_m5 201 rfl) rfl
theorem q1347 : (Jvm.Cond.selects "java/lang/String" ({ cls := "java/lang/String", name := "isLatin1", desc := "()Z" } : Jvm.MethodName) ({ cls := "java/lang/String", name := "isLatin1", desc := "()Z" } : Jvm.MethodName)) ∈ lw_all := lw_g (lw_at lw_m5 202 rfl) rfl
theorem q1348 : (Jvm.Cond.code ({ cls := "java/lang/String", name := "isLatin1", desc := "()Z" } : Jvm.MethodName) prog_28_method_154_code (1 : Nat) (Option.some Jvm.ClassFile.FieldType.boolean)) ∈ lw_all := lw_g (lw_at lw_m5 203 rfl) rfl
theorem q1349 : (Jvm.Cond.methodLink "java/lang/String" (495 : Nat) ({ cls := "java/lang/StringLatin1", name := "charAt", desc := "([BI)C" } : Jvm.MethodName)) ∈ lw_all := lw_g (lw_at lw_m5 204 rfl) rfl
theorem q1353 : (Jvm.Cond.static ({ cls := "java/lang/String", name := "checkIndex", desc := "(II)V" } : Jvm.MethodName)) ∈ lw_all := lw_g (lw_at lw_m5 208 rfl) rfl
theorem q1354 : (Jvm.Cond.code ({ cls := "java/lang/String", name := "checkIndex", desc := "(II)V" } : Jvm.MethodName) prog_28_method_155_code (2 : Nat) (Option.none : Option Jvm.ClassFile.FieldType)) ∈ lw_all := lw_g (lw_at lw_m5 209 rfl) rfl
theorem q1355 : (Jvm.Cond.fieldLink "java/lang/String" (1053 : Nat) "jdk/internal/util/Preconditions" "SIOOBE_FORMATTER" "Ljava/util/function/BiFunction;") ∈ lw_all := lw_g (lw_at lw_m5 210 rfl) rfl
theorem q1357 : (Jvm.Cond.methodLink "java/lang/String" (1059 : Nat) ({ cls := "jdk/internal/util/Preconditions", name := "checkIndex", desc := "(IILjava/util/function/BiFunction;)I" } : Jvm.MethodName)) ∈ lw_all := lw_g (lw_at lw_m5 212 rfl) rfl
theorem q1358 : (Jvm.Cond.methodLink "java/lang/String" (498 : Nat) ({ cls := "java/lang/StringUTF16", name := "charAt", desc := "([BI)C" } : Jvm.MethodName)) ∈ lw_all := lw_g (lw_at lw_m5 213 rfl) rfl
theorem q2722 : (Jvm.Cond.castable "java/lang/String" "java/lang/Object") ∈ lw_tbl := lw_at lw_m11 137 rfl
theorem q2733 : (Jvm.Cond.fieldLink "java/lang/String" (9 : Nat) "java/lang/String" "value" "[B") ∈ lw_all := lw_g (lw_at lw_m11 148 rfl) rfl
theorem q2734 : (Jvm.Cond.fieldLink "java/lang/String" (15 : Nat) "java/lang/String" "coder" "B") ∈ lw_all := lw_g (lw_at lw_m11 149 rfl) rfl
/-! java/lang/StringLatin1 -/
set_option maxRecDepth 100000
def RJ13 : String := "java/lang/StringLatin1"
abbrev cJ13_charAt : ByteArray := prog_29_method_2_code
def yJ13_charAt : MethodName := ⟨RJ13, "charAt", "([BI)C"⟩
theorem q219 : (Jvm.Cond.initialized "java/lang/StringLatin1") ∈ lw_all := lw_g (lw_at lw_m1 34 rfl) rfl
theorem q1350 : (Jvm.Cond.static ({ cls := "java/lang/StringLatin1", name := "charAt", desc := "([BI)C" } : Jvm.MethodName)) ∈ lw_all := lw_g (lw_at lw_m5 205 rfl) rfl
theorem q1351 : (Jvm.Cond.code ({ cls := "java/lang/StringLatin1", name := "charAt", desc := "([BI)C" } : Jvm.MethodName) prog_29_method_2_code (2 : Nat) (Option.some Jvm.ClassFile.FieldType.char)) ∈ lw_all := lw_g (lw_at lw_m5 206 rfl) rfl
theorem q1352 : (Jvm.Cond.methodLink "java/lang/StringLatin1" (9 : Nat) ({ cls := "java/lang/String", name := "checkIndex", desc := "(II)V" } : Jvm.MethodName)) ∈ lw_all := lw_g (lw_at lw_m5 207 rfl) rfl
/-! java/lang/StringUTF16 -/
set_option maxRecDepth 100000
def RJ14 : String := "java/lang/StringUTF16"
abbrev cJ14_charAt : ByteArray := prog_30_method_83_code
def yJ14_charAt : MethodName := ⟨RJ14, "charAt", "([BI)C"⟩
abbrev cJ14_checkIndex : ByteArray := prog_30_method_91_code
def yJ14_checkIndex : MethodName := ⟨RJ14, "checkIndex", "(I[B)V"⟩
abbrev cJ14_length : ByteArray := prog_30_method_6_code
def yJ14_length : MethodName := ⟨RJ14, "length", "([B)I"⟩
abbrev cJ14_getChar : ByteArray := prog_30_method_5_code
def yJ14_getChar : MethodName := ⟨RJ14, "getChar", "([BI)C"⟩
theorem q220 : (Jvm.Cond.initialized "java/lang/StringUTF16") ∈ lw_all := lw_g (lw_at lw_m1 35 rfl) rfl
theorem q1359 : (Jvm.Cond.static ({ cls := "java/lang/StringUTF16", name := "charAt", desc := "([BI)C" } : Jvm.MethodName)) ∈ lw_all := lw_g (lw_at lw_m5 214 rfl) rfl
theorem q1360 : (Jvm.Cond.code ({ cls := "java/lang/StringUTF16", name := "charAt", desc := "([BI)C" } : Jvm.MethodName) prog_30_method_83_code (2 : Nat) (Option.some Jvm.ClassFile.FieldType.char)) ∈ lw_all := lw_g (lw_at lw_m5 215 rfl) rfl
theorem q1361 : (Jvm.Cond.methodLink "java/lang/StringUTF16" (67 : Nat) ({ cls := "java/lang/StringUTF16", name := "checkIndex", desc := "(I[B)V" } : Jvm.MethodName)) ∈ lw_all := lw_g (lw_at lw_m5 216 rfl) rfl
theorem q1362 : (Jvm.Cond.static ({ cls := "java/lang/StringUTF16", name := "checkIndex", desc := "(I[B)V" } : Jvm.MethodName)) ∈ lw_all := lw_g (lw_at lw_m5 217 rfl) rfl
theorem q1363 : (Jvm.Cond.code ({ cls := "java/lang/StringUTF16", name := "checkIndex", desc := "(I[B)V" } : Jvm.MethodName) prog_30_method_91_code (2 : Nat) (Option.none : Option Jvm.ClassFile.FieldType)) ∈ lw_all := lw_g (lw_at lw_m5 218 rfl) rfl
theorem q1364 : (Jvm.Cond.methodLink "java/lang/StringUTF16" (48 : Nat) ({ cls := "java/lang/StringUTF16", name := "length", desc := "([B)I" } : Jvm.MethodName)) ∈ lw_all := lw_g (lw_at lw_m5 219 rfl) rfl
theorem q1365 : (Jvm.Cond.static ({ cls := "java/lang/StringUTF16", name := "length", desc := "([B)I" } : Jvm.MethodName)) ∈ lw_all := lw_g (lw_at lw_m5 220 rfl) rfl
theorem q1366 : (Jvm.Cond.code ({ cls := "java/lang/StringUTF16", name := "length", desc := "([B)I" } : Jvm.MethodName) prog_30_method_6_code (1 : Nat) (Option.some Jvm.ClassFile.FieldType.int)) ∈ lw_all := lw_g (lw_at lw_m5 221 rfl) rfl
theorem q1367 : (Jvm.Cond.methodLink "java/lang/StringUTF16" (414 : Nat) ({ cls := "java/lang/String", name := "checkIndex", desc := "(II)V" } : Jvm.MethodName)) ∈ lw_all := lw_g (lw_at lw_m5 222 rfl) rfl
theorem q1368 : (Jvm.Cond.methodLink "java/lang/StringUTF16" (71 : Nat) ({ cls := "java/lang/StringUTF16", name := "getChar", desc := "([BI)C" } : Jvm.MethodName)) ∈ lw_all := lw_g (lw_at lw_m5 223 rfl) rfl
theorem q1369 : (Jvm.Cond.static ({ cls := "java/lang/StringUTF16", name := "getChar", desc := "([BI)C" } : Jvm.MethodName)) ∈ lw_all := lw_g (lw_at lw_m5 224 rfl) rfl
theorem q1370 : (Jvm.Cond.code ({ cls := "java/lang/StringUTF16", name := "getChar", desc := "([BI)C" } : Jvm.MethodName) prog_30_method_5_code (2 : Nat) (Option.some Jvm.ClassFile.FieldType.char)) ∈ lw_all := lw_g (lw_at lw_m5 225 rfl) rfl
theorem q1371 : (Jvm.Cond.fieldLink "java/lang/StringUTF16" (44 : Nat) "java/lang/StringUTF16" "$assertionsDisabled" "Z") ∈ lw_all := lw_g (lw_at lw_m5 226 rfl) rfl
theorem q1372 : (Jvm.Cond.laysStatic "java/lang/StringUTF16" "$assertionsDisabled" "Z") ∈ lw_tbl := lw_at lw_m5 227 rfl
theorem q1373 : (Jvm.Cond.fieldLink "java/lang/StringUTF16" (59 : Nat) "java/lang/StringUTF16" "HI_BYTE_SHIFT" "I") ∈ lw_all := lw_g (lw_at lw_m5 228 rfl) rfl
theorem q1374 : (Jvm.Cond.laysStatic "java/lang/StringUTF16" "HI_BYTE_SHIFT" "I") ∈ lw_tbl := lw_at lw_m5 229 rfl
theorem q1375 : (Jvm.Cond.fieldLink "java/lang/StringUTF16" (63 : Nat) "java/lang/StringUTF16" "LO_BYTE_SHIFT" "I") ∈ lw_all := lw_g (lw_at lw_m5 230 rfl) rfl
theorem q1376 : (Jvm.Cond.laysStatic "java/lang/StringUTF16" "LO_BYTE_SHIFT" "I") ∈ lw_tbl := lw_at lw_m5 231 rfl
/-! java/lang/Object -/
set_option maxRecDepth 100000
def RJ15 : String := "java/lang/Object"
abbrev cJ15_init : ByteArray := object_method_1_code
def yJ15_init : MethodName := ⟨RJ15, "<init>", "()V"⟩
theorem q227 : (Jvm.Cond.instanceMethod ({ cls := "java/lang/Object", name := "<init>", desc := "()V" } : Jvm.MethodName)) ∈ lw_all := lw_g (lw_at lw_m1 42 rfl) rfl
theorem q228 : (Jvm.Cond.code ({ cls := "java/lang/Object", name := "<init>", desc := "()V" } : Jvm.MethodName) object_method_1_code (1 : Nat) (Option.none : Option Jvm.ClassFile.FieldType)) ∈ lw_all := lw_g (lw_at lw_m1 43 rfl) rfl
theorem q940 : (Jvm.Cond.instanceMethod ({ cls := "java/lang/Object", name := "getClass", desc := "()Ljava/lang/Class;" } : Jvm.MethodName)) ∈ lw_all := lw_g (lw_at lw_m4 35 rfl) rfl
theorem q941 : (Jvm.Cond.sameMethod "java/lang/Object" "java/lang/Object" "getClass" "()Ljava/lang/Class;") ∈ lw_all := lw_g (lw_at lw_m4 36 rfl) rfl
theorem q962 : (Jvm.Cond.native ({ cls := "java/lang/Object", name := "getClass", desc := "()Ljava/lang/Class;" } : Jvm.MethodName)) ∈ lw_all := lw_g (lw_at lw_m4 57 rfl) rfl
theorem q2725 : (Jvm.Cond.declares ({ cls := "java/lang/Object", name := "getClass", desc := "()Ljava/lang/Class;" } : Jvm.MethodName)) ∈ lw_tbl := lw_at lw_m11 140 rfl
/-! the law's own entry -/
set_option maxRecDepth 100000
abbrev cL_law : ByteArray := code
theorem q278 : (Jvm.Cond.arrayClass Jvm.ClassFile.FieldType.int) ∈ lw_all := lw_g (lw_at lw_m1 93 rfl) rfl
set_option maxRecDepth 100000
theorem q279 : (Jvm.Cond.arrayClass Jvm.ClassFile.FieldType.long) ∈ lw_all := lw_g (lw_at lw_m1 94 rfl) rfl
theorem q283 : (Jvm.Cond.arrayOver (Jvm.ClassFile.FieldType.object "MakingHouse$Spans")) ∈ lw_tbl := lw_at lw_m1 98 rfl
theorem q356 : (Jvm.Cond.arrayClass Jvm.ClassFile.FieldType.boolean) ∈ lw_all := lw_g (lw_at lw_m1 171 rfl) rfl
theorem q405 : (Jvm.Cond.arrayOver (Jvm.ClassFile.FieldType.object "MakingHouse$Tool")) ∈ lw_tbl := lw_at lw_m1 220 rfl
theorem q473 : (Jvm.Cond.arrayClass Jvm.ClassFile.FieldType.byte) ∈ lw_all := lw_g (lw_at lw_m2 48 rfl) rfl
theorem q967 : (Jvm.Cond.arrayOver (Jvm.ClassFile.FieldType.object "java/lang/Object")) ∈ lw_tbl := lw_at lw_m4 62 rfl
theorem q185 : (Jvm.Cond.initialized "MakingHouseLaw") ∈ lw_all := lw_g (lw_at lw_m1 0 rfl) rfl
set_option maxRecDepth 100000
theorem q221 : (Jvm.Cond.classLink "MakingHouseLaw" (7 : Nat) "MakingHouse") ∈ lw_all := lw_g (lw_at lw_m1 36 rfl) rfl
theorem q223 : (Jvm.Cond.methodLink "MakingHouseLaw" (9 : Nat) ({ cls := "MakingHouse", name := "<init>", desc := "()V" } : Jvm.MethodName)) ∈ lw_all := lw_g (lw_at lw_m1 38 rfl) rfl
theorem q834 : (Jvm.Cond.methodLink "MakingHouseLaw" (13 : Nat) ({ cls := "MakingHouse", name := "size", desc := "(I)I" } : Jvm.MethodName)) ∈ lw_all := lw_g (lw_at lw_m3 169 rfl) rfl
theorem q838 : (Jvm.Cond.methodLink "MakingHouseLaw" (18 : Nat) ({ cls := "MakingHouse", name := "solid", desc := "(I)I" } : Jvm.MethodName)) ∈ lw_all := lw_g (lw_at lw_m3 173 rfl) rfl
theorem q975 : (Jvm.Cond.methodLink "MakingHouseLaw" (22 : Nat) ({ cls := "MakingHouse", name := "join", desc := "(III)I" } : Jvm.MethodName)) ∈ lw_all := lw_g (lw_at lw_m4 70 rfl) rfl
theorem q1019 : (Jvm.Cond.methodLink "MakingHouseLaw" (27 : Nat) ({ cls := "MakingHouse", name := "moved", desc := "(I)I" } : Jvm.MethodName)) ∈ lw_all := lw_g (lw_at lw_m4 114 rfl) rfl
theorem q1037 : (Jvm.Cond.methodLink "MakingHouseLaw" (31 : Nat) ({ cls := "MakingHouse", name := "turned", desc := "(I)I" } : Jvm.MethodName)) ∈ lw_all := lw_g (lw_at lw_m4 132 rfl) rfl
theorem q1052 : (Jvm.Cond.methodLink "MakingHouseLaw" (35 : Nat) ({ cls := "MakingHouse", name := "inside", desc := "(IIII)Z" } : Jvm.MethodName)) ∈ lw_all := lw_g (lw_at lw_m4 147 rfl) rfl
theorem q1097 : (Jvm.Cond.methodLink "MakingHouseLaw" (40 : Nat) ({ cls := "MakingHouse", name := "top", desc := "(III)I" } : Jvm.MethodName)) ∈ lw_all := lw_g (lw_at lw_m4 192 rfl) rfl
theorem q1163 : (Jvm.Cond.methodLink "MakingHouseLaw" (44 : Nat) ({ cls := "MakingHouse", name := "layer", desc := "(IIIIII)I" } : Jvm.MethodName)) ∈ lw_all := lw_g (lw_at lw_m5 18 rfl) rfl
theorem q1203 : (Jvm.Cond.methodLink "MakingHouseLaw" (49 : Nat) ({ cls := "MakingHouse", name := "layered", desc := "(I)I" } : Jvm.MethodName)) ∈ lw_all := lw_g (lw_at lw_m5 58 rfl) rfl
theorem q1207 : (Jvm.Cond.methodLink "MakingHouseLaw" (53 : Nat) ({ cls := "MakingHouse", name := "run", desc := "(II)I" } : Jvm.MethodName)) ∈ lw_all := lw_g (lw_at lw_m5 62 rfl) rfl
theorem q1211 : (Jvm.Cond.methodLink "MakingHouseLaw" (58 : Nat) ({ cls := "MakingHouse", name := "stock", desc := "(IIII)I" } : Jvm.MethodName)) ∈ lw_all := lw_g (lw_at lw_m5 66 rfl) rfl
theorem q1219 : (Jvm.Cond.methodLink "MakingHouseLaw" (63 : Nat) ({ cls := "MakingHouse", name := "clamp", desc := "(IIIII)I" } : Jvm.MethodName)) ∈ lw_all := lw_g (lw_at lw_m5 74 rfl) rfl
theorem q1228 : (Jvm.Cond.methodLink "MakingHouseLaw" (68 : Nat) ({ cls := "MakingHouse", name := "part", desc := "(I)I" } : Jvm.MethodName)) ∈ lw_all := lw_g (lw_at lw_m5 83 rfl) rfl
theorem q1232 : (Jvm.Cond.methodLink "MakingHouseLaw" (72 : Nat) ({ cls := "MakingHouse", name := "height", desc := "(II)I" } : Jvm.MethodName)) ∈ lw_all := lw_g (lw_at lw_m5 87 rfl) rfl
theorem q1236 : (Jvm.Cond.methodLink "MakingHouseLaw" (76 : Nat) ({ cls := "MakingHouse", name := "stocked", desc := "(I)J" } : Jvm.MethodName)) ∈ lw_all := lw_g (lw_at lw_m5 91 rfl) rfl
theorem q1248 : (Jvm.Cond.methodLink "MakingHouseLaw" (81 : Nat) ({ cls := "MakingHouse", name := "tool", desc := "(IIIII)I" } : Jvm.MethodName)) ∈ lw_all := lw_g (lw_at lw_m5 103 rfl) rfl
theorem q1273 : (Jvm.Cond.methodLink "MakingHouseLaw" (85 : Nat) ({ cls := "MakingHouse", name := "feed", desc := "(IIIII)I" } : Jvm.MethodName)) ∈ lw_all := lw_g (lw_at lw_m5 128 rfl) rfl
theorem q1282 : (Jvm.Cond.methodLink "MakingHouseLaw" (89 : Nat) ({ cls := "MakingHouse", name := "end", desc := "(I)I" } : Jvm.MethodName)) ∈ lw_all := lw_g (lw_at lw_m5 137 rfl) rfl
theorem q1286 : (Jvm.Cond.methodLink "MakingHouseLaw" (93 : Nat) ({ cls := "MakingHouse", name := "program", desc := "()I" } : Jvm.MethodName)) ∈ lw_all := lw_g (lw_at lw_m5 141 rfl) rfl
theorem q1495 : (Jvm.Cond.methodLink "MakingHouseLaw" (98 : Nat) ({ cls := "MakingHouse", name := "place", desc := "()I" } : Jvm.MethodName)) ∈ lw_all := lw_g (lw_at lw_m6 110 rfl) rfl
theorem q1499 : (Jvm.Cond.methodLink "MakingHouseLaw" (102 : Nat) ({ cls := "MakingHouse", name := "start", desc := "(I)I" } : Jvm.MethodName)) ∈ lw_all := lw_g (lw_at lw_m6 114 rfl) rfl
theorem q1718 : (Jvm.Cond.methodLink "MakingHouseLaw" (106 : Nat) ({ cls := "MakingHouse", name := "told", desc := "(I)I" } : Jvm.MethodName)) ∈ lw_all := lw_g (lw_at lw_m7 93 rfl) rfl
theorem q1722 : (Jvm.Cond.methodLink "MakingHouseLaw" (110 : Nat) ({ cls := "MakingHouse", name := "variable", desc := "(I)J" } : Jvm.MethodName)) ∈ lw_all := lw_g (lw_at lw_m7 97 rfl) rfl
theorem q1726 : (Jvm.Cond.methodLink "MakingHouseLaw" (114 : Nat) ({ cls := "MakingHouse", name := "move", desc := "(II)I" } : Jvm.MethodName)) ∈ lw_all := lw_g (lw_at lw_m7 101 rfl) rfl
theorem q1730 : (Jvm.Cond.methodLink "MakingHouseLaw" (118 : Nat) ({ cls := "MakingHouse", name := "acceleration", desc := "(I)Z" } : Jvm.MethodName)) ∈ lw_all := lw_g (lw_at lw_m7 105 rfl) rfl
theorem q1734 : (Jvm.Cond.methodLink "MakingHouseLaw" (123 : Nat) ({ cls := "MakingHouse", name := "speed", desc := "(I)I" } : Jvm.MethodName)) ∈ lw_all := lw_g (lw_at lw_m7 109 rfl) rfl
theorem q1752 : (Jvm.Cond.methodLink "MakingHouseLaw" (127 : Nat) ({ cls := "MakingHouse", name := "strays", desc := "()I" } : Jvm.MethodName)) ∈ lw_all := lw_g (lw_at lw_m7 127 rfl) rfl
theorem q1756 : (Jvm.Cond.classLink "MakingHouseLaw" (10 : Nat) "MakingHouseModel") ∈ lw_all := lw_g (lw_at lw_m7 131 rfl) rfl
theorem q1758 : (Jvm.Cond.methodLink "MakingHouseLaw" (12 : Nat) ({ cls := "MakingHouseModel", name := "<init>", desc := "()V" } : Jvm.MethodName)) ∈ lw_all := lw_g (lw_at lw_m7 133 rfl) rfl
theorem q2119 : (Jvm.Cond.methodLink "MakingHouseLaw" (17 : Nat) ({ cls := "MakingHouseModel", name := "size", desc := "(I)I" } : Jvm.MethodName)) ∈ lw_all := lw_g (lw_at lw_m9 14 rfl) rfl
theorem q2123 : (Jvm.Cond.methodLink "MakingHouseLaw" (21 : Nat) ({ cls := "MakingHouseModel", name := "solid", desc := "(I)I" } : Jvm.MethodName)) ∈ lw_all := lw_g (lw_at lw_m9 18 rfl) rfl
theorem q2131 : (Jvm.Cond.methodLink "MakingHouseLaw" (26 : Nat) ({ cls := "MakingHouseModel", name := "join", desc := "(III)I" } : Jvm.MethodName)) ∈ lw_all := lw_g (lw_at lw_m9 26 rfl) rfl
theorem q2139 : (Jvm.Cond.methodLink "MakingHouseLaw" (30 : Nat) ({ cls := "MakingHouseModel", name := "moved", desc := "(I)I" } : Jvm.MethodName)) ∈ lw_all := lw_g (lw_at lw_m9 34 rfl) rfl
theorem q2143 : (Jvm.Cond.methodLink "MakingHouseLaw" (34 : Nat) ({ cls := "MakingHouseModel", name := "turned", desc := "(I)I" } : Jvm.MethodName)) ∈ lw_all := lw_g (lw_at lw_m9 38 rfl) rfl
theorem q2147 : (Jvm.Cond.methodLink "MakingHouseLaw" (39 : Nat) ({ cls := "MakingHouseModel", name := "inside", desc := "(IIII)Z" } : Jvm.MethodName)) ∈ lw_all := lw_g (lw_at lw_m9 42 rfl) rfl
theorem q2171 : (Jvm.Cond.methodLink "MakingHouseLaw" (43 : Nat) ({ cls := "MakingHouseModel", name := "top", desc := "(III)I" } : Jvm.MethodName)) ∈ lw_all := lw_g (lw_at lw_m9 66 rfl) rfl
theorem q2184 : (Jvm.Cond.methodLink "MakingHouseLaw" (48 : Nat) ({ cls := "MakingHouseModel", name := "layer", desc := "(IIIIII)I" } : Jvm.MethodName)) ∈ lw_all := lw_g (lw_at lw_m9 79 rfl) rfl
theorem q2213 : (Jvm.Cond.methodLink "MakingHouseLaw" (52 : Nat) ({ cls := "MakingHouseModel", name := "layered", desc := "(I)I" } : Jvm.MethodName)) ∈ lw_all := lw_g (lw_at lw_m9 108 rfl) rfl
theorem q2217 : (Jvm.Cond.methodLink "MakingHouseLaw" (57 : Nat) ({ cls := "MakingHouseModel", name := "run", desc := "(II)I" } : Jvm.MethodName)) ∈ lw_all := lw_g (lw_at lw_m9 112 rfl) rfl
theorem q2221 : (Jvm.Cond.methodLink "MakingHouseLaw" (62 : Nat) ({ cls := "MakingHouseModel", name := "stock", desc := "(IIII)I" } : Jvm.MethodName)) ∈ lw_all := lw_g (lw_at lw_m9 116 rfl) rfl
theorem q2225 : (Jvm.Cond.methodLink "MakingHouseLaw" (67 : Nat) ({ cls := "MakingHouseModel", name := "clamp", desc := "(IIIII)I" } : Jvm.MethodName)) ∈ lw_all := lw_g (lw_at lw_m9 120 rfl) rfl
theorem q2230 : (Jvm.Cond.methodLink "MakingHouseLaw" (71 : Nat) ({ cls := "MakingHouseModel", name := "part", desc := "(I)I" } : Jvm.MethodName)) ∈ lw_all := lw_g (lw_at lw_m9 125 rfl) rfl
theorem q2234 : (Jvm.Cond.methodLink "MakingHouseLaw" (75 : Nat) ({ cls := "MakingHouseModel", name := "height", desc := "(II)I" } : Jvm.MethodName)) ∈ lw_all := lw_g (lw_at lw_m9 129 rfl) rfl
theorem q2238 : (Jvm.Cond.methodLink "MakingHouseLaw" (80 : Nat) ({ cls := "MakingHouseModel", name := "stocked", desc := "(I)J" } : Jvm.MethodName)) ∈ lw_all := lw_g (lw_at lw_m9 133 rfl) rfl
theorem q2250 : (Jvm.Cond.methodLink "MakingHouseLaw" (84 : Nat) ({ cls := "MakingHouseModel", name := "tool", desc := "(IIIII)I" } : Jvm.MethodName)) ∈ lw_all := lw_g (lw_at lw_m9 145 rfl) rfl
theorem q2254 : (Jvm.Cond.methodLink "MakingHouseLaw" (88 : Nat) ({ cls := "MakingHouseModel", name := "feed", desc := "(IIIII)I" } : Jvm.MethodName)) ∈ lw_all := lw_g (lw_at lw_m9 149 rfl) rfl
theorem q2263 : (Jvm.Cond.methodLink "MakingHouseLaw" (92 : Nat) ({ cls := "MakingHouseModel", name := "end", desc := "(I)I" } : Jvm.MethodName)) ∈ lw_all := lw_g (lw_at lw_m9 158 rfl) rfl
theorem q2267 : (Jvm.Cond.methodLink "MakingHouseLaw" (97 : Nat) ({ cls := "MakingHouseModel", name := "program", desc := "()I" } : Jvm.MethodName)) ∈ lw_all := lw_g (lw_at lw_m9 162 rfl) rfl
theorem q2416 : (Jvm.Cond.methodLink "MakingHouseLaw" (101 : Nat) ({ cls := "MakingHouseModel", name := "place", desc := "()I" } : Jvm.MethodName)) ∈ lw_all := lw_g (lw_at lw_m10 71 rfl) rfl
theorem q2420 : (Jvm.Cond.methodLink "MakingHouseLaw" (105 : Nat) ({ cls := "MakingHouseModel", name := "start", desc := "(I)I" } : Jvm.MethodName)) ∈ lw_all := lw_g (lw_at lw_m10 75 rfl) rfl
theorem q2657 : (Jvm.Cond.methodLink "MakingHouseLaw" (109 : Nat) ({ cls := "MakingHouseModel", name := "told", desc := "(I)I" } : Jvm.MethodName)) ∈ lw_all := lw_g (lw_at lw_m11 72 rfl) rfl
theorem q2661 : (Jvm.Cond.methodLink "MakingHouseLaw" (113 : Nat) ({ cls := "MakingHouseModel", name := "variable", desc := "(I)J" } : Jvm.MethodName)) ∈ lw_all := lw_g (lw_at lw_m11 76 rfl) rfl
theorem q2665 : (Jvm.Cond.methodLink "MakingHouseLaw" (117 : Nat) ({ cls := "MakingHouseModel", name := "move", desc := "(II)I" } : Jvm.MethodName)) ∈ lw_all := lw_g (lw_at lw_m11 80 rfl) rfl
theorem q2669 : (Jvm.Cond.methodLink "MakingHouseLaw" (122 : Nat) ({ cls := "MakingHouseModel", name := "acceleration", desc := "(I)Z" } : Jvm.MethodName)) ∈ lw_all := lw_g (lw_at lw_m11 84 rfl) rfl
theorem q2673 : (Jvm.Cond.methodLink "MakingHouseLaw" (126 : Nat) ({ cls := "MakingHouseModel", name := "speed", desc := "(I)I" } : Jvm.MethodName)) ∈ lw_all := lw_g (lw_at lw_m11 88 rfl) rfl
theorem q2689 : (Jvm.Cond.methodLink "MakingHouseLaw" (130 : Nat) ({ cls := "MakingHouseModel", name := "strays", desc := "()I" } : Jvm.MethodName)) ∈ lw_all := lw_g (lw_at lw_m11 104 rfl) rfl
theorem q203 : (Jvm.Cond.initialized "java/lang/System") ∈ lw_all := lw_g (lw_at lw_m1 18 rfl) rfl
set_option maxRecDepth 100000
theorem q851 : (Jvm.Cond.static ({ cls := "java/lang/System", name := "arraycopy", desc := "(Ljava/lang/Object;ILjava/lang/Object;II)V" } : Jvm.MethodName)) ∈ lw_all := lw_g (lw_at lw_m3 186 rfl) rfl
theorem q852 : (Jvm.Cond.native ({ cls := "java/lang/System", name := "arraycopy", desc := "(Ljava/lang/Object;ILjava/lang/Object;II)V" } : Jvm.MethodName)) ∈ lw_all := lw_g (lw_at lw_m3 187 rfl) rfl
theorem q2723 : (Jvm.Cond.sameMethod "[Ljava/lang/Object;" "java/lang/Object" "getClass" "()Ljava/lang/Class;") ∈ lw_all := lw_g (lw_at lw_m11 138 rfl) rfl
set_option maxRecDepth 100000
theorem q2724 : (Jvm.Cond.selects "[Ljava/lang/Object;" ({ cls := "java/lang/Object", name := "getClass", desc := "()Ljava/lang/Class;" } : Jvm.MethodName) ({ cls := "java/lang/Object", name := "getClass", desc := "()Ljava/lang/Class;" } : Jvm.MethodName)) ∈ lw_all := lw_g (lw_at lw_m11 139 rfl) rfl
theorem q2732 : (Jvm.Cond.castable "[Ljava/lang/Object;" "java/lang/Object") ∈ lw_tbl := lw_at lw_m11 147 rfl
theorem q2726 : (Jvm.Cond.castable "[I" "java/lang/Object") ∈ lw_tbl := lw_at lw_m11 141 rfl
set_option maxRecDepth 100000
theorem q2727 : (Jvm.Cond.castable "[J" "java/lang/Object") ∈ lw_tbl := lw_at lw_m11 142 rfl
set_option maxRecDepth 100000
theorem q2728 : (Jvm.Cond.castable "[LMakingHouse$Spans;" "java/lang/Object") ∈ lw_tbl := lw_at lw_m11 143 rfl
set_option maxRecDepth 100000
theorem q2729 : (Jvm.Cond.castable "[Z" "java/lang/Object") ∈ lw_tbl := lw_at lw_m11 144 rfl
set_option maxRecDepth 100000
theorem q2730 : (Jvm.Cond.castable "[LMakingHouse$Tool;" "java/lang/Object") ∈ lw_tbl := lw_at lw_m11 145 rfl
set_option maxRecDepth 100000
theorem q2731 : (Jvm.Cond.castable "[B" "java/lang/Object") ∈ lw_tbl := lw_at lw_m11 146 rfl
set_option maxRecDepth 100000
