/-! ===== what is known of the tables ===== -/
/-- the classes, by their tags (10 and 20 stand for no objects) -/
def clsL : List vw_C := [(RX0, TX0, 72), (RX1, TX1, 3), (RX2, TX2, 19), (RX3, TX3, 10), (RX4, TX4, 3), (RX5, TX5, 15), (RX6, TX6, 2), (RX7, TX7, 11), (RX8, TX8, 99), (RX9, TX9, 13), (RX11, TX11, 2), (RX11, TX11, 2), (RX12, TX12, 2), (RX13, TX13, 2), (RX14, TX14, 2), (RX15, TX15, 4), (RX16, TX16, 3), (RX17, TX17, 2), (RX18, TX18, 4), (RJ2, TJ2, 3), (RX0, TX0, 72), (RJ6, TJ6, 0)]
def ClOK (q : vw_C) : Prop := (∀ w ∈ u_ws q.1 q.2.1 q.2.2, w ∈ lw_all) ∧ (∃ ty : Nat → FieldType, ∀ k, k < q.2.2 → parseFieldDescriptor (q.2.1 k).2.2.1 = some (ty k)) ∧ (∀ a, a < q.2.2 → ∀ b, b < q.2.2 → a ≠ b → (q.2.1 a).2.1 ≠ (q.2.1 b).2.1)
theorem cl_J2 : ClOK (RJ2, TJ2, 3) := ⟨in_J2, ⟨tyJ2, tyJ2_ok⟩, nmJ2⟩
theorem cl_X0 : ClOK (RX0, TX0, 72) := ⟨in_X0, ⟨tyX0, tyX0_ok⟩, nmX0⟩
theorem cl_X1 : ClOK (RX1, TX1, 3) := ⟨in_X1, ⟨tyX1, tyX1_ok⟩, nmX1⟩
theorem cl_X11 : ClOK (RX11, TX11, 2) := ⟨in_X11, ⟨tyX11, tyX11_ok⟩, nmX11⟩
theorem cl_X12 : ClOK (RX12, TX12, 2) := ⟨in_X12, ⟨tyX12, tyX12_ok⟩, nmX12⟩
theorem cl_X13 : ClOK (RX13, TX13, 2) := ⟨in_X13, ⟨tyX13, tyX13_ok⟩, nmX13⟩
theorem cl_X14 : ClOK (RX14, TX14, 2) := ⟨in_X14, ⟨tyX14, tyX14_ok⟩, nmX14⟩
theorem cl_X15 : ClOK (RX15, TX15, 4) := ⟨in_X15, ⟨tyX15, tyX15_ok⟩, nmX15⟩
theorem cl_X16 : ClOK (RX16, TX16, 3) := ⟨in_X16, ⟨tyX16, tyX16_ok⟩, nmX16⟩
theorem cl_X17 : ClOK (RX17, TX17, 2) := ⟨in_X17, ⟨tyX17, tyX17_ok⟩, nmX17⟩
theorem cl_X18 : ClOK (RX18, TX18, 4) := ⟨in_X18, ⟨tyX18, tyX18_ok⟩, nmX18⟩
theorem cl_X2 : ClOK (RX2, TX2, 19) := ⟨in_X2, ⟨tyX2, tyX2_ok⟩, nmX2⟩
theorem cl_X3 : ClOK (RX3, TX3, 10) := ⟨in_X3, ⟨tyX3, tyX3_ok⟩, nmX3⟩
theorem cl_X4 : ClOK (RX4, TX4, 3) := ⟨in_X4, ⟨tyX4, tyX4_ok⟩, nmX4⟩
theorem cl_X5 : ClOK (RX5, TX5, 15) := ⟨in_X5, ⟨tyX5, tyX5_ok⟩, nmX5⟩
theorem cl_X6 : ClOK (RX6, TX6, 2) := ⟨in_X6, ⟨tyX6, tyX6_ok⟩, nmX6⟩
theorem cl_X7 : ClOK (RX7, TX7, 11) := ⟨in_X7, ⟨tyX7, tyX7_ok⟩, nmX7⟩
theorem cl_X8 : ClOK (RX8, TX8, 99) := ⟨in_X8, ⟨tyX8, tyX8_ok⟩, nmX8⟩
theorem cl_X9 : ClOK (RX9, TX9, 13) := ⟨in_X9, ⟨tyX9, tyX9_ok⟩, nmX9⟩
theorem cl_E : ClOK (RJ6, TJ6, 0) := ⟨fun w h => (by cases h), ⟨tyJ6, fun k h => absurd h (Nat.not_lt_zero _)⟩, fun a h => absurd h (Nat.not_lt_zero _)⟩
theorem clsL_ok : ∀ q ∈ clsL, ClOK q := List.forall_mem_cons.mpr ⟨cl_X0, List.forall_mem_cons.mpr ⟨cl_X1, List.forall_mem_cons.mpr ⟨cl_X2, List.forall_mem_cons.mpr ⟨cl_X3, List.forall_mem_cons.mpr ⟨cl_X4, List.forall_mem_cons.mpr ⟨cl_X5, List.forall_mem_cons.mpr ⟨cl_X6, List.forall_mem_cons.mpr ⟨cl_X7, List.forall_mem_cons.mpr ⟨cl_X8, List.forall_mem_cons.mpr ⟨cl_X9, List.forall_mem_cons.mpr ⟨cl_X11, List.forall_mem_cons.mpr ⟨cl_X11, List.forall_mem_cons.mpr ⟨cl_X12, List.forall_mem_cons.mpr ⟨cl_X13, List.forall_mem_cons.mpr ⟨cl_X14, List.forall_mem_cons.mpr ⟨cl_X15, List.forall_mem_cons.mpr ⟨cl_X16, List.forall_mem_cons.mpr ⟨cl_X17, List.forall_mem_cons.mpr ⟨cl_X18, List.forall_mem_cons.mpr ⟨cl_J2, List.forall_mem_cons.mpr ⟨cl_X0, List.forall_mem_cons.mpr ⟨cl_E, fun _ h => absurd h List.not_mem_nil⟩⟩⟩⟩⟩⟩⟩⟩⟩⟩⟩⟩⟩⟩⟩⟩⟩⟩⟩⟩⟩⟩
/-- words that do not ride in the lists -/
def xtra : List Cond := [
  (Jvm.Cond.methodLinkNest "MakingHouse" (7 : Nat) ({ cls := "MakingHouse$Spans", name := "<init>", desc := "()V" } : Jvm.MethodName) "MakingHouse"),
    (Jvm.Cond.methodLinkNest "MakingHouse" (38 : Nat) ({ cls := "MakingHouse$Layer", name := "<init>", desc := "()V" } : Jvm.MethodName) "MakingHouse"),
    (Jvm.Cond.fieldLinkNest "MakingHouse" (269 : Nat) "MakingHouse$Layer" "fillRow" "[I" "MakingHouse"),
    (Jvm.Cond.fieldLinkNest "MakingHouse" (272 : Nat) "MakingHouse$Layer" "fillFrom" "[I" "MakingHouse"),
    (Jvm.Cond.fieldLinkNest "MakingHouse" (275 : Nat) "MakingHouse$Layer" "fillTo" "[I" "MakingHouse"),
    (Jvm.Cond.methodLinkNest "MakingHouse" (45 : Nat) ({ cls := "MakingHouse$Stock", name := "<init>", desc := "()V" } : Jvm.MethodName) "MakingHouse"),
    (Jvm.Cond.methodLinkNest "MakingHouse" (66 : Nat) ({ cls := "MakingHouse$Trouble", name := "<init>", desc := "()V" } : Jvm.MethodName) "MakingHouse"),
    (Jvm.Cond.methodLinkNest "MakingHouse$Reader" (17 : Nat) ({ cls := "MakingHouse$Row", name := "<init>", desc := "()V" } : Jvm.MethodName) "MakingHouse"),
    (Jvm.Cond.methodLinkNest "MakingHouse" (82 : Nat) ({ cls := "MakingHouse$Program", name := "<init>", desc := "()V" } : Jvm.MethodName) "MakingHouse"),
    (Jvm.Cond.methodLinkNest "MakingHouse$Program" (9 : Nat) ({ cls := "MakingHouse$Row", name := "<init>", desc := "()V" } : Jvm.MethodName) "MakingHouse"),
    (Jvm.Cond.declares ({ cls := "MakingHouse$Solid", name := "has", desc := "(JJJ)Z" } : Jvm.MethodName)),
    (Jvm.Cond.methodLinkNest "MakingHouse$Ball" (13 : Nat) ({ cls := "MakingHouse", name := "square", desc := "(JJ)J" } : Jvm.MethodName) "MakingHouse"),
    (Jvm.Cond.methodLinkNest "MakingHouse$Cone" (13 : Nat) ({ cls := "MakingHouse", name := "square", desc := "(JJ)J" } : Jvm.MethodName) "MakingHouse"),
    (Jvm.Cond.methodLinkNest "MakingHouse$Post" (13 : Nat) ({ cls := "MakingHouse", name := "square", desc := "(JJ)J" } : Jvm.MethodName) "MakingHouse"),
    (Jvm.Cond.declares ({ cls := "MakingHouse$Solid", name := "over", desc := "(JJLMakingHouse$Spans;[LMakingHouse$Spans;I)V" } : Jvm.MethodName)),
    (Jvm.Cond.methodLinkNest "MakingHouse$Ball" (25 : Nat) ({ cls := "MakingHouse", name := "root", desc := "(J)J" } : Jvm.MethodName) "MakingHouse"),
    (Jvm.Cond.methodLinkNest "MakingHouse$Stock" (45 : Nat) ({ cls := "MakingHouse", name := "floor", desc := "(JJ)J" } : Jvm.MethodName) "MakingHouse"),
    (Jvm.Cond.methodLinkNest "MakingHouse$Stock" (57 : Nat) ({ cls := "MakingHouse", name := "square", desc := "(JJ)J" } : Jvm.MethodName) "MakingHouse"),
    (Jvm.Cond.methodLinkNest "MakingHouse$Tool" (24 : Nat) ({ cls := "MakingHouse", name := "root", desc := "(J)J" } : Jvm.MethodName) "MakingHouse"),
    (Jvm.Cond.methodLinkNest "MakingHouseModel" (68 : Nat) ({ cls := "MakingHouseModel$Text", name := "<init>", desc := "()V" } : Jvm.MethodName) "MakingHouseModel"),
    (Jvm.Cond.castable "MakingHouse$Ball" "MakingHouse$Solid"),
    (Jvm.Cond.castable "MakingHouse$Box" "MakingHouse$Solid"),
    (Jvm.Cond.castable "MakingHouse$Cone" "MakingHouse$Solid"),
    (Jvm.Cond.castable "MakingHouse$Join" "MakingHouse$Solid"),
    (Jvm.Cond.castable "MakingHouse$Moved" "MakingHouse$Solid"),
    (Jvm.Cond.castable "MakingHouse$Post" "MakingHouse$Solid"),
    (Jvm.Cond.castable "MakingHouse$Turned" "MakingHouse$Solid"),
    (Jvm.Cond.castable "MakingHouse$Box" "java/lang/Object"),
    (Jvm.Cond.castable "MakingHouse$Post" "java/lang/Object"),
    (Jvm.Cond.castable "MakingHouse$Ball" "java/lang/Object"),
    (Jvm.Cond.castable "MakingHouse$Cone" "java/lang/Object"),
    (Jvm.Cond.castable "MakingHouse$Join" "java/lang/Object"),
    (Jvm.Cond.castable "MakingHouse$Moved" "java/lang/Object"),
    (Jvm.Cond.castable "MakingHouse$Turned" "java/lang/Object"),
    (Jvm.Cond.declares ({ cls := "java/lang/Object", name := "getClass", desc := "()Ljava/lang/Class;" } : Jvm.MethodName)),
    (Jvm.Cond.declares ({ cls := "java/lang/RuntimeException", name := "<init>", desc := "()V" } : Jvm.MethodName)),
    (Jvm.Cond.declares ({ cls := "java/lang/Exception", name := "<init>", desc := "()V" } : Jvm.MethodName)),
    (Jvm.Cond.declares ({ cls := "java/lang/Throwable", name := "<init>", desc := "()V" } : Jvm.MethodName))]
theorem xtra_ok : ∀ w ∈ xtra, w ∈ lw_tbl := List.forall_mem_cons.mpr ⟨q257, List.forall_mem_cons.mpr ⟨q286, List.forall_mem_cons.mpr ⟨q312, List.forall_mem_cons.mpr ⟨q314, List.forall_mem_cons.mpr ⟨q316, List.forall_mem_cons.mpr ⟨q359, List.forall_mem_cons.mpr ⟨q408, List.forall_mem_cons.mpr ⟨q494, List.forall_mem_cons.mpr ⟨q559, List.forall_mem_cons.mpr ⟨q564, List.forall_mem_cons.mpr ⟨q1062, List.forall_mem_cons.mpr ⟨q1067, List.forall_mem_cons.mpr ⟨q1076, List.forall_mem_cons.mpr ⟨q1090, List.forall_mem_cons.mpr ⟨q1106, List.forall_mem_cons.mpr ⟨q1111, List.forall_mem_cons.mpr ⟨q1663, List.forall_mem_cons.mpr ⟨q1674, List.forall_mem_cons.mpr ⟨q1679, List.forall_mem_cons.mpr ⟨q1764, List.forall_mem_cons.mpr ⟨q2694, List.forall_mem_cons.mpr ⟨q2695, List.forall_mem_cons.mpr ⟨q2696, List.forall_mem_cons.mpr ⟨q2697, List.forall_mem_cons.mpr ⟨q2698, List.forall_mem_cons.mpr ⟨q2699, List.forall_mem_cons.mpr ⟨q2700, List.forall_mem_cons.mpr ⟨q2714, List.forall_mem_cons.mpr ⟨q2715, List.forall_mem_cons.mpr ⟨q2716, List.forall_mem_cons.mpr ⟨q2717, List.forall_mem_cons.mpr ⟨q2718, List.forall_mem_cons.mpr ⟨q2719, List.forall_mem_cons.mpr ⟨q2720, List.forall_mem_cons.mpr ⟨q2725, List.forall_mem_cons.mpr ⟨q415, List.forall_mem_cons.mpr ⟨q417, List.forall_mem_cons.mpr ⟨q419, fun _ h => absurd h List.not_mem_nil⟩⟩⟩⟩⟩⟩⟩⟩⟩⟩⟩⟩⟩⟩⟩⟩⟩⟩⟩⟩⟩⟩⟩⟩⟩⟩⟩⟩⟩⟩⟩⟩⟩⟩⟩⟩⟩⟩
def aty (t : Nat) : FieldType := match t with
  | 64 => .int
  | 65 => .long
  | 66 => .byte
  | 67 => .boolean
  | 68 => .object "java/lang/Object"
  | 69 => .object "MakingHouse$Spans"
  | 70 => .object "MakingHouse$Tool"
  | 71 => .int
  | 72 => .byte
  | _ => .object "java/lang/Object"
/-- statics, and what they hold -/
def stats : List (String × String × String × Value) := [("java/lang/String", "COMPACT_STRINGS", "Z", .int 1), ("java/util/ArrayList", "DEFAULTCAPACITY_EMPTY_ELEMENTDATA", "[Ljava/lang/Object;", .ref 6), ("jdk/internal/util/Preconditions", "SIOOBE_FORMATTER", "Ljava/util/function/BiFunction;", .ref 5)]
/-- the text constants -/
def strs : List (String × Nat × String) := [("MakingHouse$Reader", 119, " IF GOTO WHILE DO END ABS FIX FUP ROOT MOD AND OR XOR EQ NE LT LE GT GE "), ("MakingHouseModel", 343, " IF GOTO WHILE DO END ABS FIX FUP ROOT MOD AND OR XOR EQ NE LT LE GT GE ")]
def xwk (w : Cond) : Bool := match w with
  | .methodLinkNest _ _ _ _ => true
  | .fieldLinkNest _ _ _ _ _ _ => true
  | .declares _ => true
  | .castable _ _ => true
  | _ => false
theorem xtra_k : ∀ w ∈ xtra, xwk w = true := List.all_eq_true.mp (by decide +kernel)
theorem xtra_t {w : Cond} (h : xwk w = true) : w.onTables = true := by
  cases w <;> first | rfl | cases h
theorem xw_warm {w : Cond} {s U : State} (h : xwk w = true) (hW : s.WarmedH U.vm) (hZ : va_Nw w s) : va_Nw w U := by
  cases w <;> first | exact va_Nw.warmM hW hZ | exact va_Nw.warmF hW hZ | exact va_Nw.warmD hW hZ | exact va_Nw.warmC hW hZ | cases h
/-- what may change: the cells that were not there at the start -/
def Aq (X : Cx) : Nat → Prop := fun q => xB X ≤ q
/-- the statics of Throwable -/
def exS (X : Cx) (U : State) : Prop := ∃ u0 sen : RefV, va_Z "java/lang/Throwable" "UNASSIGNED_STACK" "[Ljava/lang/StackTraceElement;" u0.v (Aq X) U U.heap ∧ va_Z "java/lang/Throwable" "SUPPRESSED_SENTINEL" "Ljava/util/List;" sen.v (Aq X) U U.heap ∧
  (Cond.laysStatic "java/lang/Throwable" "UNASSIGNED_STACK" "[Ljava/lang/StackTraceElement;").before #[] U = true ∧ (Cond.laysStatic "java/lang/Throwable" "SUPPRESSED_SENTINEL" "Ljava/util/List;").before #[] U = true
theorem lays_moved {X : Cx} {u U : State} {C n d : String} {v : Value} (hal : u.vm.Alike U.vm) (hh : ∀ q, q < u.heap.size → ¬ xB X ≤ q → U.heap[q]? = u.heap[q]?) (hz : va_Z C n d v (Aq X) u u.heap) (h : (Cond.laysStatic C n d).before #[] u = true) : (Cond.laysStatic C n d).before #[] U = true := by
  obtain ⟨c, k, i, f, a, cell, hc, hi, hst, ha, hcell, hs, hcls, hlt, hty⟩ := Cond.laysStatic_spec h
  obtain ⟨cf, kf, fi, f', a', cell', z1, -, -, z4, -, -, -, z8⟩ := hz
  cases hi.symm.trans z1
  cases ha.symm.trans z4
  obtain ⟨k', hi', hek⟩ := State.fieldFound?_setVm hal hi
  exact Cond.laysStatic_of (s := U) (by rw [hal.findClass]; exact hc) hi' hst (by rw [hek]; exact ha) (by rw [hh _ (Array.getElem?_eq_some_iff.mp hcell).1 z8]; exact hcell) hs hcls hlt (by rw [hek]; exact hty)
theorem exS.moved {X : Cx} {u U : State} (hal : u.vm.Alike U.vm) (hh : ∀ q, q < u.heap.size → ¬ xB X ≤ q → U.heap[q]? = u.heap[q]?) (h : exS X u) : exS X U := by
  obtain ⟨u0, sen, h1, h2, h3, h4⟩ := h
  exact ⟨u0, sen, (h1.moved hal).kept hh, (h2.moved hal).kept hh, lays_moved hal hh h1 h3, lays_moved hal hh h2 h4⟩
/-- the facts of the tables at a state -/
def KF (X : Cx) (U : State) : Prop :=
  xC X = clsL ∧ (xV X = .null ∨ ∃ q, xV X = .ref q) ∧ va_K (xG X) clsL [] U ∧ (∀ t, 64 ≤ t → t ≤ 73 → ArrOfT U (xA X t) (aty t) ∧ (t ≤ 70 → va_RA U (xA X t) (aty t))) ∧
  (∀ q ∈ stats, va_Z q.1 q.2.1 q.2.2.1 (cv X q.2.2.2) (Aq X) U U.heap) ∧
  va_OF "java/lang/String" "value" "[B" (.ref (adr X 3)) (adr X 2) (Aq X) U U.heap ∧ va_OF "java/lang/String" "coder" "B" (.int 0) (adr X 2) (Aq X) U U.heap ∧
  (adr X 2 < xB X ∧ ∃ cell : Cell, U.heap[adr X 2]? = some cell ∧ (∀ k, cell.vm ≠ .statics k) ∧ U.vm.findClass "java/lang/String" = some cell.cls) ∧
  (∀ q ∈ strs, vk_R q.1 q.2.1 q.2.2 (adr X 2) U) ∧ va_Mi "[Ljava/lang/Object;" (adr X 4) U ∧ (∀ w ∈ xtra, va_Nw w U) ∧
  (va_AO "java/lang/Object" U ∧ va_AO "MakingHouse$Spans" U ∧ va_AO "MakingHouse$Tool" U) ∧
  (∃ k : Class, U.vm.classes[(xG X).1 21]? = some k ∧ k.instanceTypes = xK X) ∧ exS X U
theorem KF.moved {X : Cx} {u U : State} (hW : u.WarmedH U.vm) (hh : ∀ q, q < u.heap.size → ¬ xB X ≤ q → U.heap[q]? = u.heap[q]?) (h : KF X u) : KF X U := by
  obtain ⟨h0, h1, h2, h3, h4, h5, h6, ⟨h7a, cell, h7b, h7c, h7d⟩, h8, h9, h10, ⟨h11a, h11b, h11c⟩, ⟨k, hk, hi⟩, h13⟩ := h
  have hal := hW.alike
  refine ⟨h0, h1, va_K.moved hal h2, fun t a b => ⟨arrOfT_moved hal (h3 t a b).1, fun c => ((h3 t a b).2 c).moved hal⟩, fun q hq => ((h4 q hq).moved hal).kept hh, (h5.moved hal).kept hh, (h6.moved hal).kept hh, ⟨h7a, cell, ?_, h7c, ?_⟩, fun q hq => (h8 q hq).warm hW, h9.moved hal, fun w hw => xw_warm (xtra_k w hw) hW (h10 w hw), ⟨h11a.moved hal, h11b.moved hal, h11c.moved hal⟩, ?_, h13.moved hal hh⟩
  · rw [hh _ (Array.getElem?_eq_some_iff.mp h7b).1 (by omega)]; exact h7b
  · rw [hal.findClass]; exact h7d
  · obtain ⟨k', hk', he⟩ := hal.2.2 _ _ hk
    exact ⟨k', hk', by rw [he]; exact hi⟩
