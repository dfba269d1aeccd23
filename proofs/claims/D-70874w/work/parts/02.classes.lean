/-! the classes: names, fields, their types -/
set_option maxRecDepth 100000
def cR0 : String := "LateJudge"
def cT0 : u_T := fun k => match k with
  | 0 => ("LateJudge", "kinds", "[LLateJudge$Plain;", true)
  | 1 => ("LateJudge", "now", "LLateJudge$State;", true)
  | 2 => ("LateJudge", "fault", "LLateJudge$Fault;", true)
  | 3 => ("LateJudge", "tape", "[C", true)
  | 4 => ("LateJudge", "taped", "I", false)
  | 5 => ("LateJudge", "reads", "I", false)
  | 6 => ("LateJudge", "read", "LLateJudge$State;", true)
  | 7 => ("LateJudge", "past", "[LLateJudge$State;", true)
  | 8 => ("LateJudge", "undoMany", "I", false)
  | 9 => ("LateJudge", "aside", "LLateJudge$State;", true)
  | 10 => ("LateJudge", "order", "[I", true)
  | 11 => ("LateJudge", "bestOrder", "[I", true)
  | 12 => ("LateJudge", "content", "[I", true)
  | 13 => ("LateJudge", "kept", "LLateJudge$State;", true)
  | 14 => ("LateJudge", "keptPast", "[LLateJudge$State;", true)
  | 15 => ("LateJudge", "keptMany", "I", false)
  | 16 => ("LateJudge", "isKept", "Z", false)
  | _ => ("LateJudge", "sheets", "[LLateJudge$Sheet;", true)
def cy0 : Nat → FieldType := fun k => match k with
  | 0 => .array (.object "LateJudge$Plain")
  | 1 => .object "LateJudge$State"
  | 2 => .object "LateJudge$Fault"
  | 3 => .array (.char)
  | 4 => .int
  | 5 => .int
  | 6 => .object "LateJudge$State"
  | 7 => .array (.object "LateJudge$State")
  | 8 => .int
  | 9 => .object "LateJudge$State"
  | 10 => .array (.int)
  | 11 => .array (.int)
  | 12 => .array (.int)
  | 13 => .object "LateJudge$State"
  | 14 => .array (.object "LateJudge$State")
  | 15 => .int
  | 16 => .boolean
  | _ => .array (.object "LateJudge$Sheet")
theorem cnm0 : ∀ a, a < 18 → ∀ b, b < 18 → a ≠ b → (cT0 a).2.1 ≠ (cT0 b).2.1 := by decide +kernel
theorem cty0 : ∀ k, k < 18 → parseFieldDescriptor (cT0 k).2.2.1 = some (cy0 k) := by decide +kernel
theorem cin0 : ∀ w ∈ u_ws cR0 cT0 18, w ∈ lw_all := lw_in _ [306, 308, 310, 312, 314, 316, 318, 320, 322, 324, 326, 328, 330, 332, 334, 336, 338, 340] (by decide +kernel) (by decide +kernel)
def cR1 : String := "LateJudge$Plain"
def cT1 : u_T := fun _ => ("", "", "", false)
def cy1 : Nat → FieldType := fun _ => .int
theorem cnm1 : ∀ a, a < 0 → ∀ b, b < 0 → a ≠ b → (cT1 a).2.1 ≠ (cT1 b).2.1 := by decide +kernel
theorem cty1 : ∀ k, k < 0 → parseFieldDescriptor (cT1 k).2.2.1 = some (cy1 k) := by decide +kernel
theorem cin1 : ∀ w ∈ u_ws cR1 cT1 0, w ∈ lw_all := lw_in _ [] (by decide +kernel) (by decide +kernel)
def cR2 : String := "LateJudge$Harsh"
def cT2 : u_T := fun _ => ("", "", "", false)
def cy2 : Nat → FieldType := fun _ => .int
theorem cnm2 : ∀ a, a < 0 → ∀ b, b < 0 → a ≠ b → (cT2 a).2.1 ≠ (cT2 b).2.1 := by decide +kernel
theorem cty2 : ∀ k, k < 0 → parseFieldDescriptor (cT2 k).2.2.1 = some (cy2 k) := by decide +kernel
theorem cin2 : ∀ w ∈ u_ws cR2 cT2 0, w ∈ lw_all := lw_in _ [] (by decide +kernel) (by decide +kernel)
def cR3 : String := "LateJudge$Mild"
def cT3 : u_T := fun _ => ("", "", "", false)
def cy3 : Nat → FieldType := fun _ => .int
theorem cnm3 : ∀ a, a < 0 → ∀ b, b < 0 → a ≠ b → (cT3 a).2.1 ≠ (cT3 b).2.1 := by decide +kernel
theorem cty3 : ∀ k, k < 0 → parseFieldDescriptor (cT3 k).2.2.1 = some (cy3 k) := by decide +kernel
theorem cin3 : ∀ w ∈ u_ws cR3 cT3 0, w ∈ lw_all := lw_in _ [] (by decide +kernel) (by decide +kernel)
def cR4 : String := "LateJudge$Boy"
def cT4 : u_T := fun _ => ("", "", "", false)
def cy4 : Nat → FieldType := fun _ => .int
theorem cnm4 : ∀ a, a < 0 → ∀ b, b < 0 → a ≠ b → (cT4 a).2.1 ≠ (cT4 b).2.1 := by decide +kernel
theorem cty4 : ∀ k, k < 0 → parseFieldDescriptor (cT4 k).2.2.1 = some (cy4 k) := by decide +kernel
theorem cin4 : ∀ w ∈ u_ws cR4 cT4 0, w ∈ lw_all := lw_in _ [] (by decide +kernel) (by decide +kernel)
def cR5 : String := "LateJudge$Gouty"
def cT5 : u_T := fun _ => ("", "", "", false)
def cy5 : Nat → FieldType := fun _ => .int
theorem cnm5 : ∀ a, a < 0 → ∀ b, b < 0 → a ≠ b → (cT5 a).2.1 ≠ (cT5 b).2.1 := by decide +kernel
theorem cty5 : ∀ k, k < 0 → parseFieldDescriptor (cT5 k).2.2.1 = some (cy5 k) := by decide +kernel
theorem cin5 : ∀ w ∈ u_ws cR5 cT5 0, w ∈ lw_all := lw_in _ [] (by decide +kernel) (by decide +kernel)
def cR6 : String := "LateJudge$State"
def cT6 : u_T := fun k => match k with
  | 0 => ("LateJudge$State", "ofKind", "[I", true)
  | 1 => ("LateJudge$State", "ways", "[I", true)
  | 2 => ("LateJudge$State", "kins", "[I", true)
  | 3 => ("LateJudge$State", "lingers", "[I", true)
  | 4 => ("LateJudge$State", "judged", "[I", true)
  | 5 => ("LateJudge$State", "proofs", "[I", true)
  | 6 => ("LateJudge$State", "accused", "[I", true)
  | 7 => ("LateJudge$State", "people", "I", false)
  | 8 => ("LateJudge$State", "cases", "I", false)
  | 9 => ("LateJudge$State", "door", "I", false)
  | 10 => ("LateJudge$State", "last", "I", false)
  | 11 => ("LateJudge$State", "years", "I", false)
  | 12 => ("LateJudge$State", "day", "I", false)
  | _ => ("LateJudge$State", "draw", "I", false)
def cy6 : Nat → FieldType := fun k => match k with
  | 0 => .array (.int)
  | 1 => .array (.int)
  | 2 => .array (.int)
  | 3 => .array (.int)
  | 4 => .array (.int)
  | 5 => .array (.int)
  | 6 => .array (.int)
  | 7 => .int
  | 8 => .int
  | 9 => .int
  | 10 => .int
  | 11 => .int
  | 12 => .int
  | _ => .int
theorem cnm6 : ∀ a, a < 14 → ∀ b, b < 14 → a ≠ b → (cT6 a).2.1 ≠ (cT6 b).2.1 := by decide +kernel
theorem cty6 : ∀ k, k < 14 → parseFieldDescriptor (cT6 k).2.2.1 = some (cy6 k) := by decide +kernel
theorem cin6 : ∀ w ∈ u_ws cR6 cT6 14, w ∈ lw_all := lw_in _ [164, 166, 168, 170, 172, 174, 176, 178, 180, 182, 184, 186, 188, 190] (by decide +kernel) (by decide +kernel)
def cR7 : String := "LateJudge$Fault"
def cT7 : u_T := fun k => match k with
  | 0 => ("java/lang/Throwable", "cause", "Ljava/lang/Throwable;", false)
  | 1 => ("java/lang/Throwable", "stackTrace", "[Ljava/lang/StackTraceElement;", false)
  | 2 => ("java/lang/Throwable", "suppressedExceptions", "Ljava/util/List;", false)
  | 3 => ("java/lang/Throwable", "detailMessage", "Ljava/lang/String;", false)
  | 4 => ("java/lang/Throwable", "backtrace", "Ljava/lang/Object;", false)
  | 5 => ("LateJudge$Fault", "place", "I", false)
  | _ => ("java/lang/Throwable", "depth", "I", false)
def cy7 : Nat → FieldType := fun k => match k with
  | 0 => .object "java/lang/Throwable"
  | 1 => .array (.object "java/lang/StackTraceElement")
  | 2 => .object "java/util/List"
  | 3 => .object "java/lang/String"
  | 4 => .object "java/lang/Object"
  | 5 => .int
  | _ => .int
theorem cnm7 : ∀ a, a < 7 → ∀ b, b < 7 → a ≠ b → (cT7 a).2.1 ≠ (cT7 b).2.1 := by decide +kernel
theorem cty7 : ∀ k, k < 7 → parseFieldDescriptor (cT7 k).2.2.1 = some (cy7 k) := by decide +kernel
theorem cin7 : ∀ w ∈ u_ws cR7 cT7 7, w ∈ lw_all := lw_in _ [203, 205, 207, 209, 211, 264, 270] (by decide +kernel) (by decide +kernel)
def cR8 : String := "LateJudge$Sheet"
def cT8 : u_T := fun k => match k with
  | _ => ("LateJudge$Sheet", "row", "Ljava/lang/Object;", false)
def cy8 : Nat → FieldType := fun k => match k with
  | _ => .object "java/lang/Object"
theorem cnm8 : ∀ a, a < 1 → ∀ b, b < 1 → a ≠ b → (cT8 a).2.1 ≠ (cT8 b).2.1 := by decide +kernel
theorem cty8 : ∀ k, k < 1 → parseFieldDescriptor (cT8 k).2.2.1 = some (cy8 k) := by decide +kernel
theorem cin8 : ∀ w ∈ u_ws cR8 cT8 1, w ∈ lw_all := lw_in _ [284] (by decide +kernel) (by decide +kernel)
def cR9 : String := "LateJudgeModel"
def cT9 : u_T := fun k => match k with
  | 0 => ("LateJudgeModel", "now", "[I", true)
  | 1 => ("LateJudgeModel", "tape", "[I", true)
  | 2 => ("LateJudgeModel", "typed", "I", false)
  | 3 => ("LateJudgeModel", "place", "I", false)
  | 4 => ("LateJudgeModel", "isFault", "Z", false)
  | 5 => ("LateJudgeModel", "read", "[I", true)
  | 6 => ("LateJudgeModel", "caseRow", "[I", true)
  | 7 => ("LateJudgeModel", "undone", "[I", true)
  | 8 => ("LateJudgeModel", "undos", "I", false)
  | 9 => ("LateJudgeModel", "aside", "[I", true)
  | 10 => ("LateJudgeModel", "order", "[I", true)
  | 11 => ("LateJudgeModel", "kept", "[I", true)
  | 12 => ("LateJudgeModel", "keptUndos", "I", false)
  | 13 => ("LateJudgeModel", "isKept", "Z", false)
  | 14 => ("LateJudgeModel", "lanes", "[I", true)
  | 15 => ("LateJudgeModel", "sizes", "[I", true)
  | 16 => ("LateJudgeModel", "items", "[J", true)
  | _ => ("LateJudgeModel", "moved", "[J", true)
def cy9 : Nat → FieldType := fun k => match k with
  | 0 => .array (.int)
  | 1 => .array (.int)
  | 2 => .int
  | 3 => .int
  | 4 => .boolean
  | 5 => .array (.int)
  | 6 => .array (.int)
  | 7 => .array (.int)
  | 8 => .int
  | 9 => .array (.int)
  | 10 => .array (.int)
  | 11 => .array (.int)
  | 12 => .int
  | 13 => .boolean
  | 14 => .array (.int)
  | 15 => .array (.int)
  | 16 => .array (.long)
  | _ => .array (.long)
theorem cnm9 : ∀ a, a < 18 → ∀ b, b < 18 → a ≠ b → (cT9 a).2.1 ≠ (cT9 b).2.1 := by decide +kernel
theorem cty9 : ∀ k, k < 18 → parseFieldDescriptor (cT9 k).2.2.1 = some (cy9 k) := by decide +kernel
theorem cin9 : ∀ w ∈ u_ws cR9 cT9 18, w ∈ lw_all := lw_in _ [847, 849, 851, 853, 855, 857, 859, 861, 863, 865, 867, 869, 871, 873, 875, 877, 879, 881] (by decide +kernel) (by decide +kernel)
def cR10 : String := "java/lang/NegativeArraySizeException"
def cT10 : u_T := fun _ => ("", "", "", false)
def cy10 : Nat → FieldType := fun _ => .int
theorem cnm10 : ∀ a, a < 0 → ∀ b, b < 0 → a ≠ b → (cT10 a).2.1 ≠ (cT10 b).2.1 := by decide +kernel
theorem cty10 : ∀ k, k < 0 → parseFieldDescriptor (cT10 k).2.2.1 = some (cy10 k) := by decide +kernel
theorem cin10 : ∀ w ∈ u_ws cR10 cT10 0, w ∈ lw_all := lw_in _ [] (by decide +kernel) (by decide +kernel)
def cR11 : String := "java/lang/NullPointerException"
def cT11 : u_T := fun _ => ("", "", "", false)
def cy11 : Nat → FieldType := fun _ => .int
theorem cnm11 : ∀ a, a < 0 → ∀ b, b < 0 → a ≠ b → (cT11 a).2.1 ≠ (cT11 b).2.1 := by decide +kernel
theorem cty11 : ∀ k, k < 0 → parseFieldDescriptor (cT11 k).2.2.1 = some (cy11 k) := by decide +kernel
theorem cin11 : ∀ w ∈ u_ws cR11 cT11 0, w ∈ lw_all := lw_in _ [] (by decide +kernel) (by decide +kernel)
def cR12 : String := "java/lang/ClassCastException"
def cT12 : u_T := fun _ => ("", "", "", false)
def cy12 : Nat → FieldType := fun _ => .int
theorem cnm12 : ∀ a, a < 0 → ∀ b, b < 0 → a ≠ b → (cT12 a).2.1 ≠ (cT12 b).2.1 := by decide +kernel
theorem cty12 : ∀ k, k < 0 → parseFieldDescriptor (cT12 k).2.2.1 = some (cy12 k) := by decide +kernel
theorem cin12 : ∀ w ∈ u_ws cR12 cT12 0, w ∈ lw_all := lw_in _ [] (by decide +kernel) (by decide +kernel)
def cR13 : String := "java/lang/ArrayIndexOutOfBoundsException"
def cT13 : u_T := fun _ => ("", "", "", false)
def cy13 : Nat → FieldType := fun _ => .int
theorem cnm13 : ∀ a, a < 0 → ∀ b, b < 0 → a ≠ b → (cT13 a).2.1 ≠ (cT13 b).2.1 := by decide +kernel
theorem cty13 : ∀ k, k < 0 → parseFieldDescriptor (cT13 k).2.2.1 = some (cy13 k) := by decide +kernel
theorem cin13 : ∀ w ∈ u_ws cR13 cT13 0, w ∈ lw_all := lw_in _ [] (by decide +kernel) (by decide +kernel)
def cR14 : String := "java/lang/ArrayStoreException"
def cT14 : u_T := fun _ => ("", "", "", false)
def cy14 : Nat → FieldType := fun _ => .int
theorem cnm14 : ∀ a, a < 0 → ∀ b, b < 0 → a ≠ b → (cT14 a).2.1 ≠ (cT14 b).2.1 := by decide +kernel
theorem cty14 : ∀ k, k < 0 → parseFieldDescriptor (cT14 k).2.2.1 = some (cy14 k) := by decide +kernel
theorem cin14 : ∀ w ∈ u_ws cR14 cT14 0, w ∈ lw_all := lw_in _ [] (by decide +kernel) (by decide +kernel)
abbrev mCl : List vw_C := [(cR0, cT0, 18), (cR1, cT1, 0), (cR2, cT2, 0), (cR3, cT3, 0), (cR4, cT4, 0), (cR5, cT5, 0), (cR6, cT6, 14), (cR7, cT7, 7), (cR8, cT8, 1), (cR9, cT9, 18), (cR10, cT10, 0), (cR11, cT11, 0), (cR12, cT12, 0), (cR13, cT13, 0), (cR14, cT14, 0)]
/-- a field kind: 0 a reference, 1 an int, 2 a boolean -/
def fkT : List (List Nat) := [[0, 0, 0, 0, 1, 1, 0, 0, 1, 0, 0, 0, 0, 0, 0, 1, 2, 0], [], [], [], [], [], [0, 0, 0, 0, 0, 0, 0, 1, 1, 1, 1, 1, 1, 1], [0, 0, 0, 0, 0, 1, 1], [0], [0, 0, 1, 1, 2, 0, 0, 0, 1, 0, 0, 0, 1, 2, 0, 0, 0, 0], [], [], [], [], []]
def fk (ci j : Nat) : Nat := (fkT.getD ci []).getD j 9
def nfd (ci : Nat) : Nat := ([18, 0, 0, 0, 0, 0, 14, 7, 1, 18, 0, 0, 0, 0, 0] : List Nat).getD ci 0
def isz (ci : Nat) : Nat := ([18, 0, 0, 0, 0, 0, 14, 7, 1, 18, 6, 8, 6, 6, 6] : List Nat).getD ci 0
def atyT : List FieldType := [.int, .long, .char, .byte, .short, .object "LateJudge$State", .object "LateJudge$Plain", .object "LateJudge$Sheet"]
def aty (t : Nat) : FieldType := atyT.getD t .float
