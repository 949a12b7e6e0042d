/-! part 02: words, classes. Printed by gen/names.py -/
def xgood : List Cond := lw_tbl.filter goodWord
theorem x_good {w : Cond} (h : w ∈ lw_tbl) (g : goodWord w = true) : w ∈ xgood := List.mem_filter.mpr ⟨h, g⟩
theorem x_in1 {w : Cond} (h : w ∈ tables_1_1) : w ∈ lw_tbl := List.mem_append_right _ (List.mem_append_left _ h)
theorem x_in2 {w : Cond} (h : w ∈ tables_1_2) : w ∈ lw_tbl := List.mem_append_right _ (List.mem_append_right _ (List.mem_append_left _ h))
theorem x_in3 {w : Cond} (h : w ∈ tables_1_3) : w ∈ lw_tbl := List.mem_append_right _ (List.mem_append_right _ (List.mem_append_right _ (List.mem_append_left _ h)))
theorem x_in4 {w : Cond} (h : w ∈ tables_1_4) : w ∈ lw_tbl := List.mem_append_right _ (List.mem_append_right _ (List.mem_append_right _ (List.mem_append_right _ (List.mem_append_left _ h))))
theorem x_in5 {w : Cond} (h : w ∈ tables_1_5) : w ∈ lw_tbl := List.mem_append_right _ (List.mem_append_right _ (List.mem_append_right _ (List.mem_append_right _ (List.mem_append_right _ (List.mem_append_left _ h)))))
theorem x_in6 {w : Cond} (h : w ∈ tables_1_6) : w ∈ lw_tbl := List.mem_append_right _ (List.mem_append_right _ (List.mem_append_right _ (List.mem_append_right _ (List.mem_append_right _ (List.mem_append_right _ (List.mem_append_left _ h))))))
theorem x_in7 {w : Cond} (h : w ∈ tables_1_7) : w ∈ lw_tbl := List.mem_append_right _ (List.mem_append_right _ (List.mem_append_right _ (List.mem_append_right _ (List.mem_append_right _ (List.mem_append_right _ (List.mem_append_right _ (List.mem_append_left _ h)))))))
theorem x_in8 {w : Cond} (h : w ∈ tables_1_8) : w ∈ lw_tbl := List.mem_append_right _ (List.mem_append_right _ (List.mem_append_right _ (List.mem_append_right _ (List.mem_append_right _ (List.mem_append_right _ (List.mem_append_right _ (List.mem_append_right _ (List.mem_append_left _ h))))))))
theorem x_in9 {w : Cond} (h : w ∈ tables_1_9) : w ∈ lw_tbl := List.mem_append_right _ (List.mem_append_right _ (List.mem_append_right _ (List.mem_append_right _ (List.mem_append_right _ (List.mem_append_right _ (List.mem_append_right _ (List.mem_append_right _ (List.mem_append_right _ (List.mem_append_left _ h)))))))))
theorem x_in10 {w : Cond} (h : w ∈ tables_1_10) : w ∈ lw_tbl := List.mem_append_right _ (List.mem_append_right _ (List.mem_append_right _ (List.mem_append_right _ (List.mem_append_right _ (List.mem_append_right _ (List.mem_append_right _ (List.mem_append_right _ (List.mem_append_right _ (List.mem_append_right _ (h))))))))))
def xF_ProgramChecker : u_T := fun k => match k with
  | 0 => ("ProgramChecker", "checker", "LProgramChecker$Checker;", true)
  | _ => ("ProgramChecker", "tape", "LProgramChecker$Program;", true)
def xt_ProgramChecker : Nat → FieldType := fun k => match k with
  | 0 => .object "ProgramChecker$Checker"
  | _ => .object "ProgramChecker$Program"
def xF_Checker : u_T := fun k => match k with
  | 0 => ("ProgramChecker$Checker", "program", "LProgramChecker$Program;", true)
  | 1 => ("ProgramChecker$Checker", "form", "LProgramChecker$FormCheck;", true)
  | 2 => ("ProgramChecker$Checker", "maps", "LProgramChecker$Maps;", true)
  | 3 => ("ProgramChecker$Checker", "reckoner", "LProgramChecker$Reckoner;", true)
  | 4 => ("ProgramChecker$Checker", "transfer", "LProgramChecker$Transfer;", true)
  | 5 => ("ProgramChecker$Checker", "states", "[LProgramChecker$State;", true)
  | 6 => ("ProgramChecker$Checker", "out", "LProgramChecker$Thing;", true)
  | 7 => ("ProgramChecker$Checker", "reason", "I", false)
  | 8 => ("ProgramChecker$Checker", "passes", "I", false)
  | _ => ("ProgramChecker$Checker", "grew", "Z", false)
def xt_Checker : Nat → FieldType := fun k => match k with
  | 0 => .object "ProgramChecker$Program"
  | 1 => .object "ProgramChecker$FormCheck"
  | 2 => .object "ProgramChecker$Maps"
  | 3 => .object "ProgramChecker$Reckoner"
  | 4 => .object "ProgramChecker$Transfer"
  | 5 => .array (.object "ProgramChecker$State")
  | 6 => .object "ProgramChecker$Thing"
  | 7 => .int
  | 8 => .int
  | _ => .boolean
def xF_Program : u_T := fun k => match k with
  | 0 => ("ProgramChecker$Program", "bytes", "[B", true)
  | 1 => ("ProgramChecker$Program", "size", "I", false)
  | 2 => ("ProgramChecker$Program", "places", "I", false)
  | _ => ("ProgramChecker$Program", "isSecond", "[Z", true)
def xt_Program : Nat → FieldType := fun k => match k with
  | 0 => .array .byte
  | 1 => .int
  | 2 => .int
  | _ => .array .boolean
def xF_FormCheck : u_T := fun k => match k with
  | _ => ("ProgramChecker$FormCheck", "p", "LProgramChecker$Program;", true)
def xt_FormCheck : Nat → FieldType := fun k => match k with
  | _ => .object "ProgramChecker$Program"
def xF_Maps : u_T := fun k => match k with
  | 0 => ("ProgramChecker$Maps", "kinds", "[I", true)
  | 1 => ("ProgramChecker$Maps", "keys", "[I", true)
  | _ => ("ProgramChecker$Maps", "values", "[I", true)
def xt_Maps : Nat → FieldType := fun k => match k with
  | 0 => .array .int
  | 1 => .array .int
  | _ => .array .int
def xF_Reckoner : u_T := fun k => match k with
  | 0 => ("ProgramChecker$Reckoner", "press", "LProgramChecker$Sieve$Press;", true)
  | 1 => ("ProgramChecker$Reckoner", "refiner", "LProgramChecker$Sieve$Refiner;", true)
  | 2 => ("ProgramChecker$Reckoner", "operations", "[LProgramChecker$Sieve$Operation;", true)
  | 3 => ("ProgramChecker$Reckoner", "first", "LProgramChecker$Sieve$Value;", true)
  | 4 => ("ProgramChecker$Reckoner", "second", "LProgramChecker$Sieve$Value;", true)
  | _ => ("ProgramChecker$Reckoner", "out", "LProgramChecker$Sieve$Value;", true)
def xt_Reckoner : Nat → FieldType := fun k => match k with
  | 0 => .object "ProgramChecker$Sieve$Press"
  | 1 => .object "ProgramChecker$Sieve$Refiner"
  | 2 => .array (.object "ProgramChecker$Sieve$Operation")
  | 3 => .object "ProgramChecker$Sieve$Value"
  | 4 => .object "ProgramChecker$Sieve$Value"
  | _ => .object "ProgramChecker$Sieve$Value"
def xF_Press : u_T := fun k => match k with
  | 0 => ("ProgramChecker$Sieve$Press", "above", "LProgramChecker$Sieve$Piece;", true)
  | _ => ("ProgramChecker$Sieve$Press", "below", "LProgramChecker$Sieve$Piece;", true)
def xt_Press : Nat → FieldType := fun k => match k with
  | 0 => .object "ProgramChecker$Sieve$Piece"
  | _ => .object "ProgramChecker$Sieve$Piece"
def xF_Piece : u_T := fun k => match k with
  | 0 => ("ProgramChecker$Sieve$Piece", "is", "Z", false)
  | 1 => ("ProgramChecker$Sieve$Piece", "first", "J", false)
  | 2 => ("ProgramChecker$Sieve$Piece", "last", "J", false)
  | _ => ("ProgramChecker$Sieve$Piece", "found", "Z", false)
def xt_Piece : Nat → FieldType := fun k => match k with
  | 0 => .boolean
  | 1 => .long
  | 2 => .long
  | _ => .boolean
def xF_Refiner : u_T := fun k => match k with
  | 0 => ("ProgramChecker$Sieve$Refiner", "press", "LProgramChecker$Sieve$Press;", true)
  | 1 => ("ProgramChecker$Sieve$Refiner", "x", "LProgramChecker$Sieve$Value;", true)
  | _ => ("ProgramChecker$Sieve$Refiner", "y", "LProgramChecker$Sieve$Value;", true)
def xt_Refiner : Nat → FieldType := fun k => match k with
  | 0 => .object "ProgramChecker$Sieve$Press"
  | 1 => .object "ProgramChecker$Sieve$Value"
  | _ => .object "ProgramChecker$Sieve$Value"
def xF_Value : u_T := fun k => match k with
  | 0 => ("ProgramChecker$Sieve$Value", "bits", "J", false)
  | 1 => ("ProgramChecker$Sieve$Value", "unknown", "J", false)
  | 2 => ("ProgramChecker$Sieve$Value", "low", "J", false)
  | 3 => ("ProgramChecker$Sieve$Value", "high", "J", false)
  | 4 => ("ProgramChecker$Sieve$Value", "least", "J", false)
  | _ => ("ProgramChecker$Sieve$Value", "greatest", "J", false)
def xt_Value : Nat → FieldType := fun k => match k with
  | 0 => .long
  | 1 => .long
  | 2 => .long
  | 3 => .long
  | 4 => .long
  | _ => .long
def xF_Add : u_T := fun k => match k with
  | _ => ("", "", "", false)
def xt_Add : Nat → FieldType := fun k => match k with
  | _ => .int
def xF_Subtract : u_T := fun k => match k with
  | _ => ("", "", "", false)
def xt_Subtract : Nat → FieldType := fun k => match k with
  | _ => .int
def xF_Multiply : u_T := fun k => match k with
  | _ => ("", "", "", false)
def xt_Multiply : Nat → FieldType := fun k => match k with
  | _ => .int
def xF_Divide : u_T := fun k => match k with
  | _ => ("", "", "", false)
def xt_Divide : Nat → FieldType := fun k => match k with
  | _ => .int
def xF_Rest : u_T := fun k => match k with
  | _ => ("", "", "", false)
def xt_Rest : Nat → FieldType := fun k => match k with
  | _ => .int
def xF_And : u_T := fun k => match k with
  | _ => ("", "", "", false)
def xt_And : Nat → FieldType := fun k => match k with
  | _ => .int
def xF_Or : u_T := fun k => match k with
  | _ => ("", "", "", false)
def xt_Or : Nat → FieldType := fun k => match k with
  | _ => .int
def xF_Xor : u_T := fun k => match k with
  | _ => ("", "", "", false)
def xt_Xor : Nat → FieldType := fun k => match k with
  | _ => .int
def xF_Left : u_T := fun k => match k with
  | _ => ("", "", "", false)
def xt_Left : Nat → FieldType := fun k => match k with
  | _ => .int
def xF_Right : u_T := fun k => match k with
  | _ => ("", "", "", false)
def xt_Right : Nat → FieldType := fun k => match k with
  | _ => .int
def xF_SignedRight : u_T := fun k => match k with
  | _ => ("", "", "", false)
def xt_SignedRight : Nat → FieldType := fun k => match k with
  | _ => .int
def xF_Move : u_T := fun k => match k with
  | _ => ("", "", "", false)
def xt_Move : Nat → FieldType := fun k => match k with
  | _ => .int
def xF_Transfer : u_T := fun k => match k with
  | 0 => ("ProgramChecker$Transfer", "p", "LProgramChecker$Program;", true)
  | 1 => ("ProgramChecker$Transfer", "maps", "LProgramChecker$Maps;", true)
  | 2 => ("ProgramChecker$Transfer", "reckoner", "LProgramChecker$Reckoner;", true)
  | 3 => ("ProgramChecker$Transfer", "now", "LProgramChecker$State;", true)
  | 4 => ("ProgramChecker$Transfer", "far", "LProgramChecker$State;", true)
  | 5 => ("ProgramChecker$Transfer", "goesOn", "Z", false)
  | 6 => ("ProgramChecker$Transfer", "goesFar", "Z", false)
  | 7 => ("ProgramChecker$Transfer", "constant", "LProgramChecker$Thing;", true)
  | 8 => ("ProgramChecker$Transfer", "scratch", "LProgramChecker$Thing;", true)
  | _ => ("ProgramChecker$Transfer", "byteAt", "I", false)
def xt_Transfer : Nat → FieldType := fun k => match k with
  | 0 => .object "ProgramChecker$Program"
  | 1 => .object "ProgramChecker$Maps"
  | 2 => .object "ProgramChecker$Reckoner"
  | 3 => .object "ProgramChecker$State"
  | 4 => .object "ProgramChecker$State"
  | 5 => .boolean
  | 6 => .boolean
  | 7 => .object "ProgramChecker$Thing"
  | 8 => .object "ProgramChecker$Thing"
  | _ => .int
def xF_State : u_T := fun k => match k with
  | 0 => ("ProgramChecker$State", "things", "[LProgramChecker$Thing;", true)
  | 1 => ("ProgramChecker$State", "known", "I", false)
  | 2 => ("ProgramChecker$State", "is", "Z", false)
  | 3 => ("ProgramChecker$State", "changes", "I", false)
  | _ => ("ProgramChecker$State", "done", "Z", false)
def xt_State : Nat → FieldType := fun k => match k with
  | 0 => .array (.object "ProgramChecker$Thing")
  | 1 => .int
  | 2 => .boolean
  | 3 => .int
  | _ => .boolean
def xF_Thing : u_T := fun k => match k with
  | 0 => ("ProgramChecker$Thing", "sort", "I", false)
  | 1 => ("ProgramChecker$Thing", "detail", "I", false)
  | 2 => ("ProgramChecker$Thing", "origin", "I", false)
  | _ => ("ProgramChecker$Thing", "value", "LProgramChecker$Sieve$Value;", true)
def xt_Thing : Nat → FieldType := fun k => match k with
  | 0 => .int
  | 1 => .int
  | 2 => .int
  | _ => .object "ProgramChecker$Sieve$Value"
def xF_ProgramCheckerModel : u_T := fun k => match k with
  | 0 => ("ProgramCheckerModel", "thrown", "I", false)
  | 1 => ("ProgramCheckerModel", "tape", "[I", true)
  | 2 => ("ProgramCheckerModel", "taped", "I", false)
  | 3 => ("ProgramCheckerModel", "program", "[I", true)
  | 4 => ("ProgramCheckerModel", "places", "I", false)
  | 5 => ("ProgramCheckerModel", "reason", "I", false)
  | 6 => ("ProgramCheckerModel", "passes", "I", false)
  | 7 => ("ProgramCheckerModel", "kinds", "[I", true)
  | 8 => ("ProgramCheckerModel", "keys", "[I", true)
  | 9 => ("ProgramCheckerModel", "values", "[I", true)
  | 10 => ("ProgramCheckerModel", "has", "[Z", true)
  | 11 => ("ProgramCheckerModel", "known", "[I", true)
  | 12 => ("ProgramCheckerModel", "changes", "[I", true)
  | 13 => ("ProgramCheckerModel", "sort", "[I", true)
  | 14 => ("ProgramCheckerModel", "detail", "[I", true)
  | 15 => ("ProgramCheckerModel", "origin", "[I", true)
  | 16 => ("ProgramCheckerModel", "sets", "LProgramCheckerModel$Sets;", true)
  | 17 => ("ProgramCheckerModel", "changed", "Z", false)
  | 18 => ("ProgramCheckerModel", "from", "I", false)
  | 19 => ("ProgramCheckerModel", "code", "I", false)
  | 20 => ("ProgramCheckerModel", "d", "I", false)
  | 21 => ("ProgramCheckerModel", "s", "I", false)
  | 22 => ("ProgramCheckerModel", "o", "I", false)
  | _ => ("ProgramCheckerModel", "i", "I", false)
def xt_ProgramCheckerModel : Nat → FieldType := fun k => match k with
  | 0 => .int
  | 1 => .array .int
  | 2 => .int
  | 3 => .array .int
  | 4 => .int
  | 5 => .int
  | 6 => .int
  | 7 => .array .int
  | 8 => .array .int
  | 9 => .array .int
  | 10 => .array .boolean
  | 11 => .array .int
  | 12 => .array .int
  | 13 => .array .int
  | 14 => .array .int
  | 15 => .array .int
  | 16 => .object "ProgramCheckerModel$Sets"
  | 17 => .boolean
  | 18 => .int
  | 19 => .int
  | 20 => .int
  | 21 => .int
  | 22 => .int
  | _ => .int
def xF_Sets : u_T := fun k => match k with
  | 0 => ("ProgramCheckerModel$Sets", "bits", "[J", true)
  | 1 => ("ProgramCheckerModel$Sets", "open", "[J", true)
  | 2 => ("ProgramCheckerModel$Sets", "low", "[J", true)
  | 3 => ("ProgramCheckerModel$Sets", "high", "[J", true)
  | 4 => ("ProgramCheckerModel$Sets", "least", "[J", true)
  | 5 => ("ProgramCheckerModel$Sets", "greatest", "[J", true)
  | _ => ("ProgramCheckerModel$Sets", "empty", "[Z", true)
def xt_Sets : Nat → FieldType := fun k => match k with
  | 0 => .array .long
  | 1 => .array .long
  | 2 => .array .long
  | 3 => .array .long
  | 4 => .array .long
  | 5 => .array .long
  | _ => .array .boolean
def xF_IllegalStateException : u_T := fun k => match k with
  | _ => ("", "", "", false)
def xt_IllegalStateException : Nat → FieldType := fun k => match k with
  | _ => .int
def xF_IllegalArgumentException : u_T := fun k => match k with
  | _ => ("", "", "", false)
def xt_IllegalArgumentException : Nat → FieldType := fun k => match k with
  | _ => .int
def xF_IndexOutOfBoundsException : u_T := fun k => match k with
  | _ => ("", "", "", false)
def xt_IndexOutOfBoundsException : Nat → FieldType := fun k => match k with
  | _ => .int
abbrev xcl : List vw_C := [("ProgramChecker", xF_ProgramChecker, 2), ("ProgramChecker$Checker", xF_Checker, 10), ("ProgramChecker$Program", xF_Program, 4), ("ProgramChecker$FormCheck", xF_FormCheck, 1), ("ProgramChecker$Maps", xF_Maps, 3), ("ProgramChecker$Reckoner", xF_Reckoner, 6), ("ProgramChecker$Sieve$Press", xF_Press, 2), ("ProgramChecker$Sieve$Piece", xF_Piece, 4), ("ProgramChecker$Sieve$Refiner", xF_Refiner, 3), ("ProgramChecker$Sieve$Value", xF_Value, 6), ("ProgramChecker$Sieve$Add", xF_Add, 0), ("ProgramChecker$Sieve$Subtract", xF_Subtract, 0), ("ProgramChecker$Sieve$Multiply", xF_Multiply, 0), ("ProgramChecker$Sieve$Divide", xF_Divide, 0), ("ProgramChecker$Sieve$Rest", xF_Rest, 0), ("ProgramChecker$Sieve$And", xF_And, 0), ("ProgramChecker$Sieve$Or", xF_Or, 0), ("ProgramChecker$Sieve$Xor", xF_Xor, 0), ("ProgramChecker$Sieve$Left", xF_Left, 0), ("ProgramChecker$Sieve$Right", xF_Right, 0), ("ProgramChecker$Sieve$SignedRight", xF_SignedRight, 0), ("ProgramChecker$Sieve$Move", xF_Move, 0), ("ProgramChecker$Transfer", xF_Transfer, 10), ("ProgramChecker$State", xF_State, 5), ("ProgramChecker$Thing", xF_Thing, 4), ("ProgramCheckerModel", xF_ProgramCheckerModel, 24), ("ProgramCheckerModel$Sets", xF_Sets, 7), ("java/lang/IllegalStateException", xF_IllegalStateException, 0), ("java/lang/IllegalArgumentException", xF_IllegalArgumentException, 0), ("java/lang/IndexOutOfBoundsException", xF_IndexOutOfBoundsException, 0)]
abbrev xcT : List (Nat → FieldType) := [xt_ProgramChecker, xt_Checker, xt_Program, xt_FormCheck, xt_Maps, xt_Reckoner, xt_Press, xt_Piece, xt_Refiner, xt_Value, xt_Add, xt_Subtract, xt_Multiply, xt_Divide, xt_Rest, xt_And, xt_Or, xt_Xor, xt_Left, xt_Right, xt_SignedRight, xt_Move, xt_Transfer, xt_State, xt_Thing, xt_ProgramCheckerModel, xt_Sets, xt_IllegalStateException, xt_IllegalArgumentException, xt_IndexOutOfBoundsException]
/-- the kinds of fields: 0 int, 1 long, 2 reference, 3 boolean -/
def xft : List (List Nat) := [[2, 2], [2, 2, 2, 2, 2, 2, 2, 0, 0, 3], [2, 0, 0, 2], [2], [2, 2, 2], [2, 2, 2, 2, 2, 2], [2, 2], [3, 1, 1, 3], [2, 2, 2], [1, 1, 1, 1, 1, 1], [], [], [], [], [], [], [], [], [], [], [], [], [2, 2, 2, 2, 2, 3, 3, 2, 2, 0], [2, 0, 3, 0, 3], [0, 0, 0, 2], [0, 2, 0, 2, 0, 0, 0, 2, 2, 2, 2, 2, 2, 2, 2, 2, 2, 3, 0, 0, 0, 0, 0, 0], [2, 2, 2, 2, 2, 2, 2], [], [], []]
theorem xn_ProgramChecker : ∀ a, a < 2 → ∀ b, b < 2 → a ≠ b → (xF_ProgramChecker a).2.1 ≠ (xF_ProgramChecker b).2.1 := by decide +kernel
theorem xty_ProgramChecker : ∀ k, k < 2 → parseFieldDescriptor (xF_ProgramChecker k).2.2.1 = some (xt_ProgramChecker k) := by decide +kernel
theorem xw_ProgramChecker : ∀ w ∈ u_ws "ProgramChecker" xF_ProgramChecker 2, w ∈ xgood := show ∀ w ∈ [Cond.laysFinal "ProgramChecker" "ProgramChecker" "checker" "LProgramChecker$Checker;", Cond.laysFinal "ProgramChecker" "ProgramChecker" "tape" "LProgramChecker$Program;"], w ∈ xgood from List.forall_mem_cons.mpr ⟨x_good (x_in3 (List.mem_of_getElem? (i := 59) rfl)) rfl, List.forall_mem_cons.mpr ⟨x_good (x_in3 (List.mem_of_getElem? (i := 61) rfl)) rfl, fun _ h => absurd h List.not_mem_nil⟩⟩
theorem xn_Checker : ∀ a, a < 10 → ∀ b, b < 10 → a ≠ b → (xF_Checker a).2.1 ≠ (xF_Checker b).2.1 := by decide +kernel
theorem xty_Checker : ∀ k, k < 10 → parseFieldDescriptor (xF_Checker k).2.2.1 = some (xt_Checker k) := by decide +kernel
theorem xw_Checker : ∀ w ∈ u_ws "ProgramChecker$Checker" xF_Checker 10, w ∈ xgood := show ∀ w ∈ [Cond.laysFinal "ProgramChecker$Checker" "ProgramChecker$Checker" "program" "LProgramChecker$Program;", Cond.laysFinal "ProgramChecker$Checker" "ProgramChecker$Checker" "form" "LProgramChecker$FormCheck;", Cond.laysFinal "ProgramChecker$Checker" "ProgramChecker$Checker" "maps" "LProgramChecker$Maps;", Cond.laysFinal "ProgramChecker$Checker" "ProgramChecker$Checker" "reckoner" "LProgramChecker$Reckoner;", Cond.laysFinal "ProgramChecker$Checker" "ProgramChecker$Checker" "transfer" "LProgramChecker$Transfer;", Cond.laysFinal "ProgramChecker$Checker" "ProgramChecker$Checker" "states" "[LProgramChecker$State;", Cond.laysFinal "ProgramChecker$Checker" "ProgramChecker$Checker" "out" "LProgramChecker$Thing;", Cond.lays "ProgramChecker$Checker" "ProgramChecker$Checker" "reason" "I", Cond.lays "ProgramChecker$Checker" "ProgramChecker$Checker" "passes" "I", Cond.lays "ProgramChecker$Checker" "ProgramChecker$Checker" "grew" "Z"], w ∈ xgood from List.forall_mem_cons.mpr ⟨x_good (x_in3 (List.mem_of_getElem? (i := 34) rfl)) rfl, List.forall_mem_cons.mpr ⟨x_good (x_in3 (List.mem_of_getElem? (i := 36) rfl)) rfl, List.forall_mem_cons.mpr ⟨x_good (x_in3 (List.mem_of_getElem? (i := 38) rfl)) rfl, List.forall_mem_cons.mpr ⟨x_good (x_in3 (List.mem_of_getElem? (i := 40) rfl)) rfl, List.forall_mem_cons.mpr ⟨x_good (x_in3 (List.mem_of_getElem? (i := 42) rfl)) rfl, List.forall_mem_cons.mpr ⟨x_good (x_in3 (List.mem_of_getElem? (i := 44) rfl)) rfl, List.forall_mem_cons.mpr ⟨x_good (x_in3 (List.mem_of_getElem? (i := 46) rfl)) rfl, List.forall_mem_cons.mpr ⟨x_good (x_in3 (List.mem_of_getElem? (i := 48) rfl)) rfl, List.forall_mem_cons.mpr ⟨x_good (x_in3 (List.mem_of_getElem? (i := 50) rfl)) rfl, List.forall_mem_cons.mpr ⟨x_good (x_in3 (List.mem_of_getElem? (i := 52) rfl)) rfl, fun _ h => absurd h List.not_mem_nil⟩⟩⟩⟩⟩⟩⟩⟩⟩⟩
theorem xn_Program : ∀ a, a < 4 → ∀ b, b < 4 → a ≠ b → (xF_Program a).2.1 ≠ (xF_Program b).2.1 := by decide +kernel
theorem xty_Program : ∀ k, k < 4 → parseFieldDescriptor (xF_Program k).2.2.1 = some (xt_Program k) := by decide +kernel
theorem xw_Program : ∀ w ∈ u_ws "ProgramChecker$Program" xF_Program 4, w ∈ xgood := show ∀ w ∈ [Cond.laysFinal "ProgramChecker$Program" "ProgramChecker$Program" "bytes" "[B", Cond.lays "ProgramChecker$Program" "ProgramChecker$Program" "size" "I", Cond.lays "ProgramChecker$Program" "ProgramChecker$Program" "places" "I", Cond.laysFinal "ProgramChecker$Program" "ProgramChecker$Program" "isSecond" "[Z"], w ∈ xgood from List.forall_mem_cons.mpr ⟨x_good (x_in1 (List.mem_of_getElem? (i := 73) rfl)) rfl, List.forall_mem_cons.mpr ⟨x_good (x_in1 (List.mem_of_getElem? (i := 75) rfl)) rfl, List.forall_mem_cons.mpr ⟨x_good (x_in1 (List.mem_of_getElem? (i := 77) rfl)) rfl, List.forall_mem_cons.mpr ⟨x_good (x_in1 (List.mem_of_getElem? (i := 79) rfl)) rfl, fun _ h => absurd h List.not_mem_nil⟩⟩⟩⟩
theorem xn_FormCheck : ∀ a, a < 1 → ∀ b, b < 1 → a ≠ b → (xF_FormCheck a).2.1 ≠ (xF_FormCheck b).2.1 := by decide +kernel
theorem xty_FormCheck : ∀ k, k < 1 → parseFieldDescriptor (xF_FormCheck k).2.2.1 = some (xt_FormCheck k) := by decide +kernel
theorem xw_FormCheck : ∀ w ∈ u_ws "ProgramChecker$FormCheck" xF_FormCheck 1, w ∈ xgood := show ∀ w ∈ [Cond.laysFinal "ProgramChecker$FormCheck" "ProgramChecker$FormCheck" "p" "LProgramChecker$Program;"], w ∈ xgood from List.forall_mem_cons.mpr ⟨x_good (x_in1 (List.mem_of_getElem? (i := 91) rfl)) rfl, fun _ h => absurd h List.not_mem_nil⟩
theorem xn_Maps : ∀ a, a < 3 → ∀ b, b < 3 → a ≠ b → (xF_Maps a).2.1 ≠ (xF_Maps b).2.1 := by decide +kernel
theorem xty_Maps : ∀ k, k < 3 → parseFieldDescriptor (xF_Maps k).2.2.1 = some (xt_Maps k) := by decide +kernel
theorem xw_Maps : ∀ w ∈ u_ws "ProgramChecker$Maps" xF_Maps 3, w ∈ xgood := show ∀ w ∈ [Cond.laysFinal "ProgramChecker$Maps" "ProgramChecker$Maps" "kinds" "[I", Cond.laysFinal "ProgramChecker$Maps" "ProgramChecker$Maps" "keys" "[I", Cond.laysFinal "ProgramChecker$Maps" "ProgramChecker$Maps" "values" "[I"], w ∈ xgood from List.forall_mem_cons.mpr ⟨x_good (x_in1 (List.mem_of_getElem? (i := 109) rfl)) rfl, List.forall_mem_cons.mpr ⟨x_good (x_in1 (List.mem_of_getElem? (i := 111) rfl)) rfl, List.forall_mem_cons.mpr ⟨x_good (x_in1 (List.mem_of_getElem? (i := 113) rfl)) rfl, fun _ h => absurd h List.not_mem_nil⟩⟩⟩
theorem xn_Reckoner : ∀ a, a < 6 → ∀ b, b < 6 → a ≠ b → (xF_Reckoner a).2.1 ≠ (xF_Reckoner b).2.1 := by decide +kernel
theorem xty_Reckoner : ∀ k, k < 6 → parseFieldDescriptor (xF_Reckoner k).2.2.1 = some (xt_Reckoner k) := by decide +kernel
theorem xw_Reckoner : ∀ w ∈ u_ws "ProgramChecker$Reckoner" xF_Reckoner 6, w ∈ xgood := show ∀ w ∈ [Cond.laysFinal "ProgramChecker$Reckoner" "ProgramChecker$Reckoner" "press" "LProgramChecker$Sieve$Press;", Cond.laysFinal "ProgramChecker$Reckoner" "ProgramChecker$Reckoner" "refiner" "LProgramChecker$Sieve$Refiner;", Cond.laysFinal "ProgramChecker$Reckoner" "ProgramChecker$Reckoner" "operations" "[LProgramChecker$Sieve$Operation;", Cond.laysFinal "ProgramChecker$Reckoner" "ProgramChecker$Reckoner" "first" "LProgramChecker$Sieve$Value;", Cond.laysFinal "ProgramChecker$Reckoner" "ProgramChecker$Reckoner" "second" "LProgramChecker$Sieve$Value;", Cond.laysFinal "ProgramChecker$Reckoner" "ProgramChecker$Reckoner" "out" "LProgramChecker$Sieve$Value;"], w ∈ xgood from List.forall_mem_cons.mpr ⟨x_good (x_in2 (List.mem_of_getElem? (i := 141) rfl)) rfl, List.forall_mem_cons.mpr ⟨x_good (x_in2 (List.mem_of_getElem? (i := 143) rfl)) rfl, List.forall_mem_cons.mpr ⟨x_good (x_in2 (List.mem_of_getElem? (i := 145) rfl)) rfl, List.forall_mem_cons.mpr ⟨x_good (x_in2 (List.mem_of_getElem? (i := 147) rfl)) rfl, List.forall_mem_cons.mpr ⟨x_good (x_in2 (List.mem_of_getElem? (i := 149) rfl)) rfl, List.forall_mem_cons.mpr ⟨x_good (x_in2 (List.mem_of_getElem? (i := 151) rfl)) rfl, fun _ h => absurd h List.not_mem_nil⟩⟩⟩⟩⟩⟩
theorem xn_Press : ∀ a, a < 2 → ∀ b, b < 2 → a ≠ b → (xF_Press a).2.1 ≠ (xF_Press b).2.1 := by decide +kernel
theorem xty_Press : ∀ k, k < 2 → parseFieldDescriptor (xF_Press k).2.2.1 = some (xt_Press k) := by decide +kernel
theorem xw_Press : ∀ w ∈ u_ws "ProgramChecker$Sieve$Press" xF_Press 2, w ∈ xgood := show ∀ w ∈ [Cond.laysFinal "ProgramChecker$Sieve$Press" "ProgramChecker$Sieve$Press" "above" "LProgramChecker$Sieve$Piece;", Cond.laysFinal "ProgramChecker$Sieve$Press" "ProgramChecker$Sieve$Press" "below" "LProgramChecker$Sieve$Piece;"], w ∈ xgood from List.forall_mem_cons.mpr ⟨x_good (x_in1 (List.mem_of_getElem? (i := 153) rfl)) rfl, List.forall_mem_cons.mpr ⟨x_good (x_in1 (List.mem_of_getElem? (i := 155) rfl)) rfl, fun _ h => absurd h List.not_mem_nil⟩⟩
theorem xn_Piece : ∀ a, a < 4 → ∀ b, b < 4 → a ≠ b → (xF_Piece a).2.1 ≠ (xF_Piece b).2.1 := by decide +kernel
theorem xty_Piece : ∀ k, k < 4 → parseFieldDescriptor (xF_Piece k).2.2.1 = some (xt_Piece k) := by decide +kernel
theorem xw_Piece : ∀ w ∈ u_ws "ProgramChecker$Sieve$Piece" xF_Piece 4, w ∈ xgood := show ∀ w ∈ [Cond.lays "ProgramChecker$Sieve$Piece" "ProgramChecker$Sieve$Piece" "is" "Z", Cond.lays "ProgramChecker$Sieve$Piece" "ProgramChecker$Sieve$Piece" "first" "J", Cond.lays "ProgramChecker$Sieve$Piece" "ProgramChecker$Sieve$Piece" "last" "J", Cond.lays "ProgramChecker$Sieve$Piece" "ProgramChecker$Sieve$Piece" "found" "Z"], w ∈ xgood from List.forall_mem_cons.mpr ⟨x_good (x_in1 (List.mem_of_getElem? (i := 142) rfl)) rfl, List.forall_mem_cons.mpr ⟨x_good (x_in1 (List.mem_of_getElem? (i := 144) rfl)) rfl, List.forall_mem_cons.mpr ⟨x_good (x_in1 (List.mem_of_getElem? (i := 146) rfl)) rfl, List.forall_mem_cons.mpr ⟨x_good (x_in1 (List.mem_of_getElem? (i := 148) rfl)) rfl, fun _ h => absurd h List.not_mem_nil⟩⟩⟩⟩
theorem xn_Refiner : ∀ a, a < 3 → ∀ b, b < 3 → a ≠ b → (xF_Refiner a).2.1 ≠ (xF_Refiner b).2.1 := by decide +kernel
theorem xty_Refiner : ∀ k, k < 3 → parseFieldDescriptor (xF_Refiner k).2.2.1 = some (xt_Refiner k) := by decide +kernel
theorem xw_Refiner : ∀ w ∈ u_ws "ProgramChecker$Sieve$Refiner" xF_Refiner 3, w ∈ xgood := show ∀ w ∈ [Cond.laysFinal "ProgramChecker$Sieve$Refiner" "ProgramChecker$Sieve$Refiner" "press" "LProgramChecker$Sieve$Press;", Cond.laysFinal "ProgramChecker$Sieve$Refiner" "ProgramChecker$Sieve$Refiner" "x" "LProgramChecker$Sieve$Value;", Cond.laysFinal "ProgramChecker$Sieve$Refiner" "ProgramChecker$Sieve$Refiner" "y" "LProgramChecker$Sieve$Value;"], w ∈ xgood from List.forall_mem_cons.mpr ⟨x_good (x_in2 (List.mem_of_getElem? (i := 33) rfl)) rfl, List.forall_mem_cons.mpr ⟨x_good (x_in2 (List.mem_of_getElem? (i := 35) rfl)) rfl, List.forall_mem_cons.mpr ⟨x_good (x_in2 (List.mem_of_getElem? (i := 37) rfl)) rfl, fun _ h => absurd h List.not_mem_nil⟩⟩⟩
theorem xn_Value : ∀ a, a < 6 → ∀ b, b < 6 → a ≠ b → (xF_Value a).2.1 ≠ (xF_Value b).2.1 := by decide +kernel
theorem xty_Value : ∀ k, k < 6 → parseFieldDescriptor (xF_Value k).2.2.1 = some (xt_Value k) := by decide +kernel
theorem xw_Value : ∀ w ∈ u_ws "ProgramChecker$Sieve$Value" xF_Value 6, w ∈ xgood := show ∀ w ∈ [Cond.lays "ProgramChecker$Sieve$Value" "ProgramChecker$Sieve$Value" "bits" "J", Cond.lays "ProgramChecker$Sieve$Value" "ProgramChecker$Sieve$Value" "unknown" "J", Cond.lays "ProgramChecker$Sieve$Value" "ProgramChecker$Sieve$Value" "low" "J", Cond.lays "ProgramChecker$Sieve$Value" "ProgramChecker$Sieve$Value" "high" "J", Cond.lays "ProgramChecker$Sieve$Value" "ProgramChecker$Sieve$Value" "least" "J", Cond.lays "ProgramChecker$Sieve$Value" "ProgramChecker$Sieve$Value" "greatest" "J"], w ∈ xgood from List.forall_mem_cons.mpr ⟨x_good (x_in2 (List.mem_of_getElem? (i := 15) rfl)) rfl, List.forall_mem_cons.mpr ⟨x_good (x_in2 (List.mem_of_getElem? (i := 17) rfl)) rfl, List.forall_mem_cons.mpr ⟨x_good (x_in2 (List.mem_of_getElem? (i := 19) rfl)) rfl, List.forall_mem_cons.mpr ⟨x_good (x_in2 (List.mem_of_getElem? (i := 21) rfl)) rfl, List.forall_mem_cons.mpr ⟨x_good (x_in2 (List.mem_of_getElem? (i := 23) rfl)) rfl, List.forall_mem_cons.mpr ⟨x_good (x_in2 (List.mem_of_getElem? (i := 25) rfl)) rfl, fun _ h => absurd h List.not_mem_nil⟩⟩⟩⟩⟩⟩
theorem xn_Add : ∀ a, a < 0 → ∀ b, b < 0 → a ≠ b → (xF_Add a).2.1 ≠ (xF_Add b).2.1 := by decide +kernel
theorem xty_Add : ∀ k, k < 0 → parseFieldDescriptor (xF_Add k).2.2.1 = some (xt_Add k) := by decide +kernel
theorem xw_Add : ∀ w ∈ u_ws "ProgramChecker$Sieve$Add" xF_Add 0, w ∈ xgood := fun w h => by simp [u_ws] at h
theorem xn_Subtract : ∀ a, a < 0 → ∀ b, b < 0 → a ≠ b → (xF_Subtract a).2.1 ≠ (xF_Subtract b).2.1 := by decide +kernel
theorem xty_Subtract : ∀ k, k < 0 → parseFieldDescriptor (xF_Subtract k).2.2.1 = some (xt_Subtract k) := by decide +kernel
theorem xw_Subtract : ∀ w ∈ u_ws "ProgramChecker$Sieve$Subtract" xF_Subtract 0, w ∈ xgood := fun w h => by simp [u_ws] at h
theorem xn_Multiply : ∀ a, a < 0 → ∀ b, b < 0 → a ≠ b → (xF_Multiply a).2.1 ≠ (xF_Multiply b).2.1 := by decide +kernel
theorem xty_Multiply : ∀ k, k < 0 → parseFieldDescriptor (xF_Multiply k).2.2.1 = some (xt_Multiply k) := by decide +kernel
theorem xw_Multiply : ∀ w ∈ u_ws "ProgramChecker$Sieve$Multiply" xF_Multiply 0, w ∈ xgood := fun w h => by simp [u_ws] at h
theorem xn_Divide : ∀ a, a < 0 → ∀ b, b < 0 → a ≠ b → (xF_Divide a).2.1 ≠ (xF_Divide b).2.1 := by decide +kernel
theorem xty_Divide : ∀ k, k < 0 → parseFieldDescriptor (xF_Divide k).2.2.1 = some (xt_Divide k) := by decide +kernel
theorem xw_Divide : ∀ w ∈ u_ws "ProgramChecker$Sieve$Divide" xF_Divide 0, w ∈ xgood := fun w h => by simp [u_ws] at h
theorem xn_Rest : ∀ a, a < 0 → ∀ b, b < 0 → a ≠ b → (xF_Rest a).2.1 ≠ (xF_Rest b).2.1 := by decide +kernel
theorem xty_Rest : ∀ k, k < 0 → parseFieldDescriptor (xF_Rest k).2.2.1 = some (xt_Rest k) := by decide +kernel
theorem xw_Rest : ∀ w ∈ u_ws "ProgramChecker$Sieve$Rest" xF_Rest 0, w ∈ xgood := fun w h => by simp [u_ws] at h
theorem xn_And : ∀ a, a < 0 → ∀ b, b < 0 → a ≠ b → (xF_And a).2.1 ≠ (xF_And b).2.1 := by decide +kernel
theorem xty_And : ∀ k, k < 0 → parseFieldDescriptor (xF_And k).2.2.1 = some (xt_And k) := by decide +kernel
theorem xw_And : ∀ w ∈ u_ws "ProgramChecker$Sieve$And" xF_And 0, w ∈ xgood := fun w h => by simp [u_ws] at h
theorem xn_Or : ∀ a, a < 0 → ∀ b, b < 0 → a ≠ b → (xF_Or a).2.1 ≠ (xF_Or b).2.1 := by decide +kernel
theorem xty_Or : ∀ k, k < 0 → parseFieldDescriptor (xF_Or k).2.2.1 = some (xt_Or k) := by decide +kernel
theorem xw_Or : ∀ w ∈ u_ws "ProgramChecker$Sieve$Or" xF_Or 0, w ∈ xgood := fun w h => by simp [u_ws] at h
theorem xn_Xor : ∀ a, a < 0 → ∀ b, b < 0 → a ≠ b → (xF_Xor a).2.1 ≠ (xF_Xor b).2.1 := by decide +kernel
theorem xty_Xor : ∀ k, k < 0 → parseFieldDescriptor (xF_Xor k).2.2.1 = some (xt_Xor k) := by decide +kernel
theorem xw_Xor : ∀ w ∈ u_ws "ProgramChecker$Sieve$Xor" xF_Xor 0, w ∈ xgood := fun w h => by simp [u_ws] at h
theorem xn_Left : ∀ a, a < 0 → ∀ b, b < 0 → a ≠ b → (xF_Left a).2.1 ≠ (xF_Left b).2.1 := by decide +kernel
theorem xty_Left : ∀ k, k < 0 → parseFieldDescriptor (xF_Left k).2.2.1 = some (xt_Left k) := by decide +kernel
theorem xw_Left : ∀ w ∈ u_ws "ProgramChecker$Sieve$Left" xF_Left 0, w ∈ xgood := fun w h => by simp [u_ws] at h
theorem xn_Right : ∀ a, a < 0 → ∀ b, b < 0 → a ≠ b → (xF_Right a).2.1 ≠ (xF_Right b).2.1 := by decide +kernel
theorem xty_Right : ∀ k, k < 0 → parseFieldDescriptor (xF_Right k).2.2.1 = some (xt_Right k) := by decide +kernel
theorem xw_Right : ∀ w ∈ u_ws "ProgramChecker$Sieve$Right" xF_Right 0, w ∈ xgood := fun w h => by simp [u_ws] at h
theorem xn_SignedRight : ∀ a, a < 0 → ∀ b, b < 0 → a ≠ b → (xF_SignedRight a).2.1 ≠ (xF_SignedRight b).2.1 := by decide +kernel
theorem xty_SignedRight : ∀ k, k < 0 → parseFieldDescriptor (xF_SignedRight k).2.2.1 = some (xt_SignedRight k) := by decide +kernel
theorem xw_SignedRight : ∀ w ∈ u_ws "ProgramChecker$Sieve$SignedRight" xF_SignedRight 0, w ∈ xgood := fun w h => by simp [u_ws] at h
theorem xn_Move : ∀ a, a < 0 → ∀ b, b < 0 → a ≠ b → (xF_Move a).2.1 ≠ (xF_Move b).2.1 := by decide +kernel
theorem xty_Move : ∀ k, k < 0 → parseFieldDescriptor (xF_Move k).2.2.1 = some (xt_Move k) := by decide +kernel
theorem xw_Move : ∀ w ∈ u_ws "ProgramChecker$Sieve$Move" xF_Move 0, w ∈ xgood := fun w h => by simp [u_ws] at h
theorem xn_Transfer : ∀ a, a < 10 → ∀ b, b < 10 → a ≠ b → (xF_Transfer a).2.1 ≠ (xF_Transfer b).2.1 := by decide +kernel
theorem xty_Transfer : ∀ k, k < 10 → parseFieldDescriptor (xF_Transfer k).2.2.1 = some (xt_Transfer k) := by decide +kernel
theorem xw_Transfer : ∀ w ∈ u_ws "ProgramChecker$Transfer" xF_Transfer 10, w ∈ xgood := show ∀ w ∈ [Cond.laysFinal "ProgramChecker$Transfer" "ProgramChecker$Transfer" "p" "LProgramChecker$Program;", Cond.laysFinal "ProgramChecker$Transfer" "ProgramChecker$Transfer" "maps" "LProgramChecker$Maps;", Cond.laysFinal "ProgramChecker$Transfer" "ProgramChecker$Transfer" "reckoner" "LProgramChecker$Reckoner;", Cond.laysFinal "ProgramChecker$Transfer" "ProgramChecker$Transfer" "now" "LProgramChecker$State;", Cond.laysFinal "ProgramChecker$Transfer" "ProgramChecker$Transfer" "far" "LProgramChecker$State;", Cond.lays "ProgramChecker$Transfer" "ProgramChecker$Transfer" "goesOn" "Z", Cond.lays "ProgramChecker$Transfer" "ProgramChecker$Transfer" "goesFar" "Z", Cond.laysFinal "ProgramChecker$Transfer" "ProgramChecker$Transfer" "constant" "LProgramChecker$Thing;", Cond.laysFinal "ProgramChecker$Transfer" "ProgramChecker$Transfer" "scratch" "LProgramChecker$Thing;", Cond.lays "ProgramChecker$Transfer" "ProgramChecker$Transfer" "byteAt" "I"], w ∈ xgood from List.forall_mem_cons.mpr ⟨x_good (x_in2 (List.mem_of_getElem? (i := 236) rfl)) rfl, List.forall_mem_cons.mpr ⟨x_good (x_in2 (List.mem_of_getElem? (i := 238) rfl)) rfl, List.forall_mem_cons.mpr ⟨x_good (x_in3 (List.mem_of_getElem? (i := 0) rfl)) rfl, List.forall_mem_cons.mpr ⟨x_good (x_in3 (List.mem_of_getElem? (i := 2) rfl)) rfl, List.forall_mem_cons.mpr ⟨x_good (x_in3 (List.mem_of_getElem? (i := 4) rfl)) rfl, List.forall_mem_cons.mpr ⟨x_good (x_in3 (List.mem_of_getElem? (i := 6) rfl)) rfl, List.forall_mem_cons.mpr ⟨x_good (x_in3 (List.mem_of_getElem? (i := 8) rfl)) rfl, List.forall_mem_cons.mpr ⟨x_good (x_in3 (List.mem_of_getElem? (i := 10) rfl)) rfl, List.forall_mem_cons.mpr ⟨x_good (x_in3 (List.mem_of_getElem? (i := 12) rfl)) rfl, List.forall_mem_cons.mpr ⟨x_good (x_in3 (List.mem_of_getElem? (i := 14) rfl)) rfl, fun _ h => absurd h List.not_mem_nil⟩⟩⟩⟩⟩⟩⟩⟩⟩⟩
theorem xn_State : ∀ a, a < 5 → ∀ b, b < 5 → a ≠ b → (xF_State a).2.1 ≠ (xF_State b).2.1 := by decide +kernel
theorem xty_State : ∀ k, k < 5 → parseFieldDescriptor (xF_State k).2.2.1 = some (xt_State k) := by decide +kernel
theorem xw_State : ∀ w ∈ u_ws "ProgramChecker$State" xF_State 5, w ∈ xgood := show ∀ w ∈ [Cond.laysFinal "ProgramChecker$State" "ProgramChecker$State" "things" "[LProgramChecker$Thing;", Cond.lays "ProgramChecker$State" "ProgramChecker$State" "known" "I", Cond.lays "ProgramChecker$State" "ProgramChecker$State" "is" "Z", Cond.lays "ProgramChecker$State" "ProgramChecker$State" "changes" "I", Cond.lays "ProgramChecker$State" "ProgramChecker$State" "done" "Z"], w ∈ xgood from List.forall_mem_cons.mpr ⟨x_good (x_in2 (List.mem_of_getElem? (i := 209) rfl)) rfl, List.forall_mem_cons.mpr ⟨x_good (x_in2 (List.mem_of_getElem? (i := 211) rfl)) rfl, List.forall_mem_cons.mpr ⟨x_good (x_in2 (List.mem_of_getElem? (i := 213) rfl)) rfl, List.forall_mem_cons.mpr ⟨x_good (x_in2 (List.mem_of_getElem? (i := 215) rfl)) rfl, List.forall_mem_cons.mpr ⟨x_good (x_in2 (List.mem_of_getElem? (i := 217) rfl)) rfl, fun _ h => absurd h List.not_mem_nil⟩⟩⟩⟩⟩
theorem xn_Thing : ∀ a, a < 4 → ∀ b, b < 4 → a ≠ b → (xF_Thing a).2.1 ≠ (xF_Thing b).2.1 := by decide +kernel
theorem xty_Thing : ∀ k, k < 4 → parseFieldDescriptor (xF_Thing k).2.2.1 = some (xt_Thing k) := by decide +kernel
theorem xw_Thing : ∀ w ∈ u_ws "ProgramChecker$Thing" xF_Thing 4, w ∈ xgood := show ∀ w ∈ [Cond.lays "ProgramChecker$Thing" "ProgramChecker$Thing" "sort" "I", Cond.lays "ProgramChecker$Thing" "ProgramChecker$Thing" "detail" "I", Cond.lays "ProgramChecker$Thing" "ProgramChecker$Thing" "origin" "I", Cond.laysFinal "ProgramChecker$Thing" "ProgramChecker$Thing" "value" "LProgramChecker$Sieve$Value;"], w ∈ xgood from List.forall_mem_cons.mpr ⟨x_good (x_in2 (List.mem_of_getElem? (i := 189) rfl)) rfl, List.forall_mem_cons.mpr ⟨x_good (x_in2 (List.mem_of_getElem? (i := 191) rfl)) rfl, List.forall_mem_cons.mpr ⟨x_good (x_in2 (List.mem_of_getElem? (i := 193) rfl)) rfl, List.forall_mem_cons.mpr ⟨x_good (x_in2 (List.mem_of_getElem? (i := 195) rfl)) rfl, fun _ h => absurd h List.not_mem_nil⟩⟩⟩⟩
theorem xn_ProgramCheckerModel : ∀ a, a < 24 → ∀ b, b < 24 → a ≠ b → (xF_ProgramCheckerModel a).2.1 ≠ (xF_ProgramCheckerModel b).2.1 := by decide +kernel
theorem xty_ProgramCheckerModel : ∀ k, k < 24 → parseFieldDescriptor (xF_ProgramCheckerModel k).2.2.1 = some (xt_ProgramCheckerModel k) := by decide +kernel
theorem xw_ProgramCheckerModel : ∀ w ∈ u_ws "ProgramCheckerModel" xF_ProgramCheckerModel 24, w ∈ xgood := show ∀ w ∈ [Cond.lays "ProgramCheckerModel" "ProgramCheckerModel" "thrown" "I", Cond.laysFinal "ProgramCheckerModel" "ProgramCheckerModel" "tape" "[I", Cond.lays "ProgramCheckerModel" "ProgramCheckerModel" "taped" "I", Cond.laysFinal "ProgramCheckerModel" "ProgramCheckerModel" "program" "[I", Cond.lays "ProgramCheckerModel" "ProgramCheckerModel" "places" "I", Cond.lays "ProgramCheckerModel" "ProgramCheckerModel" "reason" "I", Cond.lays "ProgramCheckerModel" "ProgramCheckerModel" "passes" "I", Cond.laysFinal "ProgramCheckerModel" "ProgramCheckerModel" "kinds" "[I", Cond.laysFinal "ProgramCheckerModel" "ProgramCheckerModel" "keys" "[I", Cond.laysFinal "ProgramCheckerModel" "ProgramCheckerModel" "values" "[I", Cond.laysFinal "ProgramCheckerModel" "ProgramCheckerModel" "has" "[Z", Cond.laysFinal "ProgramCheckerModel" "ProgramCheckerModel" "known" "[I", Cond.laysFinal "ProgramCheckerModel" "ProgramCheckerModel" "changes" "[I", Cond.laysFinal "ProgramCheckerModel" "ProgramCheckerModel" "sort" "[I", Cond.laysFinal "ProgramCheckerModel" "ProgramCheckerModel" "detail" "[I", Cond.laysFinal "ProgramCheckerModel" "ProgramCheckerModel" "origin" "[I", Cond.laysFinal "ProgramCheckerModel" "ProgramCheckerModel" "sets" "LProgramCheckerModel$Sets;", Cond.lays "ProgramCheckerModel" "ProgramCheckerModel" "changed" "Z", Cond.lays "ProgramCheckerModel" "ProgramCheckerModel" "from" "I", Cond.lays "ProgramCheckerModel" "ProgramCheckerModel" "code" "I", Cond.lays "ProgramCheckerModel" "ProgramCheckerModel" "d" "I", Cond.lays "ProgramCheckerModel" "ProgramCheckerModel" "s" "I", Cond.lays "ProgramCheckerModel" "ProgramCheckerModel" "o" "I", Cond.lays "ProgramCheckerModel" "ProgramCheckerModel" "i" "I"], w ∈ xgood from List.forall_mem_cons.mpr ⟨x_good (x_in7 (List.mem_of_getElem? (i := 141) rfl)) rfl, List.forall_mem_cons.mpr ⟨x_good (x_in7 (List.mem_of_getElem? (i := 143) rfl)) rfl, List.forall_mem_cons.mpr ⟨x_good (x_in7 (List.mem_of_getElem? (i := 145) rfl)) rfl, List.forall_mem_cons.mpr ⟨x_good (x_in7 (List.mem_of_getElem? (i := 147) rfl)) rfl, List.forall_mem_cons.mpr ⟨x_good (x_in7 (List.mem_of_getElem? (i := 149) rfl)) rfl, List.forall_mem_cons.mpr ⟨x_good (x_in7 (List.mem_of_getElem? (i := 151) rfl)) rfl, List.forall_mem_cons.mpr ⟨x_good (x_in7 (List.mem_of_getElem? (i := 153) rfl)) rfl, List.forall_mem_cons.mpr ⟨x_good (x_in7 (List.mem_of_getElem? (i := 155) rfl)) rfl, List.forall_mem_cons.mpr ⟨x_good (x_in7 (List.mem_of_getElem? (i := 157) rfl)) rfl, List.forall_mem_cons.mpr ⟨x_good (x_in7 (List.mem_of_getElem? (i := 159) rfl)) rfl, List.forall_mem_cons.mpr ⟨x_good (x_in7 (List.mem_of_getElem? (i := 161) rfl)) rfl, List.forall_mem_cons.mpr ⟨x_good (x_in7 (List.mem_of_getElem? (i := 163) rfl)) rfl, List.forall_mem_cons.mpr ⟨x_good (x_in7 (List.mem_of_getElem? (i := 165) rfl)) rfl, List.forall_mem_cons.mpr ⟨x_good (x_in7 (List.mem_of_getElem? (i := 167) rfl)) rfl, List.forall_mem_cons.mpr ⟨x_good (x_in7 (List.mem_of_getElem? (i := 169) rfl)) rfl, List.forall_mem_cons.mpr ⟨x_good (x_in7 (List.mem_of_getElem? (i := 171) rfl)) rfl, List.forall_mem_cons.mpr ⟨x_good (x_in7 (List.mem_of_getElem? (i := 173) rfl)) rfl, List.forall_mem_cons.mpr ⟨x_good (x_in7 (List.mem_of_getElem? (i := 175) rfl)) rfl, List.forall_mem_cons.mpr ⟨x_good (x_in7 (List.mem_of_getElem? (i := 177) rfl)) rfl, List.forall_mem_cons.mpr ⟨x_good (x_in7 (List.mem_of_getElem? (i := 179) rfl)) rfl, List.forall_mem_cons.mpr ⟨x_good (x_in7 (List.mem_of_getElem? (i := 181) rfl)) rfl, List.forall_mem_cons.mpr ⟨x_good (x_in7 (List.mem_of_getElem? (i := 183) rfl)) rfl, List.forall_mem_cons.mpr ⟨x_good (x_in7 (List.mem_of_getElem? (i := 185) rfl)) rfl, List.forall_mem_cons.mpr ⟨x_good (x_in7 (List.mem_of_getElem? (i := 187) rfl)) rfl, fun _ h => absurd h List.not_mem_nil⟩⟩⟩⟩⟩⟩⟩⟩⟩⟩⟩⟩⟩⟩⟩⟩⟩⟩⟩⟩⟩⟩⟩⟩
theorem xn_Sets : ∀ a, a < 7 → ∀ b, b < 7 → a ≠ b → (xF_Sets a).2.1 ≠ (xF_Sets b).2.1 := by decide +kernel
theorem xty_Sets : ∀ k, k < 7 → parseFieldDescriptor (xF_Sets k).2.2.1 = some (xt_Sets k) := by decide +kernel
theorem xw_Sets : ∀ w ∈ u_ws "ProgramCheckerModel$Sets" xF_Sets 7, w ∈ xgood := show ∀ w ∈ [Cond.laysFinal "ProgramCheckerModel$Sets" "ProgramCheckerModel$Sets" "bits" "[J", Cond.laysFinal "ProgramCheckerModel$Sets" "ProgramCheckerModel$Sets" "open" "[J", Cond.laysFinal "ProgramCheckerModel$Sets" "ProgramCheckerModel$Sets" "low" "[J", Cond.laysFinal "ProgramCheckerModel$Sets" "ProgramCheckerModel$Sets" "high" "[J", Cond.laysFinal "ProgramCheckerModel$Sets" "ProgramCheckerModel$Sets" "least" "[J", Cond.laysFinal "ProgramCheckerModel$Sets" "ProgramCheckerModel$Sets" "greatest" "[J", Cond.laysFinal "ProgramCheckerModel$Sets" "ProgramCheckerModel$Sets" "empty" "[Z"], w ∈ xgood from List.forall_mem_cons.mpr ⟨x_good (x_in7 (List.mem_of_getElem? (i := 101) rfl)) rfl, List.forall_mem_cons.mpr ⟨x_good (x_in7 (List.mem_of_getElem? (i := 103) rfl)) rfl, List.forall_mem_cons.mpr ⟨x_good (x_in7 (List.mem_of_getElem? (i := 105) rfl)) rfl, List.forall_mem_cons.mpr ⟨x_good (x_in7 (List.mem_of_getElem? (i := 107) rfl)) rfl, List.forall_mem_cons.mpr ⟨x_good (x_in7 (List.mem_of_getElem? (i := 109) rfl)) rfl, List.forall_mem_cons.mpr ⟨x_good (x_in7 (List.mem_of_getElem? (i := 111) rfl)) rfl, List.forall_mem_cons.mpr ⟨x_good (x_in7 (List.mem_of_getElem? (i := 113) rfl)) rfl, fun _ h => absurd h List.not_mem_nil⟩⟩⟩⟩⟩⟩⟩
theorem xn_IllegalStateException : ∀ a, a < 0 → ∀ b, b < 0 → a ≠ b → (xF_IllegalStateException a).2.1 ≠ (xF_IllegalStateException b).2.1 := by decide +kernel
theorem xty_IllegalStateException : ∀ k, k < 0 → parseFieldDescriptor (xF_IllegalStateException k).2.2.1 = some (xt_IllegalStateException k) := by decide +kernel
theorem xw_IllegalStateException : ∀ w ∈ u_ws "java/lang/IllegalStateException" xF_IllegalStateException 0, w ∈ xgood := fun w h => by simp [u_ws] at h
theorem xn_IllegalArgumentException : ∀ a, a < 0 → ∀ b, b < 0 → a ≠ b → (xF_IllegalArgumentException a).2.1 ≠ (xF_IllegalArgumentException b).2.1 := by decide +kernel
theorem xty_IllegalArgumentException : ∀ k, k < 0 → parseFieldDescriptor (xF_IllegalArgumentException k).2.2.1 = some (xt_IllegalArgumentException k) := by decide +kernel
theorem xw_IllegalArgumentException : ∀ w ∈ u_ws "java/lang/IllegalArgumentException" xF_IllegalArgumentException 0, w ∈ xgood := fun w h => by simp [u_ws] at h
theorem xn_IndexOutOfBoundsException : ∀ a, a < 0 → ∀ b, b < 0 → a ≠ b → (xF_IndexOutOfBoundsException a).2.1 ≠ (xF_IndexOutOfBoundsException b).2.1 := by decide +kernel
theorem xty_IndexOutOfBoundsException : ∀ k, k < 0 → parseFieldDescriptor (xF_IndexOutOfBoundsException k).2.2.1 = some (xt_IndexOutOfBoundsException k) := by decide +kernel
theorem xw_IndexOutOfBoundsException : ∀ w ∈ u_ws "java/lang/IndexOutOfBoundsException" xF_IndexOutOfBoundsException 0, w ∈ xgood := fun w h => by simp [u_ws] at h
