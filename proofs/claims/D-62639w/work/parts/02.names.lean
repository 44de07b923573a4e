/-- the words of the tables that stay while the tables warm -/
def dm_gt : List Cond := lw_tbl.filter goodWord
theorem dm_gt1 {w : Cond} (h : w ∈ tables_1) (hg : goodWord w = true) : w ∈ dm_gt := List.mem_filter.mpr ⟨List.mem_append_right _ h, hg⟩
theorem dm_gtS {q : MethodName × Nat} (h : q ∈ lw_privs) : Cond.selects q.1.cls q.1 q.1 ∈ dm_gt := List.mem_filter.mpr ⟨List.mem_append_left _ (List.mem_map.mpr ⟨q, h, rfl⟩), rfl⟩
theorem dm_all {ws : List Cond} (h : ws.all (fun w => decide (w ∈ tables_1) && goodWord w) = true) : ∀ w ∈ ws, w ∈ dm_gt := by
  intro w hw
  have h1 := List.all_eq_true.mp h w hw
  simp only [Bool.and_eq_true, decide_eq_true_eq] at h1
  exact dm_gt1 h1.1 h1.2
def R_DM : String := "DelayMachine"
def F_DM : u_T := fun k => ([("DelayMachine", "machine", "LDelayMachine$Machine;", true), ("DelayMachine", "assembler", "LDelayMachine$Assembler;", true)] : List (String × String × String × Bool)).getD k ("", "", "", false)
def t_DM : Nat → FieldType := fun k => ([.object "DelayMachine$Machine", .object "DelayMachine$Assembler"] : List FieldType).getD k .int
theorem n_DM : ∀ a, a < 2 → ∀ b, b < 2 → a ≠ b → (F_DM a).2.1 ≠ (F_DM b).2.1 := by decide +kernel
theorem t_DM_ok : ∀ k, k < 2 → parseFieldDescriptor (F_DM k).2.2.1 = some (t_DM k) := by decide +kernel
theorem in_DM : ∀ w ∈ u_ws R_DM F_DM 2, w ∈ dm_gt := dm_all (by decide +kernel)
def R_Ma : String := "DelayMachine$Machine"
def F_Ma : u_T := fun k => ([("DelayMachine$Machine", "orders", "[I", true), ("DelayMachine$Machine", "lines", "[LDelayMachine$Line;", true), ("DelayMachine$Machine", "multiplier", "LDelayMachine$Multiplier;", true), ("DelayMachine$Machine", "reader", "LDelayMachine$Reader;", true), ("DelayMachine$Machine", "sources", "[LDelayMachine$Source;", true), ("DelayMachine$Machine", "destinations", "[LDelayMachine$Destination;", true), ("DelayMachine$Machine", "before", "LDelayMachine$Window;", false), ("DelayMachine$Machine", "latest", "LDelayMachine$Window;", false), ("DelayMachine$Machine", "now", "I", false), ("DelayMachine$Machine", "going", "Z", false), ("DelayMachine$Machine", "fault", "I", false), ("DelayMachine$Machine", "line", "I", false), ("DelayMachine$Machine", "due", "I", false), ("DelayMachine$Machine", "discriminates", "Z", false), ("DelayMachine$Machine", "begun", "Z", false), ("DelayMachine$Machine", "readLine", "I", false), ("DelayMachine$Machine", "readPlace", "I", false), ("DelayMachine$Machine", "count", "I", false), ("DelayMachine$Machine", "punched", "[S", true), ("DelayMachine$Machine", "punches", "I", false), ("DelayMachine$Machine", "lastPunch", "I", false)] : List (String × String × String × Bool)).getD k ("", "", "", false)
def t_Ma : Nat → FieldType := fun k => ([.array (.int), .array (.object "DelayMachine$Line"), .object "DelayMachine$Multiplier", .object "DelayMachine$Reader", .array (.object "DelayMachine$Source"), .array (.object "DelayMachine$Destination"), .object "DelayMachine$Window", .object "DelayMachine$Window", .int, .boolean, .int, .int, .int, .boolean, .boolean, .int, .int, .int, .array (.short), .int, .int] : List FieldType).getD k .int
theorem n_Ma : ∀ a, a < 21 → ∀ b, b < 21 → a ≠ b → (F_Ma a).2.1 ≠ (F_Ma b).2.1 := by decide +kernel
theorem t_Ma_ok : ∀ k, k < 21 → parseFieldDescriptor (F_Ma k).2.2.1 = some (t_Ma k) := by decide +kernel
theorem in_Ma : ∀ w ∈ u_ws R_Ma F_Ma 21, w ∈ dm_gt := dm_all (by decide +kernel)
def R_Mu : String := "DelayMachine$Multiplier"
def F_Mu : u_T := fun k => ([("DelayMachine$Multiplier", "left", "I", false), ("DelayMachine$Multiplier", "bits", "I", false)] : List (String × String × String × Bool)).getD k ("", "", "", false)
def t_Mu : Nat → FieldType := fun k => ([.int, .int] : List FieldType).getD k .int
theorem n_Mu : ∀ a, a < 2 → ∀ b, b < 2 → a ≠ b → (F_Mu a).2.1 ≠ (F_Mu b).2.1 := by decide +kernel
theorem t_Mu_ok : ∀ k, k < 2 → parseFieldDescriptor (F_Mu k).2.2.1 = some (t_Mu k) := by decide +kernel
theorem in_Mu : ∀ w ∈ u_ws R_Mu F_Mu 2, w ∈ dm_gt := dm_all (by decide +kernel)
def R_Re : String := "DelayMachine$Reader"
def F_Re : u_T := fun k => ([("DelayMachine$Reader", "deck", "[S", true), ("DelayMachine$Reader", "rows", "I", false), ("DelayMachine$Reader", "next", "I", false), ("DelayMachine$Reader", "first", "I", false), ("DelayMachine$Reader", "fed", "I", false), ("DelayMachine$Reader", "reads", "Z", false), ("DelayMachine$Reader", "taken", "I", false)] : List (String × String × String × Bool)).getD k ("", "", "", false)
def t_Re : Nat → FieldType := fun k => ([.array (.short), .int, .int, .int, .int, .boolean, .int] : List FieldType).getD k .int
theorem n_Re : ∀ a, a < 7 → ∀ b, b < 7 → a ≠ b → (F_Re a).2.1 ≠ (F_Re b).2.1 := by decide +kernel
theorem t_Re_ok : ∀ k, k < 7 → parseFieldDescriptor (F_Re k).2.2.1 = some (t_Re k) := by decide +kernel
theorem in_Re : ∀ w ∈ u_ws R_Re F_Re 7, w ∈ dm_gt := dm_all (by decide +kernel)
def R_Wi : String := "DelayMachine$Window"
def F_Wi : u_T := fun k => ([("DelayMachine$Window", "from", "I", false), ("DelayMachine$Window", "to", "I", false), ("DelayMachine$Window", "source", "LDelayMachine$Source;", false), ("DelayMachine$Window", "destination", "LDelayMachine$Destination;", false)] : List (String × String × String × Bool)).getD k ("", "", "", false)
def t_Wi : Nat → FieldType := fun k => ([.int, .int, .object "DelayMachine$Source", .object "DelayMachine$Destination"] : List FieldType).getD k .int
theorem n_Wi : ∀ a, a < 4 → ∀ b, b < 4 → a ≠ b → (F_Wi a).2.1 ≠ (F_Wi b).2.1 := by decide +kernel
theorem t_Wi_ok : ∀ k, k < 4 → parseFieldDescriptor (F_Wi k).2.2.1 = some (t_Wi k) := by decide +kernel
theorem in_Wi : ∀ w ∈ u_ws R_Wi F_Wi 4, w ∈ dm_gt := dm_all (by decide +kernel)
def R_Li : String := "DelayMachine$Line"
def F_Li : u_T := fun k => ([("DelayMachine$Line", "words", "[S", true)] : List (String × String × String × Bool)).getD k ("", "", "", false)
def t_Li : Nat → FieldType := fun k => ([.array (.short)] : List FieldType).getD k .int
theorem n_Li : ∀ a, a < 1 → ∀ b, b < 1 → a ≠ b → (F_Li a).2.1 ≠ (F_Li b).2.1 := by decide +kernel
theorem t_Li_ok : ∀ k, k < 1 → parseFieldDescriptor (F_Li k).2.2.1 = some (t_Li k) := by decide +kernel
theorem in_Li : ∀ w ∈ u_ws R_Li F_Li 1, w ∈ dm_gt := dm_all (by decide +kernel)
def R_Pr : String := "DelayMachine$Presented"
def F_Pr : u_T := fun k => ([("DelayMachine$Presented", "line", "LDelayMachine$Line;", true)] : List (String × String × String × Bool)).getD k ("", "", "", false)
def t_Pr : Nat → FieldType := fun k => ([.object "DelayMachine$Line"] : List FieldType).getD k .int
theorem n_Pr : ∀ a, a < 1 → ∀ b, b < 1 → a ≠ b → (F_Pr a).2.1 ≠ (F_Pr b).2.1 := by decide +kernel
theorem t_Pr_ok : ∀ k, k < 1 → parseFieldDescriptor (F_Pr k).2.2.1 = some (t_Pr k) := by decide +kernel
theorem in_Pr : ∀ w ∈ u_ws R_Pr F_Pr 1, w ∈ dm_gt := dm_all (by decide +kernel)
def R_Rk : String := "DelayMachine$Reckoned"
def F_Rk : u_T := fun k => ([("DelayMachine$Reckoned", "machine", "LDelayMachine$Machine;", true), ("DelayMachine$Reckoned", "kind", "I", true)] : List (String × String × String × Bool)).getD k ("", "", "", false)
def t_Rk : Nat → FieldType := fun k => ([.object "DelayMachine$Machine", .int] : List FieldType).getD k .int
theorem n_Rk : ∀ a, a < 2 → ∀ b, b < 2 → a ≠ b → (F_Rk a).2.1 ≠ (F_Rk b).2.1 := by decide +kernel
theorem t_Rk_ok : ∀ k, k < 2 → parseFieldDescriptor (F_Rk k).2.2.1 = some (t_Rk k) := by decide +kernel
theorem in_Rk : ∀ w ∈ u_ws R_Rk F_Rk 2, w ∈ dm_gt := dm_all (by decide +kernel)
def R_Do : String := "DelayMachine$Done"
def F_Do : u_T := fun k => ([("DelayMachine$Done", "machine", "LDelayMachine$Machine;", true), ("DelayMachine$Done", "kind", "I", true)] : List (String × String × String × Bool)).getD k ("", "", "", false)
def t_Do : Nat → FieldType := fun k => ([.object "DelayMachine$Machine", .int] : List FieldType).getD k .int
theorem n_Do : ∀ a, a < 2 → ∀ b, b < 2 → a ≠ b → (F_Do a).2.1 ≠ (F_Do b).2.1 := by decide +kernel
theorem t_Do_ok : ∀ k, k < 2 → parseFieldDescriptor (F_Do k).2.2.1 = some (t_Do k) := by decide +kernel
theorem in_Do : ∀ w ∈ u_ws R_Do F_Do 2, w ∈ dm_gt := dm_all (by decide +kernel)
def R_As : String := "DelayMachine$Assembler"
def F_As : u_T := fun k => ([("DelayMachine$Assembler", "statements", "Ljava/util/ArrayList;", true), ("DelayMachine$Assembler", "pool", "Ljava/util/ArrayList;", true), ("DelayMachine$Assembler", "used", "I", false), ("DelayMachine$Assembler", "taken", "[Z", true), ("DelayMachine$Assembler", "variables", "[I", true), ("DelayMachine$Assembler", "first", "[I", true), ("DelayMachine$Assembler", "keptVariables", "[I", true), ("DelayMachine$Assembler", "keptFirst", "[I", true), ("DelayMachine$Assembler", "from", "I", false), ("DelayMachine$Assembler", "fits", "Z", false), ("DelayMachine$Assembler", "last", "LDelayMachine$Placed;", false)] : List (String × String × String × Bool)).getD k ("", "", "", false)
def t_As : Nat → FieldType := fun k => ([.object "java/util/ArrayList", .object "java/util/ArrayList", .int, .array (.boolean), .array (.int), .array (.int), .array (.int), .array (.int), .int, .boolean, .object "DelayMachine$Placed"] : List FieldType).getD k .int
theorem n_As : ∀ a, a < 11 → ∀ b, b < 11 → a ≠ b → (F_As a).2.1 ≠ (F_As b).2.1 := by decide +kernel
theorem t_As_ok : ∀ k, k < 11 → parseFieldDescriptor (F_As k).2.2.1 = some (t_As k) := by decide +kernel
theorem in_As : ∀ w ∈ u_ws R_As F_As 11, w ∈ dm_gt := dm_all (by decide +kernel)
def R_AL : String := "java/util/ArrayList"
def F_AL : u_T := fun k => ([("java/util/ArrayList", "elementData", "[Ljava/lang/Object;", false), ("java/util/ArrayList", "size", "I", false), ("java/util/AbstractList", "modCount", "I", false)] : List (String × String × String × Bool)).getD k ("", "", "", false)
def t_AL : Nat → FieldType := fun k => ([.array (.object "java/lang/Object"), .int, .int] : List FieldType).getD k .int
theorem n_AL : ∀ a, a < 3 → ∀ b, b < 3 → a ≠ b → (F_AL a).2.1 ≠ (F_AL b).2.1 := by decide +kernel
theorem t_AL_ok : ∀ k, k < 3 → parseFieldDescriptor (F_AL k).2.2.1 = some (t_AL k) := by decide +kernel
theorem in_AL : ∀ w ∈ u_ws R_AL F_AL 3, w ∈ dm_gt := dm_all (by decide +kernel)
def R_St : String := "DelayMachine$Statement"
def F_St : u_T := fun k => ([("DelayMachine$Statement", "operation", "I", true), ("DelayMachine$Statement", "a", "I", true), ("DelayMachine$Statement", "b", "I", true), ("DelayMachine$Statement", "c", "I", true), ("DelayMachine$Statement", "go", "I", true)] : List (String × String × String × Bool)).getD k ("", "", "", false)
def t_St : Nat → FieldType := fun k => ([.int, .int, .int, .int, .int] : List FieldType).getD k .int
theorem n_St : ∀ a, a < 5 → ∀ b, b < 5 → a ≠ b → (F_St a).2.1 ≠ (F_St b).2.1 := by decide +kernel
theorem t_St_ok : ∀ k, k < 5 → parseFieldDescriptor (F_St k).2.2.1 = some (t_St k) := by decide +kernel
theorem in_St : ∀ w ∈ u_ws R_St F_St 5, w ∈ dm_gt := dm_all (by decide +kernel)
def R_Pl : String := "DelayMachine$Placed"
def F_Pl : u_T := fun k => ([("DelayMachine$Placed", "line", "I", false), ("DelayMachine$Placed", "place", "I", false), ("DelayMachine$Placed", "base", "I", false), ("DelayMachine$Placed", "leads", "Z", false), ("DelayMachine$Placed", "to", "I", false)] : List (String × String × String × Bool)).getD k ("", "", "", false)
def t_Pl : Nat → FieldType := fun k => ([.int, .int, .int, .boolean, .int] : List FieldType).getD k .int
theorem n_Pl : ∀ a, a < 5 → ∀ b, b < 5 → a ≠ b → (F_Pl a).2.1 ≠ (F_Pl b).2.1 := by decide +kernel
theorem t_Pl_ok : ∀ k, k < 5 → parseFieldDescriptor (F_Pl k).2.2.1 = some (t_Pl k) := by decide +kernel
theorem in_Pl : ∀ w ∈ u_ws R_Pl F_Pl 5, w ∈ dm_gt := dm_all (by decide +kernel)
def R_Mo : String := "DelayMachineModel"
def F_Mo : u_T := fun k => ([("DelayMachineModel", "orders", "[I", true), ("DelayMachineModel", "words", "[S", true), ("DelayMachineModel", "now", "I", false), ("DelayMachineModel", "going", "Z", false), ("DelayMachineModel", "fault", "I", false), ("DelayMachineModel", "due", "I", false), ("DelayMachineModel", "dueLine", "I", false), ("DelayMachineModel", "line", "I", false), ("DelayMachineModel", "place", "I", false), ("DelayMachineModel", "count", "I", false), ("DelayMachineModel", "order", "I", false), ("DelayMachineModel", "opens", "I", false), ("DelayMachineModel", "closes", "I", false), ("DelayMachineModel", "lastOrder", "I", false), ("DelayMachineModel", "lastOpens", "I", false), ("DelayMachineModel", "lastCloses", "I", false), ("DelayMachineModel", "turned", "Z", false), ("DelayMachineModel", "work", "I", false), ("DelayMachineModel", "factor", "I", false), ("DelayMachineModel", "cards", "I", false), ("DelayMachineModel", "came", "I", false), ("DelayMachineModel", "deck", "[S", true), ("DelayMachineModel", "card", "[S", true), ("DelayMachineModel", "fed", "I", false), ("DelayMachineModel", "moved", "Z", false), ("DelayMachineModel", "punches", "I", false), ("DelayMachineModel", "punch", "[S", true), ("DelayMachineModel", "punchedAt", "I", false), ("DelayMachineModel", "statements", "I", false), ("DelayMachineModel", "operation", "[I", true), ("DelayMachineModel", "first", "[I", true), ("DelayMachineModel", "second", "[I", true), ("DelayMachineModel", "third", "[I", true), ("DelayMachineModel", "goTo", "[I", true), ("DelayMachineModel", "listed", "I", false), ("DelayMachineModel", "source", "[I", true), ("DelayMachineModel", "goal", "[I", true), ("DelayMachineModel", "operand", "[I", true), ("DelayMachineModel", "owner", "[I", true), ("DelayMachineModel", "spot", "[I", true), ("DelayMachineModel", "waits", "[I", true), ("DelayMachineModel", "taken", "[Z", true), ("DelayMachineModel", "held", "[Z", true), ("DelayMachineModel", "places", "[I", true), ("DelayMachineModel", "known", "I", false), ("DelayMachineModel", "begins", "[I", true), ("DelayMachineModel", "variables", "[I", true)] : List (String × String × String × Bool)).getD k ("", "", "", false)
def t_Mo : Nat → FieldType := fun k => ([.array (.int), .array (.short), .int, .boolean, .int, .int, .int, .int, .int, .int, .int, .int, .int, .int, .int, .int, .boolean, .int, .int, .int, .int, .array (.short), .array (.short), .int, .boolean, .int, .array (.short), .int, .int, .array (.int), .array (.int), .array (.int), .array (.int), .array (.int), .int, .array (.int), .array (.int), .array (.int), .array (.int), .array (.int), .array (.int), .array (.boolean), .array (.boolean), .array (.int), .int, .array (.int), .array (.int)] : List FieldType).getD k .int
theorem n_Mo : ∀ a, a < 47 → ∀ b, b < 47 → a ≠ b → (F_Mo a).2.1 ≠ (F_Mo b).2.1 := by decide +kernel
theorem t_Mo_ok : ∀ k, k < 47 → parseFieldDescriptor (F_Mo k).2.2.1 = some (t_Mo k) := by decide +kernel
theorem in_Mo : ∀ w ∈ u_ws R_Mo F_Mo 47, w ∈ dm_gt := dm_all (by decide +kernel)
abbrev dm_cl : List vw_C := [(R_DM, F_DM, 2), (R_Ma, F_Ma, 21), (R_Mu, F_Mu, 2), (R_Re, F_Re, 7), (R_Wi, F_Wi, 4), (R_Li, F_Li, 1), (R_Pr, F_Pr, 1), (R_Rk, F_Rk, 2), (R_Do, F_Do, 2), (R_As, F_As, 11), (R_AL, F_AL, 3), (R_St, F_St, 5), (R_Pl, F_Pl, 5), (R_Mo, F_Mo, 47)]
