/-! classes by number (1 ..), their fields by number; printed by gen_names.py -/
def F_X : u_T := fun k => match k with
  | 0 => ("RoleSessions", "reader", "LRoleSessions$Reader;", true)
  | 1 => ("RoleSessions", "protocol", "LRoleSessions$Global;", false)
  | 2 => ("RoleSessions", "types", "I", false)
  | 3 => ("RoleSessions", "parts", "[LRoleSessions$Machine;", true)
  | 4 => ("RoleSessions", "tried", "[Z", true)
  | 5 => ("RoleSessions", "processes", "[LRoleSessions$Machine;", true)
  | 6 => ("RoleSessions", "met", "[Z", true)
  | 7 => ("RoleSessions", "mine", "[LRoleSessions$State;", true)
  | 8 => ("RoleSessions", "theirs", "[LRoleSessions$State;", true)
  | 9 => ("RoleSessions", "pairs", "I", false)
  | 10 => ("RoleSessions", "going", "Z", false)
  | 11 => ("RoleSessions", "states", "[LRoleSessions$State;", true)
  | 12 => ("RoleSessions", "strange", "[Z", true)
  | 13 => ("RoleSessions", "faults", "[I", true)
  | 14 => ("RoleSessions", "queues", "[[I", true)
  | 15 => ("RoleSessions", "sizes", "[I", true)
  | _ => ("RoleSessions", "sent", "I", false)
def F_Reader : u_T := fun k => match k with
  | 0 => ("RoleSessions$Reader", "text", "[C", true)
  | 1 => ("RoleSessions$Reader", "length", "I", false)
  | 2 => ("RoleSessions$Reader", "p", "I", false)
  | 3 => ("RoleSessions$Reader", "types", "I", false)
  | 4 => ("RoleSessions$Reader", "open", "[I", true)
  | _ => ("RoleSessions$Reader", "guarded", "[Z", true)
def F_GlobalEnd : u_T := fun k => match k with
  | _ => ("", "", "", false)
def F_GlobalVariable : u_T := fun k => match k with
  | _ => ("RoleSessions$GlobalVariable", "variable", "I", true)
def F_GlobalLoop : u_T := fun k => match k with
  | 0 => ("RoleSessions$GlobalLoop", "variable", "I", true)
  | _ => ("RoleSessions$GlobalLoop", "type", "LRoleSessions$Global;", true)
def F_GlobalMessage : u_T := fun k => match k with
  | 0 => ("RoleSessions$GlobalMessage", "from", "I", true)
  | 1 => ("RoleSessions$GlobalMessage", "to", "I", true)
  | _ => ("RoleSessions$GlobalMessage", "first", "LRoleSessions$GlobalBranch;", false)
def F_GlobalBranch : u_T := fun k => match k with
  | 0 => ("RoleSessions$GlobalBranch", "label", "I", true)
  | 1 => ("RoleSessions$GlobalBranch", "sort", "I", true)
  | 2 => ("RoleSessions$GlobalBranch", "type", "LRoleSessions$Global;", true)
  | _ => ("RoleSessions$GlobalBranch", "next", "LRoleSessions$GlobalBranch;", false)
def F_End : u_T := fun k => match k with
  | _ => ("", "", "", false)
def F_Variable : u_T := fun k => match k with
  | _ => ("RoleSessions$Variable", "variable", "I", true)
def F_Loop : u_T := fun k => match k with
  | 0 => ("RoleSessions$Loop", "variable", "I", true)
  | _ => ("RoleSessions$Loop", "type", "LRoleSessions$Local;", true)
def F_Choice : u_T := fun k => match k with
  | 0 => ("RoleSessions$Choice", "sends", "Z", true)
  | 1 => ("RoleSessions$Choice", "partner", "I", true)
  | 2 => ("RoleSessions$Choice", "first", "LRoleSessions$Branch;", false)
  | _ => ("RoleSessions$Choice", "last", "LRoleSessions$Branch;", false)
def F_Branch : u_T := fun k => match k with
  | 0 => ("RoleSessions$Branch", "label", "I", true)
  | 1 => ("RoleSessions$Branch", "sort", "I", true)
  | 2 => ("RoleSessions$Branch", "type", "LRoleSessions$Local;", true)
  | _ => ("RoleSessions$Branch", "next", "LRoleSessions$Branch;", false)
def F_Frame : u_T := fun k => match k with
  | 0 => ("RoleSessions$Frame", "variable", "I", true)
  | 1 => ("RoleSessions$Frame", "outer", "LRoleSessions$Frame;", true)
  | _ => ("RoleSessions$Frame", "start", "LRoleSessions$State;", false)
def F_Step : u_T := fun k => match k with
  | 0 => ("RoleSessions$Step", "label", "I", true)
  | 1 => ("RoleSessions$Step", "sort", "I", true)
  | 2 => ("RoleSessions$Step", "to", "LRoleSessions$State;", true)
  | _ => ("RoleSessions$Step", "next", "LRoleSessions$Step;", false)
def F_State : u_T := fun k => match k with
  | 0 => ("RoleSessions$State", "number", "I", true)
  | 1 => ("RoleSessions$State", "kind", "I", true)
  | 2 => ("RoleSessions$State", "partner", "I", true)
  | 3 => ("RoleSessions$State", "first", "LRoleSessions$Step;", false)
  | 4 => ("RoleSessions$State", "last", "LRoleSessions$Step;", false)
  | 5 => ("RoleSessions$State", "count", "I", false)
  | _ => ("RoleSessions$State", "next", "LRoleSessions$State;", false)
def F_Machine : u_T := fun k => match k with
  | 0 => ("RoleSessions$Machine", "first", "LRoleSessions$State;", false)
  | 1 => ("RoleSessions$Machine", "last", "LRoleSessions$State;", false)
  | _ => ("RoleSessions$Machine", "count", "I", false)
def F_T : u_T := fun k => match k with
  | 0 => ("RoleSessionsModel", "length", "I", false)
  | 1 => ("RoleSessionsModel", "text", "[C", true)
  | 2 => ("RoleSessionsModel", "place", "I", false)
  | 3 => ("RoleSessionsModel", "fault", "I", false)
  | 4 => ("RoleSessionsModel", "used", "I", false)
  | 5 => ("RoleSessionsModel", "kind", "[I", true)
  | 6 => ("RoleSessionsModel", "what", "[I", true)
  | 7 => ("RoleSessionsModel", "labels", "[I", true)
  | 8 => ("RoleSessionsModel", "orderOf", "[I", true)
  | 9 => ("RoleSessionsModel", "sortOf", "[I", true)
  | 10 => ("RoleSessionsModel", "below", "[I", true)
  | 11 => ("RoleSessionsModel", "above", "[I", true)
  | 12 => ("RoleSessionsModel", "globals", "I", false)
  | 13 => ("RoleSessionsModel", "there", "Z", false)
  | 14 => ("RoleSessionsModel", "open", "I", false)
  | 15 => ("RoleSessionsModel", "opened", "[I", true)
  | 16 => ("RoleSessionsModel", "reading", "[I", true)
  | 17 => ("RoleSessionsModel", "partOf", "[I", true)
  | 18 => ("RoleSessionsModel", "pairs", "I", false)
  | 19 => ("RoleSessionsModel", "first", "[I", true)
  | 20 => ("RoleSessionsModel", "second", "[I", true)
  | 21 => ("RoleSessionsModel", "result", "[I", true)
  | 22 => ("RoleSessionsModel", "states", "[I", true)
  | 23 => ("RoleSessionsModel", "stateKind", "[I", true)
  | 24 => ("RoleSessionsModel", "partner", "[I", true)
  | 25 => ("RoleSessionsModel", "counts", "[I", true)
  | 26 => ("RoleSessionsModel", "stateLabel", "[I", true)
  | 27 => ("RoleSessionsModel", "stateSort", "[I", true)
  | 28 => ("RoleSessionsModel", "leads", "[I", true)
  | 29 => ("RoleSessionsModel", "numbered", "[I", true)
  | 30 => ("RoleSessionsModel", "stack", "[I", true)
  | 31 => ("RoleSessionsModel", "paired", "[Z", true)
  | 32 => ("RoleSessionsModel", "session", "Z", false)
  | 33 => ("RoleSessionsModel", "sent", "I", false)
  | 34 => ("RoleSessionsModel", "now", "[I", true)
  | 35 => ("RoleSessionsModel", "strange", "[Z", true)
  | 36 => ("RoleSessionsModel", "faults", "[I", true)
  | 37 => ("RoleSessionsModel", "queued", "[I", true)
  | _ => ("RoleSessionsModel", "letter", "[I", true)
def xc_cls : List vw_C := [("RoleSessions", F_X, 17), ("RoleSessions", F_X, 17), ("RoleSessions$Reader", F_Reader, 6), ("RoleSessions$GlobalEnd", F_GlobalEnd, 0), ("RoleSessions$GlobalVariable", F_GlobalVariable, 1), ("RoleSessions$GlobalLoop", F_GlobalLoop, 2), ("RoleSessions$GlobalMessage", F_GlobalMessage, 3), ("RoleSessions$GlobalBranch", F_GlobalBranch, 4), ("RoleSessions$End", F_End, 0), ("RoleSessions$Variable", F_Variable, 1), ("RoleSessions$Loop", F_Loop, 2), ("RoleSessions$Choice", F_Choice, 4), ("RoleSessions$Branch", F_Branch, 4), ("RoleSessions$Frame", F_Frame, 3), ("RoleSessions$Step", F_Step, 4), ("RoleSessions$State", F_State, 7), ("RoleSessions$Machine", F_Machine, 3), ("RoleSessionsModel", F_T, 39)]
def xc_arr : List (Nat × FieldType) := [(20, .int), (21, .char), (22, .boolean), (23, .object "RoleSessions$Machine"), (24, .object "RoleSessions$State"), (25, .array .int)]
def xc_exc : List (Nat × String) := [(30, "java/lang/IllegalArgumentException"), (31, "java/lang/UnsupportedOperationException")]
def xc_neg : List (String × String) := [("RoleSessions", "java/lang/IllegalArgumentException"), ("RoleSessions$Reader", "java/lang/IllegalArgumentException"), ("RoleSessionsModel", "java/lang/IllegalArgumentException"), ("RoleSessions$GlobalEnd", "java/lang/IllegalArgumentException"), ("RoleSessions$GlobalVariable", "java/lang/IllegalArgumentException"), ("RoleSessions$GlobalLoop", "java/lang/IllegalArgumentException"), ("RoleSessions$GlobalMessage", "java/lang/IllegalArgumentException"), ("RoleSessions$GlobalBranch", "java/lang/IllegalArgumentException"), ("RoleSessions$End", "java/lang/IllegalArgumentException"), ("RoleSessions$Loop", "java/lang/IllegalArgumentException"), ("RoleSessions$Variable", "java/lang/IllegalArgumentException"), ("java/lang/UnsupportedOperationException", "java/lang/IllegalArgumentException"), ("RoleSessions$Choice", "java/lang/IllegalArgumentException"), ("RoleSessions$Branch", "java/lang/IllegalArgumentException"), ("RoleSessions$Machine", "java/lang/IllegalArgumentException"), ("RoleSessions$State", "java/lang/IllegalArgumentException"), ("RoleSessions$Frame", "java/lang/IllegalArgumentException"), ("RoleSessions$Step", "java/lang/IllegalArgumentException"), ("RoleSessions", "java/lang/UnsupportedOperationException"), ("RoleSessions$Reader", "java/lang/UnsupportedOperationException"), ("RoleSessionsModel", "java/lang/UnsupportedOperationException"), ("java/lang/IllegalArgumentException", "java/lang/UnsupportedOperationException"), ("RoleSessions$GlobalEnd", "java/lang/UnsupportedOperationException"), ("RoleSessions$GlobalVariable", "java/lang/UnsupportedOperationException"), ("RoleSessions$GlobalLoop", "java/lang/UnsupportedOperationException"), ("RoleSessions$GlobalMessage", "java/lang/UnsupportedOperationException"), ("RoleSessions$GlobalBranch", "java/lang/UnsupportedOperationException"), ("RoleSessions$End", "java/lang/UnsupportedOperationException"), ("RoleSessions$Loop", "java/lang/UnsupportedOperationException"), ("RoleSessions$Variable", "java/lang/UnsupportedOperationException"), ("RoleSessions$Choice", "java/lang/UnsupportedOperationException"), ("RoleSessions$Branch", "java/lang/UnsupportedOperationException"), ("RoleSessions$Machine", "java/lang/UnsupportedOperationException"), ("RoleSessions$State", "java/lang/UnsupportedOperationException"), ("RoleSessions$Frame", "java/lang/UnsupportedOperationException"), ("RoleSessions$Step", "java/lang/UnsupportedOperationException"), ("RoleSessions", "RoleSessions$Choice"), ("RoleSessions$Reader", "RoleSessions$Choice"), ("RoleSessionsModel", "RoleSessions$Choice"), ("java/lang/IllegalArgumentException", "RoleSessions$Choice"), ("RoleSessions$GlobalEnd", "RoleSessions$Choice"), ("RoleSessions$GlobalVariable", "RoleSessions$Choice"), ("RoleSessions$GlobalLoop", "RoleSessions$Choice"), ("RoleSessions$GlobalMessage", "RoleSessions$Choice"), ("RoleSessions$GlobalBranch", "RoleSessions$Choice"), ("RoleSessions$End", "RoleSessions$Choice"), ("RoleSessions$Loop", "RoleSessions$Choice"), ("RoleSessions$Variable", "RoleSessions$Choice"), ("java/lang/UnsupportedOperationException", "RoleSessions$Choice"), ("RoleSessions$Branch", "RoleSessions$Choice"), ("RoleSessions$Machine", "RoleSessions$Choice"), ("RoleSessions$State", "RoleSessions$Choice"), ("RoleSessions$Frame", "RoleSessions$Choice"), ("RoleSessions$Step", "RoleSessions$Choice"), ("RoleSessions", "RoleSessions$End"), ("RoleSessions$Reader", "RoleSessions$End"), ("RoleSessionsModel", "RoleSessions$End"), ("java/lang/IllegalArgumentException", "RoleSessions$End"), ("RoleSessions$GlobalEnd", "RoleSessions$End"), ("RoleSessions$GlobalVariable", "RoleSessions$End"), ("RoleSessions$GlobalLoop", "RoleSessions$End"), ("RoleSessions$GlobalMessage", "RoleSessions$End"), ("RoleSessions$GlobalBranch", "RoleSessions$End"), ("RoleSessions$Loop", "RoleSessions$End"), ("RoleSessions$Variable", "RoleSessions$End"), ("java/lang/UnsupportedOperationException", "RoleSessions$End"), ("RoleSessions$Choice", "RoleSessions$End"), ("RoleSessions$Branch", "RoleSessions$End"), ("RoleSessions$Machine", "RoleSessions$End"), ("RoleSessions$State", "RoleSessions$End"), ("RoleSessions$Frame", "RoleSessions$End"), ("RoleSessions$Step", "RoleSessions$End"), ("RoleSessions", "RoleSessions$Loop"), ("RoleSessions$Reader", "RoleSessions$Loop"), ("RoleSessionsModel", "RoleSessions$Loop"), ("java/lang/IllegalArgumentException", "RoleSessions$Loop"), ("RoleSessions$GlobalEnd", "RoleSessions$Loop"), ("RoleSessions$GlobalVariable", "RoleSessions$Loop"), ("RoleSessions$GlobalLoop", "RoleSessions$Loop"), ("RoleSessions$GlobalMessage", "RoleSessions$Loop"), ("RoleSessions$GlobalBranch", "RoleSessions$Loop"), ("RoleSessions$End", "RoleSessions$Loop"), ("RoleSessions$Variable", "RoleSessions$Loop"), ("java/lang/UnsupportedOperationException", "RoleSessions$Loop"), ("RoleSessions$Choice", "RoleSessions$Loop"), ("RoleSessions$Branch", "RoleSessions$Loop"), ("RoleSessions$Machine", "RoleSessions$Loop"), ("RoleSessions$State", "RoleSessions$Loop"), ("RoleSessions$Frame", "RoleSessions$Loop"), ("RoleSessions$Step", "RoleSessions$Loop"), ("RoleSessions", "RoleSessions$Variable"), ("RoleSessions$Reader", "RoleSessions$Variable"), ("RoleSessionsModel", "RoleSessions$Variable"), ("java/lang/IllegalArgumentException", "RoleSessions$Variable"), ("RoleSessions$GlobalEnd", "RoleSessions$Variable"), ("RoleSessions$GlobalVariable", "RoleSessions$Variable"), ("RoleSessions$GlobalLoop", "RoleSessions$Variable"), ("RoleSessions$GlobalMessage", "RoleSessions$Variable"), ("RoleSessions$GlobalBranch", "RoleSessions$Variable"), ("RoleSessions$End", "RoleSessions$Variable"), ("RoleSessions$Loop", "RoleSessions$Variable"), ("java/lang/UnsupportedOperationException", "RoleSessions$Variable"), ("RoleSessions$Choice", "RoleSessions$Variable"), ("RoleSessions$Branch", "RoleSessions$Variable"), ("RoleSessions$Machine", "RoleSessions$Variable"), ("RoleSessions$State", "RoleSessions$Variable"), ("RoleSessions$Frame", "RoleSessions$Variable"), ("RoleSessions$Step", "RoleSessions$Variable")]
def xc_sta : List (String × String × String) := [("java/lang/Throwable", "UNASSIGNED_STACK", "[Ljava/lang/StackTraceElement;"), ("java/lang/Throwable", "SUPPRESSED_SENTINEL", "Ljava/util/List;")]
/-- what each class of the list has: types of its fields, names apart, its words in the tables -/
def xc_ok (r : vw_C) : Bool :=
  (List.range r.2.2).all (fun k => (parseFieldDescriptor (r.2.1 k).2.2.1).isSome && (List.range r.2.2).all (fun j => k == j || (r.2.1 k).2.1 != (r.2.1 j).2.1)) &&
  (u_ws r.1 r.2.1 r.2.2).all (fun w => decide (w ∈ lw_tbl)) && decide (Cond.instantiable r.1 r.2.2 ∈ lw_tbl) && decide (Cond.initialized r.1 ∈ lw_tbl)
set_option maxRecDepth 100000 in
theorem xc_okall : xc_cls.all xc_ok = true := by decide +kernel
/-- the words that move from state to state -/
def wd_ok : Cond → Bool
  | .fieldLinkNest .. | .methodLinkNest .. | .declares _ | .castable .. | .privateMethod _ => true
  | .arrayClass _ | .arrayOver (.object _) => true
  | w => w.onTables && w.keeps
