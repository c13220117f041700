/-! the own kinds: name, fields, how many -/
set_option maxRecDepth 100000
def tC0 : u_T := fun k => match k with
  | _ => ("QuorumLog", "group", "LQuorumLog$Group;", false)
def yC0 : Nat → FieldType := fun k => match k with
  | _ => .object "QuorumLog$Group"
def tC1 : u_T := fun k => match k with
  | 0 => ("QuorumLog$Group", "servers", "[LQuorumLog$Server;", true)
  | 1 => ("QuorumLog$Group", "isCut", "[[Z", true)
  | 2 => ("QuorumLog$Group", "messages", "Ljava/util/ArrayList;", true)
  | 3 => ("QuorumLog$Group", "clients", "[LQuorumLog$Client;", true)
  | 4 => ("QuorumLog$Group", "round", "I", false)
  | _ => ("QuorumLog$Group", "lost", "I", false)
def yC1 : Nat → FieldType := fun k => match k with
  | 0 => .array (.object "QuorumLog$Server")
  | 1 => .array (.array .boolean)
  | 2 => .object "java/util/ArrayList"
  | 3 => .array (.object "QuorumLog$Client")
  | 4 => .int
  | _ => .int
def tC2 : u_T := fun k => match k with
  | 0 => ("QuorumLog$Server", "group", "LQuorumLog$Group;", true)
  | 1 => ("QuorumLog$Server", "number", "I", true)
  | 2 => ("QuorumLog$Server", "log", "LQuorumLog$Log;", true)
  | 3 => ("QuorumLog$Server", "isUp", "Z", false)
  | 4 => ("QuorumLog$Server", "term", "I", false)
  | 5 => ("QuorumLog$Server", "voted", "I", false)
  | 6 => ("QuorumLog$Server", "role", "LQuorumLog$Role;", false)
  | 7 => ("QuorumLog$Server", "follows", "I", false)
  | 8 => ("QuorumLog$Server", "waited", "I", false)
  | 9 => ("QuorumLog$Server", "beat", "I", false)
  | 10 => ("QuorumLog$Server", "committed", "I", false)
  | 11 => ("QuorumLog$Server", "table", "LQuorumLog$Table;", false)
  | 12 => ("QuorumLog$Server", "yeses", "Ljava/util/BitSet;", false)
  | 13 => ("QuorumLog$Server", "next", "[I", true)
  | _ => ("QuorumLog$Server", "matched", "[I", true)
def yC2 : Nat → FieldType := fun k => match k with
  | 0 => .object "QuorumLog$Group"
  | 1 => .int
  | 2 => .object "QuorumLog$Log"
  | 3 => .boolean
  | 4 => .int
  | 5 => .int
  | 6 => .object "QuorumLog$Role"
  | 7 => .int
  | 8 => .int
  | 9 => .int
  | 10 => .int
  | 11 => .object "QuorumLog$Table"
  | 12 => .object "java/util/BitSet"
  | 13 => .array .int
  | _ => .array .int
def tC3 : u_T := fun k => match k with
  | 0 => ("QuorumLog$Log", "entries", "Ljava/util/ArrayList;", true)
  | _ => ("QuorumLog$Log", "snapshot", "LQuorumLog$Snapshot;", false)
def yC3 : Nat → FieldType := fun k => match k with
  | 0 => .object "java/util/ArrayList"
  | _ => .object "QuorumLog$Snapshot"
def tC4 : u_T := fun k => match k with
  | 0 => ("QuorumLog$Snapshot", "index", "I", true)
  | 1 => ("QuorumLog$Snapshot", "term", "I", true)
  | 2 => ("QuorumLog$Snapshot", "table", "LQuorumLog$Table;", true)
  | _ => ("QuorumLog$Snapshot", "members", "Ljava/util/BitSet;", true)
def yC4 : Nat → FieldType := fun k => match k with
  | 0 => .int
  | 1 => .int
  | 2 => .object "QuorumLog$Table"
  | _ => .object "java/util/BitSet"
def tC5 : u_T := fun k => match k with
  | 0 => ("QuorumLog$Table", "values", "[I", true)
  | 1 => ("QuorumLog$Table", "serials", "[I", true)
  | _ => ("QuorumLog$Table", "given", "[I", true)
def yC5 : Nat → FieldType := fun k => match k with
  | 0 => .array .int
  | 1 => .array .int
  | _ => .array .int
def tC6 : u_T := fun k => match k with
  | 0 => ("QuorumLog$Client", "request", "LQuorumLog$Request;", false)
  | 1 => ("QuorumLog$Client", "serial", "I", false)
  | 2 => ("QuorumLog$Client", "isAnswered", "Z", false)
  | _ => ("QuorumLog$Client", "answer", "I", false)
def yC6 : Nat → FieldType := fun k => match k with
  | 0 => .object "QuorumLog$Request"
  | 1 => .int
  | 2 => .boolean
  | _ => .int
def tC7 : u_T := fun k => match k with
  | 0 => ("QuorumLog$Request", "deed", "LQuorumLog$Deed;", true)
  | 1 => ("QuorumLog$Request", "client", "I", true)
  | 2 => ("QuorumLog$Request", "serial", "I", true)
  | 3 => ("QuorumLog$Request", "key", "I", true)
  | 4 => ("QuorumLog$Request", "value", "I", true)
  | _ => ("QuorumLog$Request", "expected", "I", true)
def yC7 : Nat → FieldType := fun k => match k with
  | 0 => .object "QuorumLog$Deed"
  | 1 => .int
  | 2 => .int
  | 3 => .int
  | 4 => .int
  | _ => .int
def tC8 : u_T := fun k => match k with
  | _ => ("QuorumLog$Entry", "term", "I", true)
def yC8 : Nat → FieldType := fun k => match k with
  | _ => .int
def tC9 : u_T := fun k => match k with
  | 0 => ("QuorumLog$Entry", "term", "I", true)
  | _ => ("QuorumLog$Joined", "members", "Ljava/util/BitSet;", true)
def yC9 : Nat → FieldType := fun k => match k with
  | 0 => .int
  | _ => .object "java/util/BitSet"
def tC10 : u_T := fun k => match k with
  | 0 => ("QuorumLog$Entry", "term", "I", true)
  | _ => ("QuorumLog$Asked", "request", "LQuorumLog$Request;", true)
def yC10 : Nat → FieldType := fun k => match k with
  | 0 => .int
  | _ => .object "QuorumLog$Request"
def tC11 : u_T := fun k => match k with
  | 0 => ("QuorumLog$Message", "from", "I", true)
  | 1 => ("QuorumLog$Message", "to", "I", true)
  | 2 => ("QuorumLog$Message", "term", "I", true)
  | 3 => ("QuorumLog$Asking", "last", "I", true)
  | _ => ("QuorumLog$Asking", "lastTerm", "I", true)
def yC11 : Nat → FieldType := fun k => match k with
  | 0 => .int
  | 1 => .int
  | 2 => .int
  | 3 => .int
  | _ => .int
def tC12 : u_T := fun k => match k with
  | 0 => ("QuorumLog$Message", "from", "I", true)
  | 1 => ("QuorumLog$Message", "to", "I", true)
  | 2 => ("QuorumLog$Message", "term", "I", true)
  | _ => ("QuorumLog$SoundReply", "isYes", "Z", true)
def yC12 : Nat → FieldType := fun k => match k with
  | 0 => .int
  | 1 => .int
  | 2 => .int
  | _ => .boolean
def tC13 : u_T := fun k => match k with
  | 0 => ("QuorumLog$Message", "from", "I", true)
  | 1 => ("QuorumLog$Message", "to", "I", true)
  | 2 => ("QuorumLog$Message", "term", "I", true)
  | 3 => ("QuorumLog$Asking", "last", "I", true)
  | _ => ("QuorumLog$Asking", "lastTerm", "I", true)
def yC13 : Nat → FieldType := fun k => match k with
  | 0 => .int
  | 1 => .int
  | 2 => .int
  | 3 => .int
  | _ => .int
def tC14 : u_T := fun k => match k with
  | 0 => ("QuorumLog$Message", "from", "I", true)
  | 1 => ("QuorumLog$Message", "to", "I", true)
  | 2 => ("QuorumLog$Message", "term", "I", true)
  | _ => ("QuorumLog$CallReply", "isYes", "Z", true)
def yC14 : Nat → FieldType := fun k => match k with
  | 0 => .int
  | 1 => .int
  | 2 => .int
  | _ => .boolean
def tC15 : u_T := fun k => match k with
  | 0 => ("QuorumLog$Message", "from", "I", true)
  | 1 => ("QuorumLog$Message", "to", "I", true)
  | 2 => ("QuorumLog$Message", "term", "I", true)
  | 3 => ("QuorumLog$Entries", "previous", "I", true)
  | 4 => ("QuorumLog$Entries", "previousTerm", "I", true)
  | 5 => ("QuorumLog$Entries", "entries", "Ljava/util/ArrayList;", true)
  | _ => ("QuorumLog$Entries", "committed", "I", true)
def yC15 : Nat → FieldType := fun k => match k with
  | 0 => .int
  | 1 => .int
  | 2 => .int
  | 3 => .int
  | 4 => .int
  | 5 => .object "java/util/ArrayList"
  | _ => .int
def tC16 : u_T := fun k => match k with
  | 0 => ("QuorumLog$Message", "from", "I", true)
  | 1 => ("QuorumLog$Message", "to", "I", true)
  | 2 => ("QuorumLog$Message", "term", "I", true)
  | 3 => ("QuorumLog$Answer", "isYes", "Z", true)
  | _ => ("QuorumLog$Answer", "index", "I", true)
def yC16 : Nat → FieldType := fun k => match k with
  | 0 => .int
  | 1 => .int
  | 2 => .int
  | 3 => .boolean
  | _ => .int
def tC17 : u_T := fun k => match k with
  | 0 => ("QuorumLog$Message", "from", "I", true)
  | 1 => ("QuorumLog$Message", "to", "I", true)
  | 2 => ("QuorumLog$Message", "term", "I", true)
  | _ => ("QuorumLog$Picture", "snapshot", "LQuorumLog$Snapshot;", true)
def yC17 : Nat → FieldType := fun k => match k with
  | 0 => .int
  | 1 => .int
  | 2 => .int
  | _ => .object "QuorumLog$Snapshot"
def tC18 : u_T := fun k => match k with
  | 0 => ("QuorumLog$Message", "from", "I", true)
  | 1 => ("QuorumLog$Message", "to", "I", true)
  | _ => ("QuorumLog$Message", "term", "I", true)
def yC18 : Nat → FieldType := fun k => match k with
  | 0 => .int
  | 1 => .int
  | _ => .int
def tC19 : u_T := fun k => match k with
  | 0 => ("java/util/AbstractList", "modCount", "I", false)
  | 1 => ("java/util/ArrayList", "elementData", "[Ljava/lang/Object;", false)
  | _ => ("java/util/ArrayList", "size", "I", false)
def yC19 : Nat → FieldType := fun k => match k with
  | 0 => .int
  | 1 => .array (.object "java/lang/Object")
  | _ => .int
def tC20 : u_T := fun k => match k with
  | 0 => ("java/util/BitSet", "words", "[J", false)
  | 1 => ("java/util/BitSet", "wordsInUse", "I", false)
  | _ => ("java/util/BitSet", "sizeIsSticky", "Z", false)
def yC20 : Nat → FieldType := fun k => match k with
  | 0 => .array .long
  | 1 => .int
  | _ => .boolean
def tC21 : u_T := fun k => match k with
  | 0 => ("QuorumLogModel", "now", "LQuorumLogModel$State;", true)
  | 1 => ("QuorumLogModel", "ahead", "LQuorumLogModel$State;", true)
  | 2 => ("QuorumLogModel", "thrown", "I", false)
  | _ => ("QuorumLogModel", "sum", "J", false)
def yC21 : Nat → FieldType := fun k => match k with
  | 0 => .object "QuorumLogModel$State"
  | 1 => .object "QuorumLogModel$State"
  | 2 => .int
  | _ => .long
def tC22 : u_T := fun k => match k with
  | 0 => ("QuorumLogModel$State", "round", "I", false)
  | 1 => ("QuorumLogModel$State", "lost", "I", false)
  | 2 => ("QuorumLogModel$State", "isUp", "[Z", true)
  | 3 => ("QuorumLogModel$State", "term", "[I", true)
  | 4 => ("QuorumLogModel$State", "voted", "[I", true)
  | 5 => ("QuorumLogModel$State", "role", "[I", true)
  | 6 => ("QuorumLogModel$State", "follows", "[I", true)
  | 7 => ("QuorumLogModel$State", "waited", "[I", true)
  | 8 => ("QuorumLogModel$State", "committed", "[I", true)
  | 9 => ("QuorumLogModel$State", "applied", "[I", true)
  | 10 => ("QuorumLogModel$State", "beats", "[I", true)
  | 11 => ("QuorumLogModel$State", "yes", "[I", true)
  | 12 => ("QuorumLogModel$State", "cuts", "[I", true)
  | 13 => ("QuorumLogModel$State", "snapIndex", "[I", true)
  | 14 => ("QuorumLogModel$State", "snapTerm", "[I", true)
  | 15 => ("QuorumLogModel$State", "snapMembers", "[I", true)
  | 16 => ("QuorumLogModel$State", "snapTable", "[[I", true)
  | 17 => ("QuorumLogModel$State", "table", "[[I", true)
  | 18 => ("QuorumLogModel$State", "size", "[I", true)
  | 19 => ("QuorumLogModel$State", "log", "[[I", true)
  | 20 => ("QuorumLogModel$State", "next", "[[I", true)
  | 21 => ("QuorumLogModel$State", "matched", "[[I", true)
  | 22 => ("QuorumLogModel$State", "many", "I", false)
  | 23 => ("QuorumLogModel$State", "post", "[I", true)
  | 24 => ("QuorumLogModel$State", "told", "[I", true)
  | 25 => ("QuorumLogModel$State", "request", "[I", true)
  | 26 => ("QuorumLogModel$State", "answered", "[I", true)
  | _ => ("QuorumLogModel$State", "answer", "[I", true)
def yC22 : Nat → FieldType := fun k => match k with
  | 0 => .int
  | 1 => .int
  | 2 => .array .boolean
  | 3 => .array .int
  | 4 => .array .int
  | 5 => .array .int
  | 6 => .array .int
  | 7 => .array .int
  | 8 => .array .int
  | 9 => .array .int
  | 10 => .array .int
  | 11 => .array .int
  | 12 => .array .int
  | 13 => .array .int
  | 14 => .array .int
  | 15 => .array .int
  | 16 => .array (.array .int)
  | 17 => .array (.array .int)
  | 18 => .array .int
  | 19 => .array (.array .int)
  | 20 => .array (.array .int)
  | 21 => .array (.array .int)
  | 22 => .int
  | 23 => .array .int
  | 24 => .array .int
  | 25 => .array .int
  | 26 => .array .int
  | _ => .array .int
def clL : List vw_C := [("QuorumLog", tC0, 1), ("QuorumLog$Group", tC1, 6), ("QuorumLog$Server", tC2, 15), ("QuorumLog$Log", tC3, 2), ("QuorumLog$Snapshot", tC4, 4), ("QuorumLog$Table", tC5, 3), ("QuorumLog$Client", tC6, 4), ("QuorumLog$Request", tC7, 6), ("QuorumLog$Empty", tC8, 1), ("QuorumLog$Joined", tC9, 2), ("QuorumLog$Asked", tC10, 2), ("QuorumLog$Sound", tC11, 5), ("QuorumLog$SoundReply", tC12, 4), ("QuorumLog$Call", tC13, 5), ("QuorumLog$CallReply", tC14, 4), ("QuorumLog$Entries", tC15, 7), ("QuorumLog$Answer", tC16, 5), ("QuorumLog$Picture", tC17, 4), ("QuorumLog$Hurry", tC18, 3), ("java/util/ArrayList", tC19, 3), ("java/util/BitSet", tC20, 3), ("QuorumLogModel", tC21, 4), ("QuorumLogModel$State", tC22, 28)]
def clT (ci : Nat) : Nat → FieldType := if ci = 0 then yC0 else if ci = 1 then yC1 else if ci = 2 then yC2 else if ci = 3 then yC3 else if ci = 4 then yC4 else if ci = 5 then yC5 else if ci = 6 then yC6 else if ci = 7 then yC7 else if ci = 8 then yC8 else if ci = 9 then yC9 else if ci = 10 then yC10 else if ci = 11 then yC11 else if ci = 12 then yC12 else if ci = 13 then yC13 else if ci = 14 then yC14 else if ci = 15 then yC15 else if ci = 16 then yC16 else if ci = 17 then yC17 else if ci = 18 then yC18 else if ci = 19 then yC19 else if ci = 20 then yC20 else if ci = 21 then yC21 else yC22
/-- how many fields, and their first values -/
def fdT (ci : Nat) : Nat × (Nat → Value) := ((clL.getD ci ("", fun _ => ("", "", "", false), 0)).2.2, fun k => defaultValue (clT ci k))
theorem iC0 : ∀ w ∈ u_ws "QuorumLog" tC0 1, w ∈ lw_all := lw_in (u_ws "QuorumLog" tC0 1) [764] (by decide +kernel) (by decide +kernel)
theorem oC0 : (∀ k, k < 1 → parseFieldDescriptor (tC0 k).2.2.1 = some (clT 0 k)) ∧ (∀ a, a < 1 → ∀ b, b < 1 → a ≠ b → (tC0 a).2.1 ≠ (tC0 b).2.1) := ⟨by decide +kernel, by decide +kernel⟩
theorem jC0 : Cond.instantiable "QuorumLog" 1 ∈ lw_all ∧ Cond.initialized "QuorumLog" ∈ lw_all := ⟨lw_w 115 (by decide +kernel) (by decide +kernel), lw_w 62 (by decide +kernel) (by decide +kernel)⟩
theorem iC1 : ∀ w ∈ u_ws "QuorumLog$Group" tC1 6, w ∈ lw_all := lw_in (u_ws "QuorumLog$Group" tC1 6) [176, 178, 180, 182, 184, 186] (by decide +kernel) (by decide +kernel)
theorem oC1 : (∀ k, k < 6 → parseFieldDescriptor (tC1 k).2.2.1 = some (clT 1 k)) ∧ (∀ a, a < 6 → ∀ b, b < 6 → a ≠ b → (tC1 a).2.1 ≠ (tC1 b).2.1) := ⟨by decide +kernel, by decide +kernel⟩
theorem jC1 : Cond.instantiable "QuorumLog$Group" 6 ∈ lw_all ∧ Cond.initialized "QuorumLog$Group" ∈ lw_all := ⟨lw_w 126 (by decide +kernel) (by decide +kernel), lw_w 63 (by decide +kernel) (by decide +kernel)⟩
theorem iC2 : ∀ w ∈ u_ws "QuorumLog$Server" tC2 15, w ∈ lw_all := lw_in (u_ws "QuorumLog$Server" tC2 15) [707, 709, 711, 713, 715, 717, 719, 721, 723, 725, 727, 729, 731, 733, 735] (by decide +kernel) (by decide +kernel)
theorem oC2 : (∀ k, k < 15 → parseFieldDescriptor (tC2 k).2.2.1 = some (clT 2 k)) ∧ (∀ a, a < 15 → ∀ b, b < 15 → a ≠ b → (tC2 a).2.1 ≠ (tC2 b).2.1) := ⟨by decide +kernel, by decide +kernel⟩
theorem jC2 : Cond.instantiable "QuorumLog$Server" 15 ∈ lw_all ∧ Cond.initialized "QuorumLog$Server" ∈ lw_all := ⟨lw_w 615 (by decide +kernel) (by decide +kernel), lw_w 87 (by decide +kernel) (by decide +kernel)⟩
theorem iC3 : ∀ w ∈ u_ws "QuorumLog$Log" tC3 2, w ∈ lw_all := lw_in (u_ws "QuorumLog$Log" tC3 2) [631, 633] (by decide +kernel) (by decide +kernel)
theorem oC3 : (∀ k, k < 2 → parseFieldDescriptor (tC3 k).2.2.1 = some (clT 3 k)) ∧ (∀ a, a < 2 → ∀ b, b < 2 → a ≠ b → (tC3 a).2.1 ≠ (tC3 b).2.1) := ⟨by decide +kernel, by decide +kernel⟩
theorem jC3 : Cond.instantiable "QuorumLog$Log" 2 ∈ lw_all ∧ Cond.initialized "QuorumLog$Log" ∈ lw_all := ⟨lw_w 617 (by decide +kernel) (by decide +kernel), lw_w 88 (by decide +kernel) (by decide +kernel)⟩
theorem iC4 : ∀ w ∈ u_ws "QuorumLog$Snapshot" tC4 4, w ∈ lw_all := lw_in (u_ws "QuorumLog$Snapshot" tC4 4) [606, 608, 610, 612] (by decide +kernel) (by decide +kernel)
theorem oC4 : (∀ k, k < 4 → parseFieldDescriptor (tC4 k).2.2.1 = some (clT 4 k)) ∧ (∀ a, a < 4 → ∀ b, b < 4 → a ≠ b → (tC4 a).2.1 ≠ (tC4 b).2.1) := ⟨by decide +kernel, by decide +kernel⟩
theorem jC4 : Cond.instantiable "QuorumLog$Snapshot" 4 ∈ lw_all ∧ Cond.initialized "QuorumLog$Snapshot" ∈ lw_all := ⟨lw_w 567 (by decide +kernel) (by decide +kernel), lw_w 85 (by decide +kernel) (by decide +kernel)⟩
theorem iC5 : ∀ w ∈ u_ws "QuorumLog$Table" tC5 3, w ∈ lw_all := lw_in (u_ws "QuorumLog$Table" tC5 3) [580, 582, 584] (by decide +kernel) (by decide +kernel)
theorem oC5 : (∀ k, k < 3 → parseFieldDescriptor (tC5 k).2.2.1 = some (clT 5 k)) ∧ (∀ a, a < 3 → ∀ b, b < 3 → a ≠ b → (tC5 a).2.1 ≠ (tC5 b).2.1) := ⟨by decide +kernel, by decide +kernel⟩
theorem jC5 : Cond.instantiable "QuorumLog$Table" 3 ∈ lw_all ∧ Cond.initialized "QuorumLog$Table" ∈ lw_all := ⟨lw_w 569 (by decide +kernel) (by decide +kernel), lw_w 86 (by decide +kernel) (by decide +kernel)⟩
theorem iC6 : ∀ w ∈ u_ws "QuorumLog$Client" tC6 4, w ∈ lw_all := lw_in (u_ws "QuorumLog$Client" tC6 4) [754, 756, 758, 760] (by decide +kernel) (by decide +kernel)
theorem oC6 : (∀ k, k < 4 → parseFieldDescriptor (tC6 k).2.2.1 = some (clT 6 k)) ∧ (∀ a, a < 4 → ∀ b, b < 4 → a ≠ b → (tC6 a).2.1 ≠ (tC6 b).2.1) := ⟨by decide +kernel, by decide +kernel⟩
theorem jC6 : Cond.instantiable "QuorumLog$Client" 4 ∈ lw_all ∧ Cond.initialized "QuorumLog$Client" ∈ lw_all := ⟨lw_w 738 (by decide +kernel) (by decide +kernel), lw_w 91 (by decide +kernel) (by decide +kernel)⟩
theorem iC7 : ∀ w ∈ u_ws "QuorumLog$Request" tC7 6, w ∈ lw_all := lw_in (u_ws "QuorumLog$Request" tC7 6) [2049, 2051, 2053, 2055, 2057, 2059] (by decide +kernel) (by decide +kernel)
theorem oC7 : (∀ k, k < 6 → parseFieldDescriptor (tC7 k).2.2.1 = some (clT 7 k)) ∧ (∀ a, a < 6 → ∀ b, b < 6 → a ≠ b → (tC7 a).2.1 ≠ (tC7 b).2.1) := ⟨by decide +kernel, by decide +kernel⟩
theorem jC7 : Cond.instantiable "QuorumLog$Request" 6 ∈ lw_all ∧ Cond.initialized "QuorumLog$Request" ∈ lw_all := ⟨lw_w 2024 (by decide +kernel) (by decide +kernel), lw_w 112 (by decide +kernel) (by decide +kernel)⟩
theorem iC8 : ∀ w ∈ u_ws "QuorumLog$Empty" tC8 1, w ∈ lw_all := lw_in (u_ws "QuorumLog$Empty" tC8 1) [1169] (by decide +kernel) (by decide +kernel)
theorem oC8 : (∀ k, k < 1 → parseFieldDescriptor (tC8 k).2.2.1 = some (clT 8 k)) ∧ (∀ a, a < 1 → ∀ b, b < 1 → a ≠ b → (tC8 a).2.1 ≠ (tC8 b).2.1) := ⟨by decide +kernel, by decide +kernel⟩
theorem jC8 : Cond.instantiable "QuorumLog$Empty" 1 ∈ lw_all ∧ Cond.initialized "QuorumLog$Empty" ∈ lw_all := ⟨lw_w 1155 (by decide +kernel) (by decide +kernel), lw_w 102 (by decide +kernel) (by decide +kernel)⟩
theorem iC9 : ∀ w ∈ u_ws "QuorumLog$Joined" tC9 2, w ∈ lw_all := lw_in (u_ws "QuorumLog$Joined" tC9 2) [1941, 1939] (by decide +kernel) (by decide +kernel)
theorem oC9 : (∀ k, k < 2 → parseFieldDescriptor (tC9 k).2.2.1 = some (clT 9 k)) ∧ (∀ a, a < 2 → ∀ b, b < 2 → a ≠ b → (tC9 a).2.1 ≠ (tC9 b).2.1) := ⟨by decide +kernel, by decide +kernel⟩
theorem jC9 : Cond.instantiable "QuorumLog$Joined" 2 ∈ lw_all ∧ Cond.initialized "QuorumLog$Joined" ∈ lw_all := ⟨lw_w 1932 (by decide +kernel) (by decide +kernel), lw_w 110 (by decide +kernel) (by decide +kernel)⟩
theorem iC10 : ∀ w ∈ u_ws "QuorumLog$Asked" tC10 2, w ∈ lw_all := lw_in (u_ws "QuorumLog$Asked" tC10 2) [2096, 2094] (by decide +kernel) (by decide +kernel)
theorem oC10 : (∀ k, k < 2 → parseFieldDescriptor (tC10 k).2.2.1 = some (clT 10 k)) ∧ (∀ a, a < 2 → ∀ b, b < 2 → a ≠ b → (tC10 a).2.1 ≠ (tC10 b).2.1) := ⟨by decide +kernel, by decide +kernel⟩
theorem jC10 : Cond.instantiable "QuorumLog$Asked" 2 ∈ lw_all ∧ Cond.initialized "QuorumLog$Asked" ∈ lw_all := ⟨lw_w 2088 (by decide +kernel) (by decide +kernel), lw_w 113 (by decide +kernel) (by decide +kernel)⟩
theorem iC11 : ∀ w ∈ u_ws "QuorumLog$Sound" tC11 5, w ∈ lw_all := lw_in (u_ws "QuorumLog$Sound" tC11 5) [1280, 1281, 1282, 1278, 1279] (by decide +kernel) (by decide +kernel)
theorem oC11 : (∀ k, k < 5 → parseFieldDescriptor (tC11 k).2.2.1 = some (clT 11 k)) ∧ (∀ a, a < 5 → ∀ b, b < 5 → a ≠ b → (tC11 a).2.1 ≠ (tC11 b).2.1) := ⟨by decide +kernel, by decide +kernel⟩
theorem jC11 : Cond.instantiable "QuorumLog$Sound" 5 ∈ lw_all ∧ Cond.initialized "QuorumLog$Sound" ∈ lw_all := ⟨lw_w 1273 (by decide +kernel) (by decide +kernel), lw_w 105 (by decide +kernel) (by decide +kernel)⟩
theorem iC12 : ∀ w ∈ u_ws "QuorumLog$SoundReply" tC12 4, w ∈ lw_all := lw_in (u_ws "QuorumLog$SoundReply" tC12 4) [1468, 1469, 1470, 1466] (by decide +kernel) (by decide +kernel)
theorem oC12 : (∀ k, k < 4 → parseFieldDescriptor (tC12 k).2.2.1 = some (clT 12 k)) ∧ (∀ a, a < 4 → ∀ b, b < 4 → a ≠ b → (tC12 a).2.1 ≠ (tC12 b).2.1) := ⟨by decide +kernel, by decide +kernel⟩
theorem jC12 : Cond.instantiable "QuorumLog$SoundReply" 4 ∈ lw_all ∧ Cond.initialized "QuorumLog$SoundReply" ∈ lw_all := ⟨lw_w 1460 (by decide +kernel) (by decide +kernel), lw_w 108 (by decide +kernel) (by decide +kernel)⟩
theorem iC13 : ∀ w ∈ u_ws "QuorumLog$Call" tC13 5, w ∈ lw_all := lw_in (u_ws "QuorumLog$Call" tC13 5) [1268, 1269, 1270, 1264, 1266] (by decide +kernel) (by decide +kernel)
theorem oC13 : (∀ k, k < 5 → parseFieldDescriptor (tC13 k).2.2.1 = some (clT 13 k)) ∧ (∀ a, a < 5 → ∀ b, b < 5 → a ≠ b → (tC13 a).2.1 ≠ (tC13 b).2.1) := ⟨by decide +kernel, by decide +kernel⟩
theorem jC13 : Cond.instantiable "QuorumLog$Call" 5 ∈ lw_all ∧ Cond.initialized "QuorumLog$Call" ∈ lw_all := ⟨lw_w 1248 (by decide +kernel) (by decide +kernel), lw_w 104 (by decide +kernel) (by decide +kernel)⟩
theorem iC14 : ∀ w ∈ u_ws "QuorumLog$CallReply" tC14 4, w ∈ lw_all := lw_in (u_ws "QuorumLog$CallReply" tC14 4) [1359, 1360, 1361, 1357] (by decide +kernel) (by decide +kernel)
theorem oC14 : (∀ k, k < 4 → parseFieldDescriptor (tC14 k).2.2.1 = some (clT 14 k)) ∧ (∀ a, a < 4 → ∀ b, b < 4 → a ≠ b → (tC14 a).2.1 ≠ (tC14 b).2.1) := ⟨by decide +kernel, by decide +kernel⟩
theorem jC14 : Cond.instantiable "QuorumLog$CallReply" 4 ∈ lw_all ∧ Cond.initialized "QuorumLog$CallReply" ∈ lw_all := ⟨lw_w 1351 (by decide +kernel) (by decide +kernel), lw_w 106 (by decide +kernel) (by decide +kernel)⟩
theorem iC15 : ∀ w ∈ u_ws "QuorumLog$Entries" tC15 7, w ∈ lw_all := lw_in (u_ws "QuorumLog$Entries" tC15 7) [1081, 1082, 1083, 1073, 1075, 1077, 1079] (by decide +kernel) (by decide +kernel)
theorem oC15 : (∀ k, k < 7 → parseFieldDescriptor (tC15 k).2.2.1 = some (clT 15 k)) ∧ (∀ a, a < 7 → ∀ b, b < 7 → a ≠ b → (tC15 a).2.1 ≠ (tC15 b).2.1) := ⟨by decide +kernel, by decide +kernel⟩
theorem jC15 : Cond.instantiable "QuorumLog$Entries" 7 ∈ lw_all ∧ Cond.initialized "QuorumLog$Entries" ∈ lw_all := ⟨lw_w 1044 (by decide +kernel) (by decide +kernel), lw_w 99 (by decide +kernel) (by decide +kernel)⟩
theorem iC16 : ∀ w ∈ u_ws "QuorumLog$Answer" tC16 5, w ∈ lw_all := lw_in (u_ws "QuorumLog$Answer" tC16 5) [1395, 1396, 1397, 1391, 1393] (by decide +kernel) (by decide +kernel)
theorem oC16 : (∀ k, k < 5 → parseFieldDescriptor (tC16 k).2.2.1 = some (clT 16 k)) ∧ (∀ a, a < 5 → ∀ b, b < 5 → a ≠ b → (tC16 a).2.1 ≠ (tC16 b).2.1) := ⟨by decide +kernel, by decide +kernel⟩
theorem jC16 : Cond.instantiable "QuorumLog$Answer" 5 ∈ lw_all ∧ Cond.initialized "QuorumLog$Answer" ∈ lw_all := ⟨lw_w 1384 (by decide +kernel) (by decide +kernel), lw_w 107 (by decide +kernel) (by decide +kernel)⟩
theorem iC17 : ∀ w ∈ u_ws "QuorumLog$Picture" tC17 4, w ∈ lw_all := lw_in (u_ws "QuorumLog$Picture" tC17 4) [1036, 1038, 1040, 1034] (by decide +kernel) (by decide +kernel)
theorem oC17 : (∀ k, k < 4 → parseFieldDescriptor (tC17 k).2.2.1 = some (clT 17 k)) ∧ (∀ a, a < 4 → ∀ b, b < 4 → a ≠ b → (tC17 a).2.1 ≠ (tC17 b).2.1) := ⟨by decide +kernel, by decide +kernel⟩
theorem jC17 : Cond.instantiable "QuorumLog$Picture" 4 ∈ lw_all ∧ Cond.initialized "QuorumLog$Picture" ∈ lw_all := ⟨lw_w 993 (by decide +kernel) (by decide +kernel), lw_w 98 (by decide +kernel) (by decide +kernel)⟩
theorem iC18 : ∀ w ∈ u_ws "QuorumLog$Hurry" tC18 3, w ∈ lw_all := lw_in (u_ws "QuorumLog$Hurry" tC18 3) [1903, 1904, 1905] (by decide +kernel) (by decide +kernel)
theorem oC18 : (∀ k, k < 3 → parseFieldDescriptor (tC18 k).2.2.1 = some (clT 18 k)) ∧ (∀ a, a < 3 → ∀ b, b < 3 → a ≠ b → (tC18 a).2.1 ≠ (tC18 b).2.1) := ⟨by decide +kernel, by decide +kernel⟩
theorem jC18 : Cond.instantiable "QuorumLog$Hurry" 3 ∈ lw_all ∧ Cond.initialized "QuorumLog$Hurry" ∈ lw_all := ⟨lw_w 1898 (by decide +kernel) (by decide +kernel), lw_w 109 (by decide +kernel) (by decide +kernel)⟩
theorem iC19 : ∀ w ∈ u_ws "java/util/ArrayList" tC19 3, w ∈ lw_all := lw_in (u_ws "java/util/ArrayList" tC19 3) [158, 154, 156] (by decide +kernel) (by decide +kernel)
theorem oC19 : (∀ k, k < 3 → parseFieldDescriptor (tC19 k).2.2.1 = some (clT 19 k)) ∧ (∀ a, a < 3 → ∀ b, b < 3 → a ≠ b → (tC19 a).2.1 ≠ (tC19 b).2.1) := ⟨by decide +kernel, by decide +kernel⟩
theorem jC19 : Cond.instantiable "java/util/ArrayList" 3 ∈ lw_all ∧ Cond.initialized "java/util/ArrayList" ∈ lw_all := ⟨lw_w 136 (by decide +kernel) (by decide +kernel), lw_w 66 (by decide +kernel) (by decide +kernel)⟩
theorem iC20 : ∀ w ∈ u_ws "java/util/BitSet" tC20 3, w ∈ lw_all := lw_in (u_ws "java/util/BitSet" tC20 3) [205, 207, 209] (by decide +kernel) (by decide +kernel)
theorem oC20 : (∀ k, k < 3 → parseFieldDescriptor (tC20 k).2.2.1 = some (clT 20 k)) ∧ (∀ a, a < 3 → ∀ b, b < 3 → a ≠ b → (tC20 a).2.1 ≠ (tC20 b).2.1) := ⟨by decide +kernel, by decide +kernel⟩
theorem jC20 : Cond.instantiable "java/util/BitSet" 3 ∈ lw_all ∧ Cond.initialized "java/util/BitSet" ∈ lw_all := ⟨lw_w 190 (by decide +kernel) (by decide +kernel), lw_w 67 (by decide +kernel) (by decide +kernel)⟩
theorem iC21 : ∀ w ∈ u_ws "QuorumLogModel" tC21 4, w ∈ lw_all := lw_in (u_ws "QuorumLogModel" tC21 4) [2441, 2443, 2445, 2447] (by decide +kernel) (by decide +kernel)
theorem oC21 : (∀ k, k < 4 → parseFieldDescriptor (tC21 k).2.2.1 = some (clT 21 k)) ∧ (∀ a, a < 4 → ∀ b, b < 4 → a ≠ b → (tC21 a).2.1 ≠ (tC21 b).2.1) := ⟨by decide +kernel, by decide +kernel⟩
theorem jC21 : Cond.instantiable "QuorumLogModel" 4 ∈ lw_all ∧ Cond.initialized "QuorumLogModel" ∈ lw_all := ⟨lw_w 2303 (by decide +kernel) (by decide +kernel), lw_w 92 (by decide +kernel) (by decide +kernel)⟩
theorem iC22 : ∀ w ∈ u_ws "QuorumLogModel$State" tC22 28, w ∈ lw_all := lw_in (u_ws "QuorumLogModel$State" tC22 28) [2368, 2370, 2372, 2374, 2376, 2378, 2380, 2382, 2384, 2386, 2388, 2390, 2392, 2394, 2396, 2398, 2400, 2402, 2404, 2406, 2408, 2410, 2412, 2414, 2416, 2418, 2420, 2422] (by decide +kernel) (by decide +kernel)
theorem oC22 : (∀ k, k < 28 → parseFieldDescriptor (tC22 k).2.2.1 = some (clT 22 k)) ∧ (∀ a, a < 28 → ∀ b, b < 28 → a ≠ b → (tC22 a).2.1 ≠ (tC22 b).2.1) := ⟨by decide +kernel, by decide +kernel⟩
theorem jC22 : Cond.instantiable "QuorumLogModel$State" 28 ∈ lw_all ∧ Cond.initialized "QuorumLogModel$State" ∈ lw_all := ⟨lw_w 2309 (by decide +kernel) (by decide +kernel), lw_w 93 (by decide +kernel) (by decide +kernel)⟩
def cl_row (ci : Nat) (q : vw_C) : Prop := (∀ w ∈ u_ws q.1 q.2.1 q.2.2, w ∈ lw_all) ∧ Cond.instantiable q.1 q.2.2 ∈ lw_all ∧ Cond.initialized q.1 ∈ lw_all ∧ (∀ k, k < q.2.2 → parseFieldDescriptor (q.2.1 k).2.2.1 = some (clT ci k)) ∧ (∀ a, a < q.2.2 → ∀ b, b < q.2.2 → a ≠ b → (q.2.1 a).2.1 ≠ (q.2.1 b).2.1)
theorem cl_all : ∀ (ci : Nat) (q : vw_C), clL[ci]? = some q → cl_row ci q := by
  intro ci q hq
  match ci, hq with
  | 0, hq => cases hq; exact ⟨iC0, jC0.1, jC0.2, oC0.1, oC0.2⟩
  | 1, hq => cases hq; exact ⟨iC1, jC1.1, jC1.2, oC1.1, oC1.2⟩
  | 2, hq => cases hq; exact ⟨iC2, jC2.1, jC2.2, oC2.1, oC2.2⟩
  | 3, hq => cases hq; exact ⟨iC3, jC3.1, jC3.2, oC3.1, oC3.2⟩
  | 4, hq => cases hq; exact ⟨iC4, jC4.1, jC4.2, oC4.1, oC4.2⟩
  | 5, hq => cases hq; exact ⟨iC5, jC5.1, jC5.2, oC5.1, oC5.2⟩
  | 6, hq => cases hq; exact ⟨iC6, jC6.1, jC6.2, oC6.1, oC6.2⟩
  | 7, hq => cases hq; exact ⟨iC7, jC7.1, jC7.2, oC7.1, oC7.2⟩
  | 8, hq => cases hq; exact ⟨iC8, jC8.1, jC8.2, oC8.1, oC8.2⟩
  | 9, hq => cases hq; exact ⟨iC9, jC9.1, jC9.2, oC9.1, oC9.2⟩
  | 10, hq => cases hq; exact ⟨iC10, jC10.1, jC10.2, oC10.1, oC10.2⟩
  | 11, hq => cases hq; exact ⟨iC11, jC11.1, jC11.2, oC11.1, oC11.2⟩
  | 12, hq => cases hq; exact ⟨iC12, jC12.1, jC12.2, oC12.1, oC12.2⟩
  | 13, hq => cases hq; exact ⟨iC13, jC13.1, jC13.2, oC13.1, oC13.2⟩
  | 14, hq => cases hq; exact ⟨iC14, jC14.1, jC14.2, oC14.1, oC14.2⟩
  | 15, hq => cases hq; exact ⟨iC15, jC15.1, jC15.2, oC15.1, oC15.2⟩
  | 16, hq => cases hq; exact ⟨iC16, jC16.1, jC16.2, oC16.1, oC16.2⟩
  | 17, hq => cases hq; exact ⟨iC17, jC17.1, jC17.2, oC17.1, oC17.2⟩
  | 18, hq => cases hq; exact ⟨iC18, jC18.1, jC18.2, oC18.1, oC18.2⟩
  | 19, hq => cases hq; exact ⟨iC19, jC19.1, jC19.2, oC19.1, oC19.2⟩
  | 20, hq => cases hq; exact ⟨iC20, jC20.1, jC20.2, oC20.1, oC20.2⟩
  | 21, hq => cases hq; exact ⟨iC21, jC21.1, jC21.2, oC21.1, oC21.2⟩
  | 22, hq => cases hq; exact ⟨iC22, jC22.1, jC22.2, oC22.1, oC22.2⟩
  | n + 23, hq => exact absurd hq (by simp [clL])
