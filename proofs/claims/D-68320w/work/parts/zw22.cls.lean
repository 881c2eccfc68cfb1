/-! classes: names, fields; the tables of tags -/
set_option maxRecDepth 100000
def fR_1 : String := "BoardMachine$Floats$Mode"
def fT_1 : u_T := fun k => match k with
  | _ => ("java/lang/Enum", "ordinal", "I", true)
def fY_1 : Nat → FieldType := fun k => match k with
  | _ => .int
def fR_2 : String := "BoardMachine$Floats$Sort"
def fT_2 : u_T := fun k => match k with
  | _ => ("java/lang/Enum", "ordinal", "I", true)
def fY_2 : Nat → FieldType := fun k => match k with
  | _ => .int
def fR_3 : String := "BoardMachine$Floats$Whole"
def fT_3 : u_T := fun k => match k with
  | 0 => ("java/lang/Enum", "ordinal", "I", true)
  | 1 => ("BoardMachine$Floats$Whole", "bits", "I", true)
  | _ => ("BoardMachine$Floats$Whole", "signs", "Z", true)
def fY_3 : Nat → FieldType := fun k => match k with
  | 0 => .int
  | 1 => .int
  | _ => .boolean
def fR_4 : String := "BoardMachine$Integers$Sum"
def fT_4 : u_T := fun k => match k with
  | _ => ("java/lang/Enum", "ordinal", "I", true)
def fY_4 : Nat → FieldType := fun k => match k with
  | _ => .int
def fR_5 : String := "BoardMachine$Walks$Span"
def fT_5 : u_T := fun k => match k with
  | _ => ("java/lang/Enum", "ordinal", "I", true)
def fY_5 : Nat → FieldType := fun k => match k with
  | _ => .int
def fR_6 : String := "BoardMachine$Window"
def fT_6 : u_T := fun k => match k with
  | 0 => ("java/lang/Enum", "ordinal", "I", true)
  | 1 => ("BoardMachine$Window", "from", "J", true)
  | _ => ("BoardMachine$Window", "size", "J", true)
def fY_6 : Nat → FieldType := fun k => match k with
  | 0 => .int
  | 1 => .long
  | _ => .long
def fR_7 : String := "java/lang/String"
def fT_7 : u_T := fun k => match k with
  | 0 => ("java/lang/String", "value", "[B", true)
  | _ => ("java/lang/String", "coder", "B", true)
def fY_7 : Nat → FieldType := fun k => match k with
  | 0 => (.array .byte)
  | _ => .byte
def fR_10 : String := "BoardMachine"
def fT_10 : u_T := fun k => match k with
  | _ => ("BoardMachine", "machine", "LBoardMachine$Machine;", true)
def fY_10 : Nat → FieldType := fun k => match k with
  | _ => (.object "BoardMachine$Machine")
def fR_11 : String := "BoardMachine$Board"
def fT_11 : u_T := fun k => match k with
  | 0 => ("BoardMachine$Board", "ram", "LBoardMachine$Memories$Ram;", true)
  | 1 => ("BoardMachine$Board", "signals", "LBoardMachine$Signals$SignalUnit;", true)
  | 2 => ("BoardMachine$Board", "disk", "LBoardMachine$Disks$Device;", true)
  | 3 => ("BoardMachine$Board", "windows", "[LBoardMachine$Window;", true)
  | 4 => ("BoardMachine$Board", "ended", "Z", false)
  | _ => ("BoardMachine$Board", "code", "I", false)
def fY_11 : Nat → FieldType := fun k => match k with
  | 0 => (.object "BoardMachine$Memories$Ram")
  | 1 => (.object "BoardMachine$Signals$SignalUnit")
  | 2 => (.object "BoardMachine$Disks$Device")
  | 3 => (.array (.object "BoardMachine$Window"))
  | 4 => .boolean
  | _ => .int
def fR_12 : String := "BoardMachine$Controls$ControlUnit"
def fT_12 : u_T := fun k => match k with
  | 0 => ("BoardMachine$Controls$ControlUnit", "order", "[I", true)
  | 1 => ("BoardMachine$Controls$ControlUnit", "table", "[LBoardMachine$Controls$Register;", true)
  | 2 => ("BoardMachine$Controls$ControlUnit", "elsewhere", "LBoardMachine$Controls$Register;", true)
  | 3 => ("BoardMachine$Controls$ControlUnit", "status", "LBoardMachine$Controls$Status;", true)
  | 4 => ("BoardMachine$Controls$ControlUnit", "exceptions", "LBoardMachine$Controls$Masked;", true)
  | 5 => ("BoardMachine$Controls$ControlUnit", "interrupts", "LBoardMachine$Controls$Masked;", true)
  | 6 => ("BoardMachine$Controls$ControlUnit", "enabled", "LBoardMachine$Controls$Masked;", true)
  | 7 => ("BoardMachine$Controls$ControlUnit", "pending", "LBoardMachine$Controls$Pending;", true)
  | 8 => ("BoardMachine$Controls$ControlUnit", "machine", "LBoardMachine$Controls$TrapBank;", true)
  | 9 => ("BoardMachine$Controls$ControlUnit", "supervisor", "LBoardMachine$Controls$TrapBank;", true)
  | 10 => ("BoardMachine$Controls$ControlUnit", "cycles", "LBoardMachine$Controls$Masked;", true)
  | 11 => ("BoardMachine$Controls$ControlUnit", "instructions", "LBoardMachine$Controls$Masked;", true)
  | 12 => ("BoardMachine$Controls$ControlUnit", "clock", "LBoardMachine$Controls$Masked;", true)
  | 13 => ("BoardMachine$Controls$ControlUnit", "mode", "I", false)
  | 14 => ("BoardMachine$Controls$ControlUnit", "had", "J", false)
  | _ => ("BoardMachine$Controls$ControlUnit", "next", "J", false)
def fY_12 : Nat → FieldType := fun k => match k with
  | 0 => (.array .int)
  | 1 => (.array (.object "BoardMachine$Controls$Register"))
  | 2 => (.object "BoardMachine$Controls$Register")
  | 3 => (.object "BoardMachine$Controls$Status")
  | 4 => (.object "BoardMachine$Controls$Masked")
  | 5 => (.object "BoardMachine$Controls$Masked")
  | 6 => (.object "BoardMachine$Controls$Masked")
  | 7 => (.object "BoardMachine$Controls$Pending")
  | 8 => (.object "BoardMachine$Controls$TrapBank")
  | 9 => (.object "BoardMachine$Controls$TrapBank")
  | 10 => (.object "BoardMachine$Controls$Masked")
  | 11 => (.object "BoardMachine$Controls$Masked")
  | 12 => (.object "BoardMachine$Controls$Masked")
  | 13 => .int
  | 14 => .long
  | _ => .long
def fR_13 : String := "BoardMachine$Controls$Constant"
def fT_13 : u_T := fun k => match k with
  | _ => ("BoardMachine$Controls$Constant", "shown", "J", true)
def fY_13 : Nat → FieldType := fun k => match k with
  | _ => .long
def fR_14 : String := "BoardMachine$Controls$Masked"
def fT_14 : u_T := fun k => match k with
  | 0 => ("BoardMachine$Controls$Masked", "held", "J", false)
  | _ => ("BoardMachine$Controls$Masked", "mask", "J", false)
def fY_14 : Nat → FieldType := fun k => match k with
  | 0 => .long
  | _ => .long
def fR_15 : String := "BoardMachine$Controls$Pending"
def fT_15 : u_T := fun k => match k with
  | 0 => ("BoardMachine$Controls$Masked", "held", "J", false)
  | 1 => ("BoardMachine$Controls$Masked", "mask", "J", false)
  | _ => ("BoardMachine$Controls$Pending", "lines", "J", false)
def fY_15 : Nat → FieldType := fun k => match k with
  | 0 => .long
  | 1 => .long
  | _ => .long
def fR_16 : String := "BoardMachine$Controls$Status"
def fT_16 : u_T := fun k => match k with
  | 0 => ("BoardMachine$Controls$Masked", "held", "J", false)
  | _ => ("BoardMachine$Controls$Masked", "mask", "J", false)
def fY_16 : Nat → FieldType := fun k => match k with
  | 0 => .long
  | _ => .long
def fR_17 : String := "BoardMachine$Controls$TableRegister"
def fT_17 : u_T := fun k => match k with
  | 0 => ("BoardMachine$Controls$Masked", "held", "J", false)
  | _ => ("BoardMachine$Controls$Masked", "mask", "J", false)
def fY_17 : Nat → FieldType := fun k => match k with
  | 0 => .long
  | _ => .long
def fR_18 : String := "BoardMachine$Controls$Shadow"
def fT_18 : u_T := fun k => match k with
  | _ => ("BoardMachine$Controls$Shadow", "other", "LBoardMachine$Controls$Register;", true)
def fY_18 : Nat → FieldType := fun k => match k with
  | _ => (.object "BoardMachine$Controls$Register")
def fR_19 : String := "BoardMachine$Controls$Window"
def fT_19 : u_T := fun k => match k with
  | 0 => ("BoardMachine$Controls$Window", "other", "LBoardMachine$Controls$Masked;", true)
  | 1 => ("BoardMachine$Controls$Window", "seen", "LBoardMachine$Controls$Register;", true)
  | 2 => ("BoardMachine$Controls$Window", "changed", "J", true)
  | _ => ("BoardMachine$Controls$Window", "besides", "J", true)
def fY_19 : Nat → FieldType := fun k => match k with
  | 0 => (.object "BoardMachine$Controls$Masked")
  | 1 => (.object "BoardMachine$Controls$Register")
  | 2 => .long
  | _ => .long
def fR_20 : String := "BoardMachine$Controls$TrapBank"
def fT_20 : u_T := fun k => match k with
  | 0 => ("BoardMachine$Controls$TrapBank", "vectors", "LBoardMachine$Controls$Masked;", true)
  | 1 => ("BoardMachine$Controls$TrapBank", "scratch", "LBoardMachine$Controls$Masked;", true)
  | 2 => ("BoardMachine$Controls$TrapBank", "place", "LBoardMachine$Controls$Masked;", true)
  | 3 => ("BoardMachine$Controls$TrapBank", "cause", "LBoardMachine$Controls$Masked;", true)
  | 4 => ("BoardMachine$Controls$TrapBank", "value", "LBoardMachine$Controls$Masked;", true)
  | _ => ("BoardMachine$Controls$TrapBank", "counts", "LBoardMachine$Controls$Masked;", true)
def fY_20 : Nat → FieldType := fun k => match k with
  | 0 => (.object "BoardMachine$Controls$Masked")
  | 1 => (.object "BoardMachine$Controls$Masked")
  | 2 => (.object "BoardMachine$Controls$Masked")
  | 3 => (.object "BoardMachine$Controls$Masked")
  | 4 => (.object "BoardMachine$Controls$Masked")
  | _ => (.object "BoardMachine$Controls$Masked")
def fR_21 : String := "BoardMachine$Describer"
def fT_21 : u_T := fun k => match k with
  | 0 => ("BoardMachine$Describer", "piece", "LBoardMachine$Trees$Row;", true)
  | 1 => ("BoardMachine$Describer", "tree", "LBoardMachine$Trees$Tree;", true)
  | _ => ("BoardMachine$Describer", "press", "LBoardMachine$Trees$Press;", true)
def fY_21 : Nat → FieldType := fun k => match k with
  | 0 => (.object "BoardMachine$Trees$Row")
  | 1 => (.object "BoardMachine$Trees$Tree")
  | _ => (.object "BoardMachine$Trees$Press")
def fR_22 : String := "BoardMachine$Disks$Device"
def fT_22 : u_T := fun k => match k with
  | 0 => ("BoardMachine$Disks$Device", "memory", "LBoardMachine$Disks$Bytes;", true)
  | 1 => ("BoardMachine$Disks$Device", "disk", "LBoardMachine$Disks$Disk;", true)
  | 2 => ("BoardMachine$Disks$Device", "queue", "LBoardMachine$Disks$Queue;", true)
  | 3 => ("BoardMachine$Disks$Device", "request", "LBoardMachine$Disks$Request;", true)
  | 4 => ("BoardMachine$Disks$Device", "kinds", "[LBoardMachine$Disks$Kind;", true)
  | 5 => ("BoardMachine$Disks$Device", "offered", "I", false)
  | 6 => ("BoardMachine$Disks$Device", "selected", "I", false)
  | 7 => ("BoardMachine$Disks$Device", "state", "I", false)
  | 8 => ("BoardMachine$Disks$Device", "causes", "I", false)
  | _ => ("BoardMachine$Disks$Device", "answered", "I", false)
def fY_22 : Nat → FieldType := fun k => match k with
  | 0 => (.object "BoardMachine$Disks$Bytes")
  | 1 => (.object "BoardMachine$Disks$Disk")
  | 2 => (.object "BoardMachine$Disks$Queue")
  | 3 => (.object "BoardMachine$Disks$Request")
  | 4 => (.array (.object "BoardMachine$Disks$Kind"))
  | 5 => .int
  | 6 => .int
  | 7 => .int
  | 8 => .int
  | _ => .int
def fR_23 : String := "BoardMachine$Disks$Disk"
def fT_23 : u_T := fun k => match k with
  | 0 => ("BoardMachine$Disks$Disk", "sectors", "I", true)
  | 1 => ("BoardMachine$Disks$Disk", "words", "[J", true)
  | _ => ("BoardMachine$Disks$Disk", "changed", "I", false)
def fY_23 : Nat → FieldType := fun k => match k with
  | 0 => .int
  | 1 => (.array .long)
  | _ => .int
def fR_24 : String := "BoardMachine$Disks$Flushing"
def fT_24 : u_T := fun k => match k with
  | _ => ("", "", "", false)
def fY_24 : Nat → FieldType := fun k => match k with
  | _ => .int
def fR_25 : String := "BoardMachine$Disks$Naming"
def fT_25 : u_T := fun k => match k with
  | _ => ("", "", "", false)
def fY_25 : Nat → FieldType := fun k => match k with
  | _ => .int
def fR_26 : String := "BoardMachine$Disks$Reading"
def fT_26 : u_T := fun k => match k with
  | _ => ("", "", "", false)
def fY_26 : Nat → FieldType := fun k => match k with
  | _ => .int
def fR_27 : String := "BoardMachine$Disks$Writing"
def fT_27 : u_T := fun k => match k with
  | _ => ("", "", "", false)
def fY_27 : Nat → FieldType := fun k => match k with
  | _ => .int
def fR_28 : String := "BoardMachine$Disks$Queue"
def fT_28 : u_T := fun k => match k with
  | 0 => ("BoardMachine$Disks$Queue", "size", "I", false)
  | 1 => ("BoardMachine$Disks$Queue", "ready", "Z", false)
  | 2 => ("BoardMachine$Disks$Queue", "blocks", "J", false)
  | 3 => ("BoardMachine$Disks$Queue", "offers", "J", false)
  | 4 => ("BoardMachine$Disks$Queue", "answers", "J", false)
  | 5 => ("BoardMachine$Disks$Queue", "taken", "I", false)
  | _ => ("BoardMachine$Disks$Queue", "given", "I", false)
def fY_28 : Nat → FieldType := fun k => match k with
  | 0 => .int
  | 1 => .boolean
  | 2 => .long
  | 3 => .long
  | 4 => .long
  | 5 => .int
  | _ => .int
def fR_29 : String := "BoardMachine$Disks$Request"
def fT_29 : u_T := fun k => match k with
  | 0 => ("BoardMachine$Disks$Request", "closed", "LBoardMachine$Disks$Stretch;", true)
  | 1 => ("BoardMachine$Disks$Request", "open", "LBoardMachine$Disks$Stretch;", true)
  | 2 => ("BoardMachine$Disks$Request", "head", "I", false)
  | 3 => ("BoardMachine$Disks$Request", "kind", "I", false)
  | 4 => ("BoardMachine$Disks$Request", "sector", "J", false)
  | 5 => ("BoardMachine$Disks$Request", "result", "J", false)
  | _ => ("BoardMachine$Disks$Request", "written", "J", false)
def fY_29 : Nat → FieldType := fun k => match k with
  | 0 => (.object "BoardMachine$Disks$Stretch")
  | 1 => (.object "BoardMachine$Disks$Stretch")
  | 2 => .int
  | 3 => .int
  | 4 => .long
  | 5 => .long
  | _ => .long
def fR_30 : String := "BoardMachine$Disks$Stretch"
def fT_30 : u_T := fun k => match k with
  | 0 => ("BoardMachine$Disks$Stretch", "addresses", "[J", true)
  | 1 => ("BoardMachine$Disks$Stretch", "lengths", "[J", true)
  | 2 => ("BoardMachine$Disks$Stretch", "blocks", "I", false)
  | 3 => ("BoardMachine$Disks$Stretch", "size", "J", false)
  | 4 => ("BoardMachine$Disks$Stretch", "block", "I", false)
  | _ => ("BoardMachine$Disks$Stretch", "place", "J", false)
def fY_30 : Nat → FieldType := fun k => match k with
  | 0 => (.array .long)
  | 1 => (.array .long)
  | 2 => .int
  | 3 => .long
  | 4 => .int
  | _ => .long
def fR_31 : String := "BoardMachine$Floats$Flags"
def fT_31 : u_T := fun k => match k with
  | 0 => ("BoardMachine$Floats$Flags", "set", "I", false)
  | _ => ("BoardMachine$Floats$Flags", "raised", "Z", false)
def fY_31 : Nat → FieldType := fun k => match k with
  | 0 => .int
  | _ => .boolean
def fR_32 : String := "BoardMachine$Floats$FloatUnit"
def fT_32 : u_T := fun k => match k with
  | 0 => ("BoardMachine$Floats$FloatUnit", "registers", "[J", true)
  | 1 => ("BoardMachine$Floats$FloatUnit", "flags", "LBoardMachine$Floats$Flags;", true)
  | 2 => ("BoardMachine$Floats$FloatUnit", "mode", "I", false)
  | 3 => ("BoardMachine$Floats$FloatUnit", "written", "Z", false)
  | 4 => ("BoardMachine$Floats$FloatUnit", "value", "J", false)
  | 5 => ("BoardMachine$Floats$FloatUnit", "formats", "[LBoardMachine$Floats$Format;", true)
  | 6 => ("BoardMachine$Floats$FloatUnit", "modes", "[LBoardMachine$Floats$Mode;", true)
  | 7 => ("BoardMachine$Floats$FloatUnit", "wholes", "[LBoardMachine$Floats$Whole;", true)
  | 8 => ("BoardMachine$Floats$FloatUnit", "operations", "[LBoardMachine$Floats$Operation;", true)
  | 9 => ("BoardMachine$Floats$FloatUnit", "product", "LBoardMachine$Floats$Operation;", true)
  | 10 => ("BoardMachine$Floats$FloatUnit", "root", "LBoardMachine$Floats$Operation;", true)
  | 11 => ("BoardMachine$Floats$FloatUnit", "same", "LBoardMachine$Floats$Operation;", true)
  | 12 => ("BoardMachine$Floats$FloatUnit", "first", "LBoardMachine$Floats$Taken;", true)
  | 13 => ("BoardMachine$Floats$FloatUnit", "second", "LBoardMachine$Floats$Taken;", true)
  | 14 => ("BoardMachine$Floats$FloatUnit", "third", "LBoardMachine$Floats$Taken;", true)
  | _ => ("BoardMachine$Floats$FloatUnit", "out", "LBoardMachine$Floats$Taken;", true)
def fY_32 : Nat → FieldType := fun k => match k with
  | 0 => (.array .long)
  | 1 => (.object "BoardMachine$Floats$Flags")
  | 2 => .int
  | 3 => .boolean
  | 4 => .long
  | 5 => (.array (.object "BoardMachine$Floats$Format"))
  | 6 => (.array (.object "BoardMachine$Floats$Mode"))
  | 7 => (.array (.object "BoardMachine$Floats$Whole"))
  | 8 => (.array (.object "BoardMachine$Floats$Operation"))
  | 9 => (.object "BoardMachine$Floats$Operation")
  | 10 => (.object "BoardMachine$Floats$Operation")
  | 11 => (.object "BoardMachine$Floats$Operation")
  | 12 => (.object "BoardMachine$Floats$Taken")
  | 13 => (.object "BoardMachine$Floats$Taken")
  | 14 => (.object "BoardMachine$Floats$Taken")
  | _ => (.object "BoardMachine$Floats$Taken")
def fR_33 : String := "BoardMachine$Floats$Format"
def fT_33 : u_T := fun k => match k with
  | 0 => ("BoardMachine$Floats$Format", "fraction", "I", true)
  | 1 => ("BoardMachine$Floats$Format", "middle", "I", true)
  | 2 => ("BoardMachine$Floats$Format", "signPlace", "I", true)
  | _ => ("BoardMachine$Floats$Format", "tried", "LBoardMachine$Floats$Wide;", true)
def fY_33 : Nat → FieldType := fun k => match k with
  | 0 => .int
  | 1 => .int
  | 2 => .int
  | _ => (.object "BoardMachine$Floats$Wide")
def fR_34 : String := "BoardMachine$Floats$Product"
def fT_34 : u_T := fun k => match k with
  | _ => ("", "", "", false)
def fY_34 : Nat → FieldType := fun k => match k with
  | _ => .int
def fR_35 : String := "BoardMachine$Floats$Quotient"
def fT_35 : u_T := fun k => match k with
  | _ => ("", "", "", false)
def fY_35 : Nat → FieldType := fun k => match k with
  | _ => .int
def fR_36 : String := "BoardMachine$Floats$Root"
def fT_36 : u_T := fun k => match k with
  | _ => ("", "", "", false)
def fY_36 : Nat → FieldType := fun k => match k with
  | _ => .int
def fR_37 : String := "BoardMachine$Floats$Same"
def fT_37 : u_T := fun k => match k with
  | _ => ("", "", "", false)
def fY_37 : Nat → FieldType := fun k => match k with
  | _ => .int
def fR_38 : String := "BoardMachine$Floats$Sum"
def fT_38 : u_T := fun k => match k with
  | _ => ("BoardMachine$Floats$Sum", "takesOff", "Z", true)
def fY_38 : Nat → FieldType := fun k => match k with
  | _ => .boolean
def fR_39 : String := "BoardMachine$Floats$Taken"
def fT_39 : u_T := fun k => match k with
  | 0 => ("BoardMachine$Floats$Taken", "sort", "LBoardMachine$Floats$Sort;", false)
  | 1 => ("BoardMachine$Floats$Taken", "below", "Z", false)
  | 2 => ("BoardMachine$Floats$Taken", "exponent", "I", false)
  | 3 => ("BoardMachine$Floats$Taken", "size", "LBoardMachine$Floats$Wide;", true)
  | _ => ("BoardMachine$Floats$Taken", "bits", "J", false)
def fY_39 : Nat → FieldType := fun k => match k with
  | 0 => (.object "BoardMachine$Floats$Sort")
  | 1 => .boolean
  | 2 => .int
  | 3 => (.object "BoardMachine$Floats$Wide")
  | _ => .long
def fR_40 : String := "BoardMachine$Floats$Wide"
def fT_40 : u_T := fun k => match k with
  | 0 => ("BoardMachine$Floats$Wide", "high", "J", false)
  | _ => ("BoardMachine$Floats$Wide", "low", "J", false)
def fY_40 : Nat → FieldType := fun k => match k with
  | 0 => .long
  | _ => .long
def fR_41 : String := "BoardMachine$Found"
def fT_41 : u_T := fun k => match k with
  | 0 => ("BoardMachine$Found", "places", "[J", true)
  | 1 => ("BoardMachine$Found", "size", "I", false)
  | 2 => ("BoardMachine$Found", "whole", "Z", false)
  | _ => ("BoardMachine$Found", "window", "LBoardMachine$Window;", false)
def fY_41 : Nat → FieldType := fun k => match k with
  | 0 => (.array .long)
  | 1 => .int
  | 2 => .boolean
  | _ => (.object "BoardMachine$Window")
def fR_42 : String := "BoardMachine$Halves$Layout"
def fT_42 : u_T := fun k => match k with
  | 0 => ("BoardMachine$Halves$Layout", "places", "[I", true)
  | _ => ("BoardMachine$Halves$Layout", "sign", "I", true)
def fY_42 : Nat → FieldType := fun k => match k with
  | 0 => (.array .int)
  | _ => .int
def fR_43 : String := "BoardMachine$Halves$Access"
def fT_43 : u_T := fun k => match k with
  | 0 => ("BoardMachine$Halves$Line", "quarter", "I", true)
  | 1 => ("BoardMachine$Halves$Line", "top", "I", true)
  | 2 => ("BoardMachine$Halves$Line", "layout", "LBoardMachine$Halves$Layout;", true)
  | 3 => ("BoardMachine$Halves$Access", "code", "I", true)
  | 4 => ("BoardMachine$Halves$Access", "f", "I", true)
  | _ => ("BoardMachine$Halves$Access", "stores", "Z", true)
def fY_43 : Nat → FieldType := fun k => match k with
  | 0 => .int
  | 1 => .int
  | 2 => (.object "BoardMachine$Halves$Layout")
  | 3 => .int
  | 4 => .int
  | _ => .boolean
def fR_44 : String := "BoardMachine$Halves$Branch"
def fT_44 : u_T := fun k => match k with
  | 0 => ("BoardMachine$Halves$Line", "quarter", "I", true)
  | 1 => ("BoardMachine$Halves$Line", "top", "I", true)
  | _ => ("BoardMachine$Halves$Line", "layout", "LBoardMachine$Halves$Layout;", true)
def fY_44 : Nat → FieldType := fun k => match k with
  | 0 => .int
  | 1 => .int
  | _ => (.object "BoardMachine$Halves$Layout")
def fR_45 : String := "BoardMachine$Halves$Immediate"
def fT_45 : u_T := fun k => match k with
  | 0 => ("BoardMachine$Halves$Line", "quarter", "I", true)
  | 1 => ("BoardMachine$Halves$Line", "top", "I", true)
  | 2 => ("BoardMachine$Halves$Line", "layout", "LBoardMachine$Halves$Layout;", true)
  | 3 => ("BoardMachine$Halves$Immediate", "code", "I", true)
  | 4 => ("BoardMachine$Halves$Immediate", "f", "I", true)
  | _ => ("BoardMachine$Halves$Immediate", "ofZero", "Z", true)
def fY_45 : Nat → FieldType := fun k => match k with
  | 0 => .int
  | 1 => .int
  | 2 => (.object "BoardMachine$Halves$Layout")
  | 3 => .int
  | 4 => .int
  | _ => .boolean
def fR_46 : String := "BoardMachine$Halves$Jump"
def fT_46 : u_T := fun k => match k with
  | 0 => ("BoardMachine$Halves$Line", "quarter", "I", true)
  | 1 => ("BoardMachine$Halves$Line", "top", "I", true)
  | _ => ("BoardMachine$Halves$Line", "layout", "LBoardMachine$Halves$Layout;", true)
def fY_46 : Nat → FieldType := fun k => match k with
  | 0 => .int
  | 1 => .int
  | _ => (.object "BoardMachine$Halves$Layout")
def fR_47 : String := "BoardMachine$Halves$Reckoning"
def fT_47 : u_T := fun k => match k with
  | 0 => ("BoardMachine$Halves$Line", "quarter", "I", true)
  | 1 => ("BoardMachine$Halves$Line", "top", "I", true)
  | 2 => ("BoardMachine$Halves$Line", "layout", "LBoardMachine$Halves$Layout;", true)
  | 3 => ("BoardMachine$Halves$Reckoning", "sums", "[I", true)
  | _ => ("BoardMachine$Halves$Reckoning", "signed", "LBoardMachine$Halves$Layout;", true)
def fY_47 : Nat → FieldType := fun k => match k with
  | 0 => .int
  | 1 => .int
  | 2 => (.object "BoardMachine$Halves$Layout")
  | 3 => (.array .int)
  | _ => (.object "BoardMachine$Halves$Layout")
def fR_48 : String := "BoardMachine$Halves$StackAccess"
def fT_48 : u_T := fun k => match k with
  | 0 => ("BoardMachine$Halves$Line", "quarter", "I", true)
  | 1 => ("BoardMachine$Halves$Line", "top", "I", true)
  | 2 => ("BoardMachine$Halves$Line", "layout", "LBoardMachine$Halves$Layout;", true)
  | 3 => ("BoardMachine$Halves$StackAccess", "code", "I", true)
  | 4 => ("BoardMachine$Halves$StackAccess", "f", "I", true)
  | _ => ("BoardMachine$Halves$StackAccess", "stores", "Z", true)
def fY_48 : Nat → FieldType := fun k => match k with
  | 0 => .int
  | 1 => .int
  | 2 => (.object "BoardMachine$Halves$Layout")
  | 3 => .int
  | 4 => .int
  | _ => .boolean
def fR_49 : String := "BoardMachine$Halves$StackOrUpper"
def fT_49 : u_T := fun k => match k with
  | 0 => ("BoardMachine$Halves$Line", "quarter", "I", true)
  | 1 => ("BoardMachine$Halves$Line", "top", "I", true)
  | 2 => ("BoardMachine$Halves$Line", "layout", "LBoardMachine$Halves$Layout;", true)
  | _ => ("BoardMachine$Halves$StackOrUpper", "upper", "LBoardMachine$Halves$Layout;", true)
def fY_49 : Nat → FieldType := fun k => match k with
  | 0 => .int
  | 1 => .int
  | 2 => (.object "BoardMachine$Halves$Layout")
  | _ => (.object "BoardMachine$Halves$Layout")
def fR_50 : String := "BoardMachine$Halves$StackPlace"
def fT_50 : u_T := fun k => match k with
  | 0 => ("BoardMachine$Halves$Line", "quarter", "I", true)
  | 1 => ("BoardMachine$Halves$Line", "top", "I", true)
  | _ => ("BoardMachine$Halves$Line", "layout", "LBoardMachine$Halves$Layout;", true)
def fY_50 : Nat → FieldType := fun k => match k with
  | 0 => .int
  | 1 => .int
  | _ => (.object "BoardMachine$Halves$Layout")
def fR_51 : String := "BoardMachine$Halves$Whole"
def fT_51 : u_T := fun k => match k with
  | 0 => ("BoardMachine$Halves$Line", "quarter", "I", true)
  | 1 => ("BoardMachine$Halves$Line", "top", "I", true)
  | _ => ("BoardMachine$Halves$Line", "layout", "LBoardMachine$Halves$Layout;", true)
def fY_51 : Nat → FieldType := fun k => match k with
  | 0 => .int
  | 1 => .int
  | _ => (.object "BoardMachine$Halves$Layout")
def fR_52 : String := "BoardMachine$Halves$ShortUnit"
def fT_52 : u_T := fun k => match k with
  | 0 => ("BoardMachine$Halves$ShortUnit", "lines", "[LBoardMachine$Halves$Line;", true)
  | 1 => ("BoardMachine$Halves$ShortUnit", "lower", "I", false)
  | 2 => ("BoardMachine$Halves$ShortUnit", "word", "I", false)
  | 3 => ("BoardMachine$Halves$ShortUnit", "length", "I", false)
  | _ => ("BoardMachine$Halves$ShortUnit", "whole", "I", false)
def fY_52 : Nat → FieldType := fun k => match k with
  | 0 => (.array (.object "BoardMachine$Halves$Line"))
  | 1 => .int
  | 2 => .int
  | 3 => .int
  | _ => .int
def fR_53 : String := "BoardMachine$Integers$Access"
def fT_53 : u_T := fun k => match k with
  | _ => ("", "", "", false)
def fY_53 : Nat → FieldType := fun k => match k with
  | _ => .int
def fR_54 : String := "BoardMachine$Integers$Branch"
def fT_54 : u_T := fun k => match k with
  | _ => ("", "", "", false)
def fY_54 : Nat → FieldType := fun k => match k with
  | _ => .int
def fR_55 : String := "BoardMachine$Integers$Compute"
def fT_55 : u_T := fun k => match k with
  | _ => ("", "", "", false)
def fY_55 : Nat → FieldType := fun k => match k with
  | _ => .int
def fR_56 : String := "BoardMachine$Integers$Fence"
def fT_56 : u_T := fun k => match k with
  | _ => ("", "", "", false)
def fY_56 : Nat → FieldType := fun k => match k with
  | _ => .int
def fR_57 : String := "BoardMachine$Integers$Foreign"
def fT_57 : u_T := fun k => match k with
  | _ => ("", "", "", false)
def fY_57 : Nat → FieldType := fun k => match k with
  | _ => .int
def fR_58 : String := "BoardMachine$Integers$Illegal"
def fT_58 : u_T := fun k => match k with
  | _ => ("", "", "", false)
def fY_58 : Nat → FieldType := fun k => match k with
  | _ => .int
def fR_59 : String := "BoardMachine$Integers$Jump"
def fT_59 : u_T := fun k => match k with
  | _ => ("BoardMachine$Integers$Jump", "byRegister", "Z", true)
def fY_59 : Nat → FieldType := fun k => match k with
  | _ => .boolean
def fR_60 : String := "BoardMachine$Integers$Upper"
def fT_60 : u_T := fun k => match k with
  | _ => ("BoardMachine$Integers$Upper", "fromCounter", "Z", true)
def fY_60 : Nat → FieldType := fun k => match k with
  | _ => .boolean
def fR_61 : String := "BoardMachine$Integers$Decoded"
def fT_61 : u_T := fun k => match k with
  | 0 => ("BoardMachine$Integers$Decoded", "action", "LBoardMachine$Integers$Action;", false)
  | 1 => ("BoardMachine$Integers$Decoded", "word", "I", false)
  | 2 => ("BoardMachine$Integers$Decoded", "d", "I", false)
  | 3 => ("BoardMachine$Integers$Decoded", "a", "I", false)
  | 4 => ("BoardMachine$Integers$Decoded", "b", "I", false)
  | 5 => ("BoardMachine$Integers$Decoded", "immediate", "J", false)
  | 6 => ("BoardMachine$Integers$Decoded", "sum", "LBoardMachine$Integers$Sum;", false)
  | 7 => ("BoardMachine$Integers$Decoded", "ofRegisters", "Z", false)
  | 8 => ("BoardMachine$Integers$Decoded", "ofInts", "Z", false)
  | 9 => ("BoardMachine$Integers$Decoded", "kind", "I", false)
  | 10 => ("BoardMachine$Integers$Decoded", "size", "I", false)
  | _ => ("BoardMachine$Integers$Decoded", "sort", "I", false)
def fY_61 : Nat → FieldType := fun k => match k with
  | 0 => (.object "BoardMachine$Integers$Action")
  | 1 => .int
  | 2 => .int
  | 3 => .int
  | 4 => .int
  | 5 => .long
  | 6 => (.object "BoardMachine$Integers$Sum")
  | 7 => .boolean
  | 8 => .boolean
  | 9 => .int
  | 10 => .int
  | _ => .int
def fR_62 : String := "BoardMachine$Integers$Decoder"
def fT_62 : u_T := fun k => match k with
  | 0 => ("BoardMachine$Integers$Decoder", "illegal", "LBoardMachine$Integers$Action;", true)
  | 1 => ("BoardMachine$Integers$Decoder", "fence", "LBoardMachine$Integers$Action;", true)
  | 2 => ("BoardMachine$Integers$Decoder", "upper", "LBoardMachine$Integers$Action;", true)
  | 3 => ("BoardMachine$Integers$Decoder", "upperFromCounter", "LBoardMachine$Integers$Action;", true)
  | 4 => ("BoardMachine$Integers$Decoder", "jump", "LBoardMachine$Integers$Action;", true)
  | 5 => ("BoardMachine$Integers$Decoder", "jumpByRegister", "LBoardMachine$Integers$Action;", true)
  | 6 => ("BoardMachine$Integers$Decoder", "branch", "LBoardMachine$Integers$Action;", true)
  | 7 => ("BoardMachine$Integers$Decoder", "compute", "LBoardMachine$Integers$Action;", true)
  | 8 => ("BoardMachine$Integers$Decoder", "access", "LBoardMachine$Integers$Action;", true)
  | _ => ("BoardMachine$Integers$Decoder", "foreign", "LBoardMachine$Integers$Action;", true)
def fY_62 : Nat → FieldType := fun k => match k with
  | 0 => (.object "BoardMachine$Integers$Action")
  | 1 => (.object "BoardMachine$Integers$Action")
  | 2 => (.object "BoardMachine$Integers$Action")
  | 3 => (.object "BoardMachine$Integers$Action")
  | 4 => (.object "BoardMachine$Integers$Action")
  | 5 => (.object "BoardMachine$Integers$Action")
  | 6 => (.object "BoardMachine$Integers$Action")
  | 7 => (.object "BoardMachine$Integers$Action")
  | 8 => (.object "BoardMachine$Integers$Action")
  | _ => (.object "BoardMachine$Integers$Action")
def fR_63 : String := "BoardMachine$Integers$IntegerUnit"
def fT_63 : u_T := fun k => match k with
  | 0 => ("BoardMachine$Integers$IntegerUnit", "registers", "LBoardMachine$Integers$Registers;", true)
  | 1 => ("BoardMachine$Integers$IntegerUnit", "decoder", "LBoardMachine$Integers$Decoder;", true)
  | 2 => ("BoardMachine$Integers$IntegerUnit", "kept", "[LBoardMachine$Integers$Decoded;", true)
  | 3 => ("BoardMachine$Integers$IntegerUnit", "underWay", "LBoardMachine$Integers$Decoded;", false)
  | 4 => ("BoardMachine$Integers$IntegerUnit", "wants", "[J", true)
  | 5 => ("BoardMachine$Integers$IntegerUnit", "longing", "I", false)
  | _ => ("BoardMachine$Integers$IntegerUnit", "finished", "J", false)
def fY_63 : Nat → FieldType := fun k => match k with
  | 0 => (.object "BoardMachine$Integers$Registers")
  | 1 => (.object "BoardMachine$Integers$Decoder")
  | 2 => (.array (.object "BoardMachine$Integers$Decoded"))
  | 3 => (.object "BoardMachine$Integers$Decoded")
  | 4 => (.array .long)
  | 5 => .int
  | _ => .long
def fR_64 : String := "BoardMachine$Integers$Registers"
def fT_64 : u_T := fun k => match k with
  | 0 => ("BoardMachine$Integers$Registers", "held", "[J", true)
  | _ => ("BoardMachine$Integers$Registers", "counter", "J", false)
def fY_64 : Nat → FieldType := fun k => match k with
  | 0 => (.array .long)
  | _ => .long
def fR_65 : String := "BoardMachine$Kept"
def fT_65 : u_T := fun k => match k with
  | 0 => ("BoardMachine$Kept", "is", "Z", false)
  | 1 => ("BoardMachine$Kept", "at", "J", false)
  | 2 => ("BoardMachine$Kept", "writes", "J", false)
  | 3 => ("BoardMachine$Kept", "word", "I", false)
  | 4 => ("BoardMachine$Kept", "length", "I", false)
  | _ => ("BoardMachine$Kept", "raw", "I", false)
def fY_65 : Nat → FieldType := fun k => match k with
  | 0 => .boolean
  | 1 => .long
  | 2 => .long
  | 3 => .int
  | 4 => .int
  | _ => .int
def fR_66 : String := "BoardMachine$Loader"
def fT_66 : u_T := fun k => match k with
  | 0 => ("BoardMachine$Loader", "in", "LBoardMachine$Trees$Row;", true)
  | 1 => ("BoardMachine$Loader", "ram", "LBoardMachine$Memories$Ram;", true)
  | _ => ("BoardMachine$Loader", "entry", "J", false)
def fY_66 : Nat → FieldType := fun k => match k with
  | 0 => (.object "BoardMachine$Trees$Row")
  | 1 => (.object "BoardMachine$Memories$Ram")
  | _ => .long
def fR_67 : String := "BoardMachine$Machine"
def fT_67 : u_T := fun k => match k with
  | 0 => ("BoardMachine$Machine", "board", "LBoardMachine$Board;", true)
  | 1 => ("BoardMachine$Machine", "processors", "[LBoardMachine$Processor;", true)
  | 2 => ("BoardMachine$Machine", "tape", "LBoardMachine$Trees$Row;", true)
  | 3 => ("BoardMachine$Machine", "loader", "LBoardMachine$Loader;", true)
  | 4 => ("BoardMachine$Machine", "describer", "LBoardMachine$Describer;", true)
  | 5 => ("BoardMachine$Machine", "input", "[B", true)
  | 6 => ("BoardMachine$Machine", "inputFrom", "I", false)
  | 7 => ("BoardMachine$Machine", "inputSize", "I", false)
  | _ => ("BoardMachine$Machine", "rounds", "I", false)
def fY_67 : Nat → FieldType := fun k => match k with
  | 0 => (.object "BoardMachine$Board")
  | 1 => (.array (.object "BoardMachine$Processor"))
  | 2 => (.object "BoardMachine$Trees$Row")
  | 3 => (.object "BoardMachine$Loader")
  | 4 => (.object "BoardMachine$Describer")
  | 5 => (.array .byte)
  | 6 => .int
  | 7 => .int
  | _ => .int
def fR_68 : String := "BoardMachine$Memories$Bits"
def fT_68 : u_T := fun k => match k with
  | _ => ("BoardMachine$Memories$Bits", "table", "I", true)
def fY_68 : Nat → FieldType := fun k => match k with
  | _ => .int
def fR_69 : String := "BoardMachine$Memories$Extreme"
def fT_69 : u_T := fun k => match k with
  | 0 => ("BoardMachine$Memories$Extreme", "least", "Z", true)
  | _ => ("BoardMachine$Memories$Extreme", "turn", "J", true)
def fY_69 : Nat → FieldType := fun k => match k with
  | 0 => .boolean
  | _ => .long
def fR_70 : String := "BoardMachine$Memories$Sum"
def fT_70 : u_T := fun k => match k with
  | _ => ("", "", "", false)
def fY_70 : Nat → FieldType := fun k => match k with
  | _ => .int
def fR_71 : String := "BoardMachine$Memories$Swap"
def fT_71 : u_T := fun k => match k with
  | _ => ("", "", "", false)
def fY_71 : Nat → FieldType := fun k => match k with
  | _ => .int
def fR_72 : String := "BoardMachine$Memories$Page"
def fT_72 : u_T := fun k => match k with
  | _ => ("BoardMachine$Memories$Page", "words", "[J", true)
def fY_72 : Nat → FieldType := fun k => match k with
  | _ => (.array .long)
def fR_73 : String := "BoardMachine$Memories$Ram"
def fT_73 : u_T := fun k => match k with
  | 0 => ("BoardMachine$Memories$Ram", "many", "I", true)
  | 1 => ("BoardMachine$Memories$Ram", "pages", "[LBoardMachine$Memories$Page;", true)
  | 2 => ("BoardMachine$Memories$Ram", "writes", "[J", true)
  | 3 => ("BoardMachine$Memories$Ram", "reservations", "[LBoardMachine$Memories$Reservation;", true)
  | _ => ("BoardMachine$Memories$Ram", "changes", "[LBoardMachine$Memories$Change;", true)
def fY_73 : Nat → FieldType := fun k => match k with
  | 0 => .int
  | 1 => (.array (.object "BoardMachine$Memories$Page"))
  | 2 => (.array .long)
  | 3 => (.array (.object "BoardMachine$Memories$Reservation"))
  | _ => (.array (.object "BoardMachine$Memories$Change"))
def fR_74 : String := "BoardMachine$Memories$Reservation"
def fT_74 : u_T := fun k => match k with
  | 0 => ("BoardMachine$Memories$Reservation", "address", "J", false)
  | _ => ("BoardMachine$Memories$Reservation", "size", "I", false)
def fY_74 : Nat → FieldType := fun k => match k with
  | 0 => .long
  | _ => .int
def fR_75 : String := "BoardMachine$Processor"
def fT_75 : u_T := fun k => match k with
  | 0 => ("BoardMachine$Processor", "number", "I", true)
  | 1 => ("BoardMachine$Processor", "board", "LBoardMachine$Board;", true)
  | 2 => ("BoardMachine$Processor", "integers", "LBoardMachine$Integers$IntegerUnit;", true)
  | 3 => ("BoardMachine$Processor", "floats", "LBoardMachine$Floats$FloatUnit;", true)
  | 4 => ("BoardMachine$Processor", "controls", "LBoardMachine$Controls$ControlUnit;", true)
  | 5 => ("BoardMachine$Processor", "walks", "LBoardMachine$Walks$Translator;", true)
  | 6 => ("BoardMachine$Processor", "halves", "LBoardMachine$Halves$ShortUnit;", true)
  | 7 => ("BoardMachine$Processor", "kept", "[LBoardMachine$Kept;", true)
  | 8 => ("BoardMachine$Processor", "data", "LBoardMachine$Found;", true)
  | 9 => ("BoardMachine$Processor", "waiting", "Z", false)
  | 10 => ("BoardMachine$Processor", "word", "I", false)
  | 11 => ("BoardMachine$Processor", "raw", "I", false)
  | _ => ("BoardMachine$Processor", "length", "I", false)
def fY_75 : Nat → FieldType := fun k => match k with
  | 0 => .int
  | 1 => (.object "BoardMachine$Board")
  | 2 => (.object "BoardMachine$Integers$IntegerUnit")
  | 3 => (.object "BoardMachine$Floats$FloatUnit")
  | 4 => (.object "BoardMachine$Controls$ControlUnit")
  | 5 => (.object "BoardMachine$Walks$Translator")
  | 6 => (.object "BoardMachine$Halves$ShortUnit")
  | 7 => (.array (.object "BoardMachine$Kept"))
  | 8 => (.object "BoardMachine$Found")
  | 9 => .boolean
  | 10 => .int
  | 11 => .int
  | _ => .int
def fR_76 : String := "BoardMachine$QueueBytes"
def fT_76 : u_T := fun k => match k with
  | _ => ("BoardMachine$QueueBytes", "ram", "LBoardMachine$Memories$Ram;", true)
def fY_76 : Nat → FieldType := fun k => match k with
  | _ => (.object "BoardMachine$Memories$Ram")
def fR_77 : String := "BoardMachine$Signals$Controller"
def fT_77 : u_T := fun k => match k with
  | 0 => ("BoardMachine$Signals$Controller", "contexts", "I", true)
  | 1 => ("BoardMachine$Signals$Controller", "priorities", "[I", true)
  | 2 => ("BoardMachine$Signals$Controller", "enables", "[I", true)
  | 3 => ("BoardMachine$Signals$Controller", "thresholds", "[I", true)
  | 4 => ("BoardMachine$Signals$Controller", "signals", "I", false)
  | 5 => ("BoardMachine$Signals$Controller", "waiting", "I", false)
  | _ => ("BoardMachine$Signals$Controller", "served", "I", false)
def fY_77 : Nat → FieldType := fun k => match k with
  | 0 => .int
  | 1 => (.array .int)
  | 2 => (.array .int)
  | 3 => (.array .int)
  | 4 => .int
  | 5 => .int
  | _ => .int
def fR_78 : String := "BoardMachine$Signals$Serial"
def fT_78 : u_T := fun k => match k with
  | 0 => ("BoardMachine$Signals$Serial", "in", "[I", true)
  | 1 => ("BoardMachine$Signals$Serial", "head", "I", false)
  | 2 => ("BoardMachine$Signals$Serial", "count", "I", false)
  | 3 => ("BoardMachine$Signals$Serial", "out", "[B", true)
  | 4 => ("BoardMachine$Signals$Serial", "sent", "J", false)
  | 5 => ("BoardMachine$Signals$Serial", "held", "[I", true)
  | 6 => ("BoardMachine$Signals$Serial", "queued", "Z", false)
  | 7 => ("BoardMachine$Signals$Serial", "overrun", "Z", false)
  | _ => ("BoardMachine$Signals$Serial", "emptied", "Z", false)
def fY_78 : Nat → FieldType := fun k => match k with
  | 0 => (.array .int)
  | 1 => .int
  | 2 => .int
  | 3 => (.array .byte)
  | 4 => .long
  | 5 => (.array .int)
  | 6 => .boolean
  | 7 => .boolean
  | _ => .boolean
def fR_79 : String := "BoardMachine$Signals$SignalUnit"
def fT_79 : u_T := fun k => match k with
  | 0 => ("BoardMachine$Signals$SignalUnit", "processors", "I", true)
  | 1 => ("BoardMachine$Signals$SignalUnit", "timer", "LBoardMachine$Signals$Timer;", true)
  | 2 => ("BoardMachine$Signals$SignalUnit", "controller", "LBoardMachine$Signals$Controller;", true)
  | 3 => ("BoardMachine$Signals$SignalUnit", "serial", "LBoardMachine$Signals$Serial;", true)
  | _ => ("BoardMachine$Signals$SignalUnit", "devices", "[LBoardMachine$Signals$Device;", true)
def fY_79 : Nat → FieldType := fun k => match k with
  | 0 => .int
  | 1 => (.object "BoardMachine$Signals$Timer")
  | 2 => (.object "BoardMachine$Signals$Controller")
  | 3 => (.object "BoardMachine$Signals$Serial")
  | _ => (.array (.object "BoardMachine$Signals$Device"))
def fR_80 : String := "BoardMachine$Signals$Timer"
def fT_80 : u_T := fun k => match k with
  | 0 => ("BoardMachine$Signals$Timer", "processors", "I", true)
  | 1 => ("BoardMachine$Signals$Timer", "soft", "[I", true)
  | _ => ("BoardMachine$Signals$Timer", "numbers", "[J", true)
def fY_80 : Nat → FieldType := fun k => match k with
  | 0 => .int
  | 1 => (.array .int)
  | _ => (.array .long)
def fR_81 : String := "BoardMachine$TableWords"
def fT_81 : u_T := fun k => match k with
  | _ => ("BoardMachine$TableWords", "ram", "LBoardMachine$Memories$Ram;", true)
def fY_81 : Nat → FieldType := fun k => match k with
  | _ => (.object "BoardMachine$Memories$Ram")
def fR_82 : String := "BoardMachine$Trees$Node"
def fT_82 : u_T := fun k => match k with
  | 0 => ("BoardMachine$Trees$Node", "name", "LBoardMachine$Trees$Piece;", true)
  | 1 => ("BoardMachine$Trees$Node", "parent", "I", false)
  | 2 => ("BoardMachine$Trees$Node", "depth", "I", false)
  | 3 => ("BoardMachine$Trees$Node", "firstProperty", "I", false)
  | 4 => ("BoardMachine$Trees$Node", "properties", "I", false)
  | _ => ("BoardMachine$Trees$Node", "hasNodes", "Z", false)
def fY_82 : Nat → FieldType := fun k => match k with
  | 0 => (.object "BoardMachine$Trees$Piece")
  | 1 => .int
  | 2 => .int
  | 3 => .int
  | 4 => .int
  | _ => .boolean
def fR_83 : String := "BoardMachine$Trees$Piece"
def fT_83 : u_T := fun k => match k with
  | 0 => ("BoardMachine$Trees$Piece", "from", "I", false)
  | _ => ("BoardMachine$Trees$Piece", "size", "I", false)
def fY_83 : Nat → FieldType := fun k => match k with
  | 0 => .int
  | _ => .int
def fR_84 : String := "BoardMachine$Trees$Press"
def fT_84 : u_T := fun k => match k with
  | 0 => ("BoardMachine$Trees$Press", "out", "LBoardMachine$Trees$Row;", true)
  | _ => ("BoardMachine$Trees$Press", "names", "LBoardMachine$Trees$Row;", true)
def fY_84 : Nat → FieldType := fun k => match k with
  | 0 => (.object "BoardMachine$Trees$Row")
  | _ => (.object "BoardMachine$Trees$Row")
def fR_85 : String := "BoardMachine$Trees$Property"
def fT_85 : u_T := fun k => match k with
  | 0 => ("BoardMachine$Trees$Property", "name", "LBoardMachine$Trees$Piece;", true)
  | 1 => ("BoardMachine$Trees$Property", "value", "LBoardMachine$Trees$Piece;", true)
  | _ => ("BoardMachine$Trees$Property", "node", "I", false)
def fY_85 : Nat → FieldType := fun k => match k with
  | 0 => (.object "BoardMachine$Trees$Piece")
  | 1 => (.object "BoardMachine$Trees$Piece")
  | _ => .int
def fR_86 : String := "BoardMachine$Trees$Row"
def fT_86 : u_T := fun k => match k with
  | 0 => ("BoardMachine$Trees$Row", "bytes", "[B", true)
  | _ => ("BoardMachine$Trees$Row", "size", "I", false)
def fY_86 : Nat → FieldType := fun k => match k with
  | 0 => (.array .byte)
  | _ => .int
def fR_87 : String := "BoardMachine$Trees$Tree"
def fT_87 : u_T := fun k => match k with
  | 0 => ("BoardMachine$Trees$Tree", "store", "LBoardMachine$Trees$Row;", true)
  | 1 => ("BoardMachine$Trees$Tree", "nodes", "[LBoardMachine$Trees$Node;", true)
  | 2 => ("BoardMachine$Trees$Tree", "properties", "[LBoardMachine$Trees$Property;", true)
  | 3 => ("BoardMachine$Trees$Tree", "nodeCount", "I", false)
  | 4 => ("BoardMachine$Trees$Tree", "propertyCount", "I", false)
  | _ => ("BoardMachine$Trees$Tree", "place", "I", false)
def fY_87 : Nat → FieldType := fun k => match k with
  | 0 => (.object "BoardMachine$Trees$Row")
  | 1 => (.array (.object "BoardMachine$Trees$Node"))
  | 2 => (.array (.object "BoardMachine$Trees$Property"))
  | 3 => .int
  | 4 => .int
  | _ => .int
def fR_88 : String := "BoardMachine$Walks$Kept"
def fT_88 : u_T := fun k => match k with
  | 0 => ("BoardMachine$Walks$Kept", "is", "Z", false)
  | 1 => ("BoardMachine$Walks$Kept", "page", "J", false)
  | 2 => ("BoardMachine$Walks$Kept", "access", "I", false)
  | 3 => ("BoardMachine$Walks$Kept", "mode", "I", false)
  | 4 => ("BoardMachine$Walks$Kept", "table", "J", false)
  | 5 => ("BoardMachine$Walks$Kept", "rights", "I", false)
  | 6 => ("BoardMachine$Walks$Kept", "version", "I", false)
  | 7 => ("BoardMachine$Walks$Kept", "base", "J", false)
  | 8 => ("BoardMachine$Walks$Kept", "depth", "I", false)
  | 9 => ("BoardMachine$Walks$Kept", "entries", "[J", true)
  | _ => ("BoardMachine$Walks$Kept", "writes", "[J", true)
def fY_88 : Nat → FieldType := fun k => match k with
  | 0 => .boolean
  | 1 => .long
  | 2 => .int
  | 3 => .int
  | 4 => .long
  | 5 => .int
  | 6 => .int
  | 7 => .long
  | 8 => .int
  | 9 => (.array .long)
  | _ => (.array .long)
def fR_89 : String := "BoardMachine$Walks$Region"
def fT_89 : u_T := fun k => match k with
  | 0 => ("BoardMachine$Walks$Region", "config", "I", false)
  | 1 => ("BoardMachine$Walks$Region", "number", "J", false)
  | 2 => ("BoardMachine$Walks$Region", "from", "J", false)
  | _ => ("BoardMachine$Walks$Region", "to", "J", false)
def fY_89 : Nat → FieldType := fun k => match k with
  | 0 => .int
  | 1 => .long
  | 2 => .long
  | _ => .long
def fR_90 : String := "BoardMachine$Walks$Regions"
def fT_90 : u_T := fun k => match k with
  | 0 => ("BoardMachine$Walks$Regions", "all", "[LBoardMachine$Walks$Region;", true)
  | _ => ("BoardMachine$Walks$Regions", "version", "I", false)
def fY_90 : Nat → FieldType := fun k => match k with
  | 0 => (.array (.object "BoardMachine$Walks$Region"))
  | _ => .int
def fR_91 : String := "BoardMachine$Walks$Translator"
def fT_91 : u_T := fun k => match k with
  | 0 => ("BoardMachine$Walks$Translator", "faults", "[[I", true)
  | 1 => ("BoardMachine$Walks$Translator", "words", "LBoardMachine$Walks$Words;", true)
  | 2 => ("BoardMachine$Walks$Translator", "regions", "LBoardMachine$Walks$Regions;", true)
  | 3 => ("BoardMachine$Walks$Translator", "table", "J", false)
  | 4 => ("BoardMachine$Walks$Translator", "rights", "I", false)
  | 5 => ("BoardMachine$Walks$Translator", "kept", "[LBoardMachine$Walks$Kept;", true)
  | 6 => ("BoardMachine$Walks$Translator", "entryAt", "J", false)
  | 7 => ("BoardMachine$Walks$Translator", "entry", "J", false)
  | 8 => ("BoardMachine$Walks$Translator", "depth", "I", false)
  | _ => ("BoardMachine$Walks$Translator", "trace", "[J", true)
def fY_91 : Nat → FieldType := fun k => match k with
  | 0 => (.array (.array .int))
  | 1 => (.object "BoardMachine$Walks$Words")
  | 2 => (.object "BoardMachine$Walks$Regions")
  | 3 => .long
  | 4 => .int
  | 5 => (.array (.object "BoardMachine$Walks$Kept"))
  | 6 => .long
  | 7 => .long
  | 8 => .int
  | _ => (.array .long)
def fR_92 : String := "BoardMachineModel"
def fT_92 : u_T := fun k => match k with
  | 0 => ("BoardMachineModel", "thrown", "I", false)
  | 1 => ("BoardMachineModel", "processors", "I", true)
  | 2 => ("BoardMachineModel", "ram", "LBoardMachineModel$Ram;", true)
  | 3 => ("BoardMachineModel", "halves", "LBoardMachineModel$Halves;", true)
  | 4 => ("BoardMachineModel", "block", "LBoardMachineModel$Block;", true)
  | 5 => ("BoardMachineModel", "signals", "LBoardMachineModel$Signals;", true)
  | 6 => ("BoardMachineModel", "tree", "LBoardMachineModel$Tree;", true)
  | 7 => ("BoardMachineModel", "cores", "[LBoardMachineModel$Core;", true)
  | 8 => ("BoardMachineModel", "floats", "[LBoardMachineModel$Floats;", true)
  | 9 => ("BoardMachineModel", "desks", "[LBoardMachineModel$Desk;", true)
  | 10 => ("BoardMachineModel", "walks", "[LBoardMachineModel$Walk;", true)
  | 11 => ("BoardMachineModel", "parked", "[Z", true)
  | 12 => ("BoardMachineModel", "tape", "[I", true)
  | 13 => ("BoardMachineModel", "taped", "I", false)
  | 14 => ("BoardMachineModel", "input", "[I", true)
  | 15 => ("BoardMachineModel", "inputFrom", "I", false)
  | 16 => ("BoardMachineModel", "inputMany", "I", false)
  | 17 => ("BoardMachineModel", "entry", "J", false)
  | 18 => ("BoardMachineModel", "rounds", "J", false)
  | 19 => ("BoardMachineModel", "code", "I", false)
  | 20 => ("BoardMachineModel", "breaches", "J", false)
  | 21 => ("BoardMachineModel", "word", "I", false)
  | 22 => ("BoardMachineModel", "length", "I", false)
  | 23 => ("BoardMachineModel", "raw", "J", false)
  | 24 => ("BoardMachineModel", "cause", "I", false)
  | 25 => ("BoardMachineModel", "value", "J", false)
  | 26 => ("BoardMachineModel", "whole", "Z", false)
  | _ => ("BoardMachineModel", "places", "[J", true)
def fY_92 : Nat → FieldType := fun k => match k with
  | 0 => .int
  | 1 => .int
  | 2 => (.object "BoardMachineModel$Ram")
  | 3 => (.object "BoardMachineModel$Halves")
  | 4 => (.object "BoardMachineModel$Block")
  | 5 => (.object "BoardMachineModel$Signals")
  | 6 => (.object "BoardMachineModel$Tree")
  | 7 => (.array (.object "BoardMachineModel$Core"))
  | 8 => (.array (.object "BoardMachineModel$Floats"))
  | 9 => (.array (.object "BoardMachineModel$Desk"))
  | 10 => (.array (.object "BoardMachineModel$Walk"))
  | 11 => (.array .boolean)
  | 12 => (.array .int)
  | 13 => .int
  | 14 => (.array .int)
  | 15 => .int
  | 16 => .int
  | 17 => .long
  | 18 => .long
  | 19 => .int
  | 20 => .long
  | 21 => .int
  | 22 => .int
  | 23 => .long
  | 24 => .int
  | 25 => .long
  | 26 => .boolean
  | _ => (.array .long)
def fR_93 : String := "BoardMachineModel$Block"
def fT_93 : u_T := fun k => match k with
  | 0 => ("BoardMachineModel$Block", "code", "I", false)
  | 1 => ("BoardMachineModel$Block", "sectors", "I", true)
  | 2 => ("BoardMachineModel$Block", "ram", "LBoardMachineModel$Ram;", true)
  | 3 => ("BoardMachineModel$Block", "disk", "[J", true)
  | 4 => ("BoardMachineModel$Block", "chosen", "I", false)
  | 5 => ("BoardMachineModel$Block", "features", "I", false)
  | 6 => ("BoardMachineModel$Block", "size", "I", false)
  | 7 => ("BoardMachineModel$Block", "ready", "Z", false)
  | 8 => ("BoardMachineModel$Block", "causes", "I", false)
  | 9 => ("BoardMachineModel$Block", "state", "I", false)
  | 10 => ("BoardMachineModel$Block", "places", "[J", true)
  | 11 => ("BoardMachineModel$Block", "come", "I", false)
  | 12 => ("BoardMachineModel$Block", "given", "I", false)
  | 13 => ("BoardMachineModel$Block", "answered", "I", false)
  | 14 => ("BoardMachineModel$Block", "changed", "I", false)
  | 15 => ("BoardMachineModel$Block", "blocks", "I", false)
  | 16 => ("BoardMachineModel$Block", "starts", "[J", true)
  | 17 => ("BoardMachineModel$Block", "lengths", "[J", true)
  | 18 => ("BoardMachineModel$Block", "opens", "[Z", true)
  | 19 => ("BoardMachineModel$Block", "at", "I", false)
  | _ => ("BoardMachineModel$Block", "within", "J", false)
def fY_93 : Nat → FieldType := fun k => match k with
  | 0 => .int
  | 1 => .int
  | 2 => (.object "BoardMachineModel$Ram")
  | 3 => (.array .long)
  | 4 => .int
  | 5 => .int
  | 6 => .int
  | 7 => .boolean
  | 8 => .int
  | 9 => .int
  | 10 => (.array .long)
  | 11 => .int
  | 12 => .int
  | 13 => .int
  | 14 => .int
  | 15 => .int
  | 16 => (.array .long)
  | 17 => (.array .long)
  | 18 => (.array .boolean)
  | 19 => .int
  | _ => .long
def fR_94 : String := "BoardMachineModel$Core"
def fT_94 : u_T := fun k => match k with
  | 0 => ("BoardMachineModel$Core", "thrown", "I", false)
  | 1 => ("BoardMachineModel$Core", "registers", "[J", true)
  | 2 => ("BoardMachineModel$Core", "counter", "J", false)
  | 3 => ("BoardMachineModel$Core", "finished", "J", false)
  | 4 => ("BoardMachineModel$Core", "word", "I", false)
  | 5 => ("BoardMachineModel$Core", "length", "I", false)
  | 6 => ("BoardMachineModel$Core", "x", "J", false)
  | 7 => ("BoardMachineModel$Core", "y", "J", false)
  | 8 => ("BoardMachineModel$Core", "waits", "I", false)
  | 9 => ("BoardMachineModel$Core", "waitLength", "I", false)
  | 10 => ("BoardMachineModel$Core", "numbers", "[J", true)
  | 11 => ("BoardMachineModel$Core", "quotient", "J", false)
  | _ => ("BoardMachineModel$Core", "rest", "J", false)
def fY_94 : Nat → FieldType := fun k => match k with
  | 0 => .int
  | 1 => (.array .long)
  | 2 => .long
  | 3 => .long
  | 4 => .int
  | 5 => .int
  | 6 => .long
  | 7 => .long
  | 8 => .int
  | 9 => .int
  | 10 => (.array .long)
  | 11 => .long
  | _ => .long
def fR_95 : String := "BoardMachineModel$Desk"
def fT_95 : u_T := fun k => match k with
  | 0 => ("BoardMachineModel$Desk", "thrown", "I", false)
  | 1 => ("BoardMachineModel$Desk", "processor", "I", true)
  | 2 => ("BoardMachineModel$Desk", "mode", "I", false)
  | 3 => ("BoardMachineModel$Desk", "held", "[J", true)
  | 4 => ("BoardMachineModel$Desk", "lines", "[Z", true)
  | 5 => ("BoardMachineModel$Desk", "time", "J", false)
  | 6 => ("BoardMachineModel$Desk", "had", "J", false)
  | _ => ("BoardMachineModel$Desk", "place", "J", false)
def fY_95 : Nat → FieldType := fun k => match k with
  | 0 => .int
  | 1 => .int
  | 2 => .int
  | 3 => (.array .long)
  | 4 => (.array .boolean)
  | 5 => .long
  | 6 => .long
  | _ => .long
def fR_96 : String := "BoardMachineModel$Floats"
def fT_96 : u_T := fun k => match k with
  | 0 => ("BoardMachineModel$Floats", "code", "I", false)
  | 1 => ("BoardMachineModel$Floats", "held", "[J", true)
  | 2 => ("BoardMachineModel$Floats", "flags", "I", false)
  | 3 => ("BoardMachineModel$Floats", "mode", "I", false)
  | 4 => ("BoardMachineModel$Floats", "value", "J", false)
  | 5 => ("BoardMachineModel$Floats", "written", "Z", false)
  | 6 => ("BoardMachineModel$Floats", "fractions", "[I", true)
  | 7 => ("BoardMachineModel$Floats", "shifts", "[I", true)
  | 8 => ("BoardMachineModel$Floats", "greatest", "[I", true)
  | 9 => ("BoardMachineModel$Floats", "kind", "[I", true)
  | 10 => ("BoardMachineModel$Floats", "sign", "[I", true)
  | 11 => ("BoardMachineModel$Floats", "size", "[J", true)
  | 12 => ("BoardMachineModel$Floats", "power", "[I", true)
  | 13 => ("BoardMachineModel$Floats", "one", "[I", true)
  | 14 => ("BoardMachineModel$Floats", "two", "[I", true)
  | 15 => ("BoardMachineModel$Floats", "more", "Z", false)
  | 16 => ("BoardMachineModel$Floats", "minus", "I", false)
  | 17 => ("BoardMachineModel$Floats", "scale", "I", false)
  | 18 => ("BoardMachineModel$Floats", "units", "J", false)
  | _ => ("BoardMachineModel$Floats", "lost", "Z", false)
def fY_96 : Nat → FieldType := fun k => match k with
  | 0 => .int
  | 1 => (.array .long)
  | 2 => .int
  | 3 => .int
  | 4 => .long
  | 5 => .boolean
  | 6 => (.array .int)
  | 7 => (.array .int)
  | 8 => (.array .int)
  | 9 => (.array .int)
  | 10 => (.array .int)
  | 11 => (.array .long)
  | 12 => (.array .int)
  | 13 => (.array .int)
  | 14 => (.array .int)
  | 15 => .boolean
  | 16 => .int
  | 17 => .int
  | 18 => .long
  | _ => .boolean
def fR_97 : String := "BoardMachineModel$Halves"
def fT_97 : u_T := fun k => match k with
  | 0 => ("BoardMachineModel$Halves", "thrown", "I", false)
  | _ => ("BoardMachineModel$Halves", "h", "I", false)
def fY_97 : Nat → FieldType := fun k => match k with
  | 0 => .int
  | _ => .int
def fR_98 : String := "BoardMachineModel$Ram"
def fT_98 : u_T := fun k => match k with
  | 0 => ("BoardMachineModel$Ram", "words", "[J", true)
  | 1 => ("BoardMachineModel$Ram", "places", "[J", true)
  | 2 => ("BoardMachineModel$Ram", "sizes", "[I", true)
  | 3 => ("BoardMachineModel$Ram", "stores", "[I", true)
  | 4 => ("BoardMachineModel$Ram", "seen", "[I", true)
  | _ => ("BoardMachineModel$Ram", "breaches", "J", false)
def fY_98 : Nat → FieldType := fun k => match k with
  | 0 => (.array .long)
  | 1 => (.array .long)
  | 2 => (.array .int)
  | 3 => (.array .int)
  | 4 => (.array .int)
  | _ => .long
def fR_99 : String := "BoardMachineModel$Signals"
def fT_99 : u_T := fun k => match k with
  | 0 => ("BoardMachineModel$Signals", "thrown", "I", false)
  | 1 => ("BoardMachineModel$Signals", "processors", "I", true)
  | 2 => ("BoardMachineModel$Signals", "soft", "[Z", true)
  | 3 => ("BoardMachineModel$Signals", "compares", "[J", true)
  | 4 => ("BoardMachineModel$Signals", "time", "J", false)
  | 5 => ("BoardMachineModel$Signals", "signals", "[Z", true)
  | 6 => ("BoardMachineModel$Signals", "waits", "[Z", true)
  | 7 => ("BoardMachineModel$Signals", "served", "[Z", true)
  | 8 => ("BoardMachineModel$Signals", "priorities", "[I", true)
  | 9 => ("BoardMachineModel$Signals", "enabled", "[I", true)
  | 10 => ("BoardMachineModel$Signals", "thresholds", "[I", true)
  | 11 => ("BoardMachineModel$Signals", "registers", "[I", true)
  | 12 => ("BoardMachineModel$Signals", "others", "[I", true)
  | 13 => ("BoardMachineModel$Signals", "queueBit", "Z", false)
  | 14 => ("BoardMachineModel$Signals", "overrun", "Z", false)
  | 15 => ("BoardMachineModel$Signals", "emptied", "Z", false)
  | 16 => ("BoardMachineModel$Signals", "came", "[I", true)
  | 17 => ("BoardMachineModel$Signals", "many", "I", false)
  | 18 => ("BoardMachineModel$Signals", "out", "[I", true)
  | 19 => ("BoardMachineModel$Signals", "sent", "J", false)
  | _ => ("BoardMachineModel$Signals", "breaches", "J", false)
def fY_99 : Nat → FieldType := fun k => match k with
  | 0 => .int
  | 1 => .int
  | 2 => (.array .boolean)
  | 3 => (.array .long)
  | 4 => .long
  | 5 => (.array .boolean)
  | 6 => (.array .boolean)
  | 7 => (.array .boolean)
  | 8 => (.array .int)
  | 9 => (.array .int)
  | 10 => (.array .int)
  | 11 => (.array .int)
  | 12 => (.array .int)
  | 13 => .boolean
  | 14 => .boolean
  | 15 => .boolean
  | 16 => (.array .int)
  | 17 => .int
  | 18 => (.array .int)
  | 19 => .long
  | _ => .long
def fR_100 : String := "BoardMachineModel$Tree"
def fT_100 : u_T := fun k => match k with
  | 0 => ("BoardMachineModel$Tree", "all", "[I", true)
  | 1 => ("BoardMachineModel$Tree", "total", "I", false)
  | 2 => ("BoardMachineModel$Tree", "structure", "[I", true)
  | 3 => ("BoardMachineModel$Tree", "size", "I", false)
  | 4 => ("BoardMachineModel$Tree", "names", "[I", true)
  | 5 => ("BoardMachineModel$Tree", "nameSize", "I", false)
  | _ => ("BoardMachineModel$Tree", "lengthAt", "I", false)
def fY_100 : Nat → FieldType := fun k => match k with
  | 0 => (.array .int)
  | 1 => .int
  | 2 => (.array .int)
  | 3 => .int
  | 4 => (.array .int)
  | 5 => .int
  | _ => .int
def fR_101 : String := "BoardMachineModel$Walk"
def fT_101 : u_T := fun k => match k with
  | 0 => ("BoardMachineModel$Walk", "code", "I", false)
  | 1 => ("BoardMachineModel$Walk", "ram", "LBoardMachineModel$Ram;", true)
  | 2 => ("BoardMachineModel$Walk", "table", "J", false)
  | 3 => ("BoardMachineModel$Walk", "sum", "Z", false)
  | 4 => ("BoardMachineModel$Walk", "mxr", "Z", false)
  | 5 => ("BoardMachineModel$Walk", "configs", "[I", true)
  | 6 => ("BoardMachineModel$Walk", "numbers", "[J", true)
  | 7 => ("BoardMachineModel$Walk", "from", "J", false)
  | _ => ("BoardMachineModel$Walk", "to", "J", false)
def fY_101 : Nat → FieldType := fun k => match k with
  | 0 => .int
  | 1 => (.object "BoardMachineModel$Ram")
  | 2 => .long
  | 3 => .boolean
  | 4 => .boolean
  | 5 => (.array .int)
  | 6 => (.array .long)
  | 7 => .long
  | _ => .long
def fR_102 : String := "java/lang/IllegalArgumentException"
def fT_102 : u_T := fun k => match k with
  | 0 => ("java/lang/Throwable", "cause", "Ljava/lang/Throwable;", false)
  | 1 => ("java/lang/Throwable", "stackTrace", "[Ljava/lang/StackTraceElement;", false)
  | 2 => ("java/lang/Throwable", "suppressedExceptions", "Ljava/util/List;", false)
  | 3 => ("java/lang/Throwable", "detailMessage", "Ljava/lang/String;", false)
  | 4 => ("java/lang/Throwable", "backtrace", "Ljava/lang/Object;", false)
  | _ => ("java/lang/Throwable", "depth", "I", false)
def fY_102 : Nat → FieldType := fun k => match k with
  | 0 => (.object "java/lang/Throwable")
  | 1 => (.array (.object "java/lang/StackTraceElement"))
  | 2 => (.object "java/util/List")
  | 3 => (.object "java/lang/String")
  | 4 => (.object "java/lang/Object")
  | _ => .int
def fR_103 : String := "java/lang/IllegalStateException"
def fT_103 : u_T := fun k => match k with
  | 0 => ("java/lang/Throwable", "cause", "Ljava/lang/Throwable;", false)
  | 1 => ("java/lang/Throwable", "stackTrace", "[Ljava/lang/StackTraceElement;", false)
  | 2 => ("java/lang/Throwable", "suppressedExceptions", "Ljava/util/List;", false)
  | 3 => ("java/lang/Throwable", "detailMessage", "Ljava/lang/String;", false)
  | 4 => ("java/lang/Throwable", "backtrace", "Ljava/lang/Object;", false)
  | _ => ("java/lang/Throwable", "depth", "I", false)
def fY_103 : Nat → FieldType := fun k => match k with
  | 0 => (.object "java/lang/Throwable")
  | 1 => (.array (.object "java/lang/StackTraceElement"))
  | 2 => (.object "java/util/List")
  | 3 => (.object "java/lang/String")
  | 4 => (.object "java/lang/Object")
  | _ => .int
def fR_104 : String := "java/lang/IndexOutOfBoundsException"
def fT_104 : u_T := fun k => match k with
  | 0 => ("java/lang/Throwable", "cause", "Ljava/lang/Throwable;", false)
  | 1 => ("java/lang/Throwable", "stackTrace", "[Ljava/lang/StackTraceElement;", false)
  | 2 => ("java/lang/Throwable", "suppressedExceptions", "Ljava/util/List;", false)
  | 3 => ("java/lang/Throwable", "detailMessage", "Ljava/lang/String;", false)
  | 4 => ("java/lang/Throwable", "backtrace", "Ljava/lang/Object;", false)
  | _ => ("java/lang/Throwable", "depth", "I", false)
def fY_104 : Nat → FieldType := fun k => match k with
  | 0 => (.object "java/lang/Throwable")
  | 1 => (.array (.object "java/lang/StackTraceElement"))
  | 2 => (.object "java/util/List")
  | 3 => (.object "java/lang/String")
  | 4 => (.object "java/lang/Object")
  | _ => .int
def fR_105 : String := "java/lang/ArrayIndexOutOfBoundsException"
def fT_105 : u_T := fun k => match k with
  | 0 => ("java/lang/Throwable", "backtrace", "Ljava/lang/Object;", false)
  | 1 => ("java/lang/Throwable", "detailMessage", "Ljava/lang/String;", false)
  | 2 => ("java/lang/Throwable", "cause", "Ljava/lang/Throwable;", false)
  | 3 => ("java/lang/Throwable", "stackTrace", "[Ljava/lang/StackTraceElement;", false)
  | 4 => ("java/lang/Throwable", "depth", "I", false)
  | _ => ("java/lang/Throwable", "suppressedExceptions", "Ljava/util/List;", false)
def fY_105 : Nat → FieldType := fun k => match k with
  | 0 => (.object "java/lang/Object")
  | 1 => (.object "java/lang/String")
  | 2 => (.object "java/lang/Throwable")
  | 3 => (.array (.object "java/lang/StackTraceElement"))
  | 4 => .int
  | _ => (.object "java/util/List")
def fk_cl : List vw_C := [(fR_10, fT_10, 0), (fR_1, fT_1, 1), (fR_2, fT_2, 1), (fR_3, fT_3, 3), (fR_4, fT_4, 1), (fR_5, fT_5, 1), (fR_6, fT_6, 3), (fR_7, fT_7, 2), (fR_10, fT_10, 0), (fR_10, fT_10, 0), (fR_10, fT_10, 1), (fR_11, fT_11, 6), (fR_12, fT_12, 16), (fR_13, fT_13, 1), (fR_14, fT_14, 2), (fR_15, fT_15, 3), (fR_16, fT_16, 2), (fR_17, fT_17, 2), (fR_18, fT_18, 1), (fR_19, fT_19, 4), (fR_20, fT_20, 6), (fR_21, fT_21, 3), (fR_22, fT_22, 10), (fR_23, fT_23, 3), (fR_24, fT_24, 0), (fR_25, fT_25, 0), (fR_26, fT_26, 0), (fR_27, fT_27, 0), (fR_28, fT_28, 7), (fR_29, fT_29, 7), (fR_30, fT_30, 6), (fR_31, fT_31, 2), (fR_32, fT_32, 16), (fR_33, fT_33, 4), (fR_34, fT_34, 0), (fR_35, fT_35, 0), (fR_36, fT_36, 0), (fR_37, fT_37, 0), (fR_38, fT_38, 1), (fR_39, fT_39, 5), (fR_40, fT_40, 2), (fR_41, fT_41, 4), (fR_42, fT_42, 2), (fR_43, fT_43, 6), (fR_44, fT_44, 3), (fR_45, fT_45, 6), (fR_46, fT_46, 3), (fR_47, fT_47, 5), (fR_48, fT_48, 6), (fR_49, fT_49, 4), (fR_50, fT_50, 3), (fR_51, fT_51, 3), (fR_52, fT_52, 5), (fR_53, fT_53, 0), (fR_54, fT_54, 0), (fR_55, fT_55, 0), (fR_56, fT_56, 0), (fR_57, fT_57, 0), (fR_58, fT_58, 0), (fR_59, fT_59, 1), (fR_60, fT_60, 1), (fR_61, fT_61, 12), (fR_62, fT_62, 10), (fR_63, fT_63, 7), (fR_64, fT_64, 2), (fR_65, fT_65, 6), (fR_66, fT_66, 3), (fR_67, fT_67, 9), (fR_68, fT_68, 1), (fR_69, fT_69, 2), (fR_70, fT_70, 0), (fR_71, fT_71, 0), (fR_72, fT_72, 1), (fR_73, fT_73, 5), (fR_74, fT_74, 2), (fR_75, fT_75, 13), (fR_76, fT_76, 1), (fR_77, fT_77, 7), (fR_78, fT_78, 9), (fR_79, fT_79, 5), (fR_80, fT_80, 3), (fR_81, fT_81, 1), (fR_82, fT_82, 6), (fR_83, fT_83, 2), (fR_84, fT_84, 2), (fR_85, fT_85, 3), (fR_86, fT_86, 2), (fR_87, fT_87, 6), (fR_88, fT_88, 11), (fR_89, fT_89, 4), (fR_90, fT_90, 2), (fR_91, fT_91, 10), (fR_92, fT_92, 28), (fR_93, fT_93, 21), (fR_94, fT_94, 13), (fR_95, fT_95, 8), (fR_96, fT_96, 20), (fR_97, fT_97, 2), (fR_98, fT_98, 6), (fR_99, fT_99, 21), (fR_100, fT_100, 7), (fR_101, fT_101, 9), (fR_102, fT_102, 6), (fR_103, fT_103, 6), (fR_104, fT_104, 6), (fR_105, fT_105, 6)]
def fk_fl : List (List (Nat × Nat)) := [ [], [(10, 0)], [(10, 0)], [(10, 0), (11, 0), (12, 3)], [(10, 0)], [(10, 0)], [(10, 0), (13, 1), (14, 1)], [(15, 2), (16, 0)], [], [], [(17, 2)], [(18, 2), (19, 2), (20, 2), (21, 2), (22, 3), (23, 0)], [(24, 2), (25, 2), (26, 2), (27, 2), (28, 2), (29, 2), (30, 2), (31, 2), (32, 2), (33, 2), (34, 2), (35, 2), (36, 2), (37, 0), (38, 1), (39, 1)], [(40, 1)], [(41, 1), (42, 1)], [(41, 1), (42, 1), (43, 1)], [(41, 1), (42, 1)], [(41, 1), (42, 1)], [(44, 2)], [(45, 2), (46, 2), (47, 1), (48, 1)], [(49, 2), (50, 2), (51, 2), (52, 2), (53, 2), (54, 2)], [(55, 2), (56, 2), (57, 2)], [(58, 2), (59, 2), (60, 2), (61, 2), (62, 2), (63, 0), (64, 0), (65, 0), (66, 0), (67, 0)], [(68, 0), (69, 2), (70, 0)], [], [], [], [], [(71, 0), (72, 3), (73, 1), (74, 1), (75, 1), (76, 0), (77, 0)], [(78, 2), (79, 2), (80, 0), (81, 0), (82, 1), (83, 1), (84, 1)], [(85, 2), (86, 2), (87, 0), (88, 1), (89, 0), (90, 1)], [(91, 0), (92, 3)], [(93, 2), (94, 2), (95, 0), (96, 3), (97, 1), (98, 2), (99, 2), (100, 2), (101, 2), (102, 2), (103, 2), (104, 2), (105, 2), (106, 2), (107, 2), (108, 2)], [(109, 0), (110, 0), (111, 0), (112, 2)], [], [], [], [], [(113, 3)], [(114, 2), (115, 3), (116, 0), (117, 2), (118, 1)], [(119, 1), (120, 1)], [(121, 2), (122, 0), (123, 3), (124, 2)], [(125, 2), (126, 0)], [(127, 0), (128, 0), (129, 2), (130, 0), (131, 0), (132, 3)], [(127, 0), (128, 0), (129, 2)], [(127, 0), (128, 0), (129, 2), (133, 0), (134, 0), (135, 3)], [(127, 0), (128, 0), (129, 2)], [(127, 0), (128, 0), (129, 2), (136, 2), (137, 2)], [(127, 0), (128, 0), (129, 2), (138, 0), (139, 0), (140, 3)], [(127, 0), (128, 0), (129, 2), (141, 2)], [(127, 0), (128, 0), (129, 2)], [(127, 0), (128, 0), (129, 2)], [(142, 2), (143, 0), (144, 0), (145, 0), (146, 0)], [], [], [], [], [], [], [(147, 3)], [(148, 3)], [(149, 2), (150, 0), (151, 0), (152, 0), (153, 0), (154, 1), (155, 2), (156, 3), (157, 3), (158, 0), (159, 0), (160, 0)], [(161, 2), (162, 2), (163, 2), (164, 2), (165, 2), (166, 2), (167, 2), (168, 2), (169, 2), (170, 2)], [(171, 2), (172, 2), (173, 2), (174, 2), (175, 2), (176, 0), (177, 1)], [(178, 2), (179, 1)], [(180, 3), (181, 1), (182, 1), (183, 0), (184, 0), (185, 0)], [(186, 2), (187, 2), (188, 1)], [(189, 2), (190, 2), (191, 2), (192, 2), (193, 2), (194, 2), (195, 0), (196, 0), (197, 0)], [(198, 0)], [(199, 3), (200, 1)], [], [], [(201, 2)], [(202, 0), (203, 2), (204, 2), (205, 2), (206, 2)], [(207, 1), (208, 0)], [(209, 0), (210, 2), (211, 2), (212, 2), (213, 2), (214, 2), (215, 2), (216, 2), (217, 2), (218, 3), (219, 0), (220, 0), (221, 0)], [(222, 2)], [(223, 0), (224, 2), (225, 2), (226, 2), (227, 0), (228, 0), (229, 0)], [(230, 2), (231, 0), (232, 0), (233, 2), (234, 1), (235, 2), (236, 3), (237, 3), (238, 3)], [(239, 0), (240, 2), (241, 2), (242, 2), (243, 2)], [(244, 0), (245, 2), (246, 2)], [(247, 2)], [(248, 2), (249, 0), (250, 0), (251, 0), (252, 0), (253, 3)], [(254, 0), (255, 0)], [(256, 2), (257, 2)], [(258, 2), (259, 2), (260, 0)], [(261, 2), (262, 0)], [(263, 2), (264, 2), (265, 2), (266, 0), (267, 0), (268, 0)], [(269, 3), (270, 1), (271, 0), (272, 0), (273, 1), (274, 0), (275, 0), (276, 1), (277, 0), (278, 2), (279, 2)], [(280, 0), (281, 1), (282, 1), (283, 1)], [(284, 2), (285, 0)], [(286, 2), (287, 2), (288, 2), (289, 1), (290, 0), (291, 2), (292, 1), (293, 1), (294, 0), (295, 2)], [(296, 0), (297, 0), (298, 2), (299, 2), (300, 2), (301, 2), (302, 2), (303, 2), (304, 2), (305, 2), (306, 2), (307, 2), (308, 2), (309, 0), (310, 2), (311, 0), (312, 0), (313, 1), (314, 1), (315, 0), (316, 1), (317, 0), (318, 0), (319, 1), (320, 0), (321, 1), (322, 3), (323, 2)], [(324, 0), (325, 0), (326, 2), (327, 2), (328, 0), (329, 0), (330, 0), (331, 3), (332, 0), (333, 0), (334, 2), (335, 0), (336, 0), (337, 0), (338, 0), (339, 0), (340, 2), (341, 2), (342, 2), (343, 0), (344, 1)], [(345, 0), (346, 2), (347, 1), (348, 1), (349, 0), (350, 0), (351, 1), (352, 1), (353, 0), (354, 0), (355, 2), (356, 1), (357, 1)], [(358, 0), (359, 0), (360, 0), (361, 2), (362, 2), (363, 1), (364, 1), (365, 1)], [(366, 0), (367, 2), (368, 0), (369, 0), (370, 1), (371, 3), (372, 2), (373, 2), (374, 2), (375, 2), (376, 2), (377, 2), (378, 2), (379, 2), (380, 2), (381, 3), (382, 0), (383, 0), (384, 1), (385, 3)], [(386, 0), (387, 0)], [(388, 2), (389, 2), (390, 2), (391, 2), (392, 2), (393, 1)], [(394, 0), (395, 0), (396, 2), (397, 2), (398, 1), (399, 2), (400, 2), (401, 2), (402, 2), (403, 2), (404, 2), (405, 2), (406, 2), (407, 3), (408, 3), (409, 3), (410, 2), (411, 0), (412, 2), (413, 1), (414, 1)], [(415, 2), (416, 0), (417, 2), (418, 0), (419, 2), (420, 0), (421, 0)], [(422, 0), (423, 2), (424, 1), (425, 3), (426, 3), (427, 2), (428, 2), (429, 1), (430, 1)], [(431, 2), (432, 2), (433, 2), (434, 2), (435, 2), (436, 0)], [(431, 2), (432, 2), (433, 2), (434, 2), (435, 2), (436, 0)], [(431, 2), (432, 2), (433, 2), (434, 2), (435, 2), (436, 0)], [(435, 2), (434, 2), (431, 2), (432, 2), (436, 0), (433, 2)] ]
def fk_fd (t k : Nat) : Nat × Nat := ((fk_fl[t]?.getD [])[k]?).getD (0, 0)
def fk_et : Nat → FieldType := fun t => match t with
  | 901 => .int
  | 902 => .long
  | 903 => .byte
  | 904 => .boolean
  | 905 => .byte
  | 906 => .int
  | 910 => .object "BoardMachine$Controls$Register"
  | 911 => .object "BoardMachine$Disks$Kind"
  | 912 => .object "BoardMachine$Floats$Format"
  | 913 => .object "BoardMachine$Floats$Mode"
  | 914 => .object "BoardMachine$Floats$Operation"
  | 915 => .object "BoardMachine$Floats$Whole"
  | 916 => .object "BoardMachine$Halves$Line"
  | 917 => .object "BoardMachine$Integers$Decoded"
  | 918 => .object "BoardMachine$Kept"
  | 919 => .object "BoardMachine$Memories$Change"
  | 920 => .object "BoardMachine$Memories$Page"
  | 921 => .object "BoardMachine$Memories$Reservation"
  | 922 => .object "BoardMachine$Processor"
  | 923 => .object "BoardMachine$Signals$Device"
  | 924 => .object "BoardMachine$Trees$Node"
  | 925 => .object "BoardMachine$Trees$Property"
  | 926 => .object "BoardMachine$Walks$Kept"
  | 927 => .object "BoardMachine$Walks$Region"
  | 928 => .object "BoardMachine$Window"
  | 929 => .object "BoardMachineModel$Core"
  | 930 => .object "BoardMachineModel$Desk"
  | 931 => .object "BoardMachineModel$Floats"
  | 932 => .object "BoardMachineModel$Walk"
  | _ => .array .int
def fk_wr (t : Nat) : Bool := Nat.ble 10 t && !(Nat.beq t 905 || Nat.beq t 906)
def fk_E (s0 : State) (H0 : Heap) (oa : Nat → Nat) (D : va_G) : FE := (s0, H0, oa, D, fk_cl, fk_fd, fk_et, fk_wr)
def fk_st : List (Nat × String × String × String) := [(1, "BoardMachine$Floats$Mode", "EVEN", "LBoardMachine$Floats$Mode;"), (2, "BoardMachine$Floats$Mode", "SHORT", "LBoardMachine$Floats$Mode;"), (3, "BoardMachine$Floats$Mode", "DOWN", "LBoardMachine$Floats$Mode;"), (4, "BoardMachine$Floats$Mode", "UP", "LBoardMachine$Floats$Mode;"), (5, "BoardMachine$Floats$Mode", "AWAY", "LBoardMachine$Floats$Mode;"), (6, "BoardMachine$Floats$Sort", "ZERO", "LBoardMachine$Floats$Sort;"), (7, "BoardMachine$Floats$Sort", "NUMBER", "LBoardMachine$Floats$Sort;"), (8, "BoardMachine$Floats$Sort", "INFINITE", "LBoardMachine$Floats$Sort;"), (9, "BoardMachine$Floats$Sort", "QUIET", "LBoardMachine$Floats$Sort;"), (10, "BoardMachine$Floats$Sort", "SIGNALING", "LBoardMachine$Floats$Sort;"), (11, "BoardMachine$Floats$Whole", "INT", "LBoardMachine$Floats$Whole;"), (12, "BoardMachine$Floats$Whole", "UNSIGNED_INT", "LBoardMachine$Floats$Whole;"), (13, "BoardMachine$Floats$Whole", "LONG", "LBoardMachine$Floats$Whole;"), (14, "BoardMachine$Floats$Whole", "UNSIGNED_LONG", "LBoardMachine$Floats$Whole;"), (15, "BoardMachine$Integers$Sum", "ADD", "LBoardMachine$Integers$Sum;"), (16, "BoardMachine$Integers$Sum", "SUBTRACT", "LBoardMachine$Integers$Sum;"), (17, "BoardMachine$Integers$Sum", "LEFT", "LBoardMachine$Integers$Sum;"), (18, "BoardMachine$Integers$Sum", "LESS", "LBoardMachine$Integers$Sum;"), (19, "BoardMachine$Integers$Sum", "BELOW", "LBoardMachine$Integers$Sum;"), (20, "BoardMachine$Integers$Sum", "XOR", "LBoardMachine$Integers$Sum;"), (21, "BoardMachine$Integers$Sum", "RIGHT", "LBoardMachine$Integers$Sum;"), (22, "BoardMachine$Integers$Sum", "ARITHMETIC", "LBoardMachine$Integers$Sum;"), (23, "BoardMachine$Integers$Sum", "OR", "LBoardMachine$Integers$Sum;"), (24, "BoardMachine$Integers$Sum", "AND", "LBoardMachine$Integers$Sum;"), (25, "BoardMachine$Integers$Sum", "TIMES", "LBoardMachine$Integers$Sum;"), (26, "BoardMachine$Integers$Sum", "UPPER", "LBoardMachine$Integers$Sum;"), (27, "BoardMachine$Integers$Sum", "UPPER_MIXED", "LBoardMachine$Integers$Sum;"), (28, "BoardMachine$Integers$Sum", "UPPER_UNSIGNED", "LBoardMachine$Integers$Sum;"), (29, "BoardMachine$Integers$Sum", "DIVIDE", "LBoardMachine$Integers$Sum;"), (30, "BoardMachine$Integers$Sum", "DIVIDE_UNSIGNED", "LBoardMachine$Integers$Sum;"), (31, "BoardMachine$Integers$Sum", "REST", "LBoardMachine$Integers$Sum;"), (32, "BoardMachine$Integers$Sum", "REST_UNSIGNED", "LBoardMachine$Integers$Sum;"), (33, "BoardMachine$Walks$Span", "NOTHING", "LBoardMachine$Walks$Span;"), (34, "BoardMachine$Walks$Span", "FROM_BEFORE", "LBoardMachine$Walks$Span;"), (35, "BoardMachine$Walks$Span", "FOUR", "LBoardMachine$Walks$Span;"), (36, "BoardMachine$Walks$Span", "POWER", "LBoardMachine$Walks$Span;"), (37, "BoardMachine$Window", "END", "LBoardMachine$Window;"), (38, "BoardMachine$Window", "TIMER", "LBoardMachine$Window;"), (39, "BoardMachine$Window", "CONTROLLER", "LBoardMachine$Window;"), (40, "BoardMachine$Window", "SERIAL", "LBoardMachine$Window;"), (41, "BoardMachine$Window", "DISK", "LBoardMachine$Window;")]
theorem ez_1 : (1, "BoardMachine$Floats$Mode", "EVEN", "LBoardMachine$Floats$Mode;") ∈ fk_st := List.mem_of_getElem? (i := 0) rfl
theorem ez_2 : (2, "BoardMachine$Floats$Mode", "SHORT", "LBoardMachine$Floats$Mode;") ∈ fk_st := List.mem_of_getElem? (i := 1) rfl
theorem ez_3 : (3, "BoardMachine$Floats$Mode", "DOWN", "LBoardMachine$Floats$Mode;") ∈ fk_st := List.mem_of_getElem? (i := 2) rfl
theorem ez_4 : (4, "BoardMachine$Floats$Mode", "UP", "LBoardMachine$Floats$Mode;") ∈ fk_st := List.mem_of_getElem? (i := 3) rfl
theorem ez_5 : (5, "BoardMachine$Floats$Mode", "AWAY", "LBoardMachine$Floats$Mode;") ∈ fk_st := List.mem_of_getElem? (i := 4) rfl
theorem ez_6 : (6, "BoardMachine$Floats$Sort", "ZERO", "LBoardMachine$Floats$Sort;") ∈ fk_st := List.mem_of_getElem? (i := 5) rfl
theorem ez_7 : (7, "BoardMachine$Floats$Sort", "NUMBER", "LBoardMachine$Floats$Sort;") ∈ fk_st := List.mem_of_getElem? (i := 6) rfl
theorem ez_8 : (8, "BoardMachine$Floats$Sort", "INFINITE", "LBoardMachine$Floats$Sort;") ∈ fk_st := List.mem_of_getElem? (i := 7) rfl
theorem ez_9 : (9, "BoardMachine$Floats$Sort", "QUIET", "LBoardMachine$Floats$Sort;") ∈ fk_st := List.mem_of_getElem? (i := 8) rfl
theorem ez_10 : (10, "BoardMachine$Floats$Sort", "SIGNALING", "LBoardMachine$Floats$Sort;") ∈ fk_st := List.mem_of_getElem? (i := 9) rfl
theorem ez_11 : (11, "BoardMachine$Floats$Whole", "INT", "LBoardMachine$Floats$Whole;") ∈ fk_st := List.mem_of_getElem? (i := 10) rfl
theorem ez_12 : (12, "BoardMachine$Floats$Whole", "UNSIGNED_INT", "LBoardMachine$Floats$Whole;") ∈ fk_st := List.mem_of_getElem? (i := 11) rfl
theorem ez_13 : (13, "BoardMachine$Floats$Whole", "LONG", "LBoardMachine$Floats$Whole;") ∈ fk_st := List.mem_of_getElem? (i := 12) rfl
theorem ez_14 : (14, "BoardMachine$Floats$Whole", "UNSIGNED_LONG", "LBoardMachine$Floats$Whole;") ∈ fk_st := List.mem_of_getElem? (i := 13) rfl
theorem ez_15 : (15, "BoardMachine$Integers$Sum", "ADD", "LBoardMachine$Integers$Sum;") ∈ fk_st := List.mem_of_getElem? (i := 14) rfl
theorem ez_16 : (16, "BoardMachine$Integers$Sum", "SUBTRACT", "LBoardMachine$Integers$Sum;") ∈ fk_st := List.mem_of_getElem? (i := 15) rfl
theorem ez_17 : (17, "BoardMachine$Integers$Sum", "LEFT", "LBoardMachine$Integers$Sum;") ∈ fk_st := List.mem_of_getElem? (i := 16) rfl
theorem ez_18 : (18, "BoardMachine$Integers$Sum", "LESS", "LBoardMachine$Integers$Sum;") ∈ fk_st := List.mem_of_getElem? (i := 17) rfl
theorem ez_19 : (19, "BoardMachine$Integers$Sum", "BELOW", "LBoardMachine$Integers$Sum;") ∈ fk_st := List.mem_of_getElem? (i := 18) rfl
theorem ez_20 : (20, "BoardMachine$Integers$Sum", "XOR", "LBoardMachine$Integers$Sum;") ∈ fk_st := List.mem_of_getElem? (i := 19) rfl
theorem ez_21 : (21, "BoardMachine$Integers$Sum", "RIGHT", "LBoardMachine$Integers$Sum;") ∈ fk_st := List.mem_of_getElem? (i := 20) rfl
theorem ez_22 : (22, "BoardMachine$Integers$Sum", "ARITHMETIC", "LBoardMachine$Integers$Sum;") ∈ fk_st := List.mem_of_getElem? (i := 21) rfl
theorem ez_23 : (23, "BoardMachine$Integers$Sum", "OR", "LBoardMachine$Integers$Sum;") ∈ fk_st := List.mem_of_getElem? (i := 22) rfl
theorem ez_24 : (24, "BoardMachine$Integers$Sum", "AND", "LBoardMachine$Integers$Sum;") ∈ fk_st := List.mem_of_getElem? (i := 23) rfl
theorem ez_25 : (25, "BoardMachine$Integers$Sum", "TIMES", "LBoardMachine$Integers$Sum;") ∈ fk_st := List.mem_of_getElem? (i := 24) rfl
theorem ez_26 : (26, "BoardMachine$Integers$Sum", "UPPER", "LBoardMachine$Integers$Sum;") ∈ fk_st := List.mem_of_getElem? (i := 25) rfl
theorem ez_27 : (27, "BoardMachine$Integers$Sum", "UPPER_MIXED", "LBoardMachine$Integers$Sum;") ∈ fk_st := List.mem_of_getElem? (i := 26) rfl
theorem ez_28 : (28, "BoardMachine$Integers$Sum", "UPPER_UNSIGNED", "LBoardMachine$Integers$Sum;") ∈ fk_st := List.mem_of_getElem? (i := 27) rfl
theorem ez_29 : (29, "BoardMachine$Integers$Sum", "DIVIDE", "LBoardMachine$Integers$Sum;") ∈ fk_st := List.mem_of_getElem? (i := 28) rfl
theorem ez_30 : (30, "BoardMachine$Integers$Sum", "DIVIDE_UNSIGNED", "LBoardMachine$Integers$Sum;") ∈ fk_st := List.mem_of_getElem? (i := 29) rfl
theorem ez_31 : (31, "BoardMachine$Integers$Sum", "REST", "LBoardMachine$Integers$Sum;") ∈ fk_st := List.mem_of_getElem? (i := 30) rfl
theorem ez_32 : (32, "BoardMachine$Integers$Sum", "REST_UNSIGNED", "LBoardMachine$Integers$Sum;") ∈ fk_st := List.mem_of_getElem? (i := 31) rfl
theorem ez_33 : (33, "BoardMachine$Walks$Span", "NOTHING", "LBoardMachine$Walks$Span;") ∈ fk_st := List.mem_of_getElem? (i := 32) rfl
theorem ez_34 : (34, "BoardMachine$Walks$Span", "FROM_BEFORE", "LBoardMachine$Walks$Span;") ∈ fk_st := List.mem_of_getElem? (i := 33) rfl
theorem ez_35 : (35, "BoardMachine$Walks$Span", "FOUR", "LBoardMachine$Walks$Span;") ∈ fk_st := List.mem_of_getElem? (i := 34) rfl
theorem ez_36 : (36, "BoardMachine$Walks$Span", "POWER", "LBoardMachine$Walks$Span;") ∈ fk_st := List.mem_of_getElem? (i := 35) rfl
theorem ez_37 : (37, "BoardMachine$Window", "END", "LBoardMachine$Window;") ∈ fk_st := List.mem_of_getElem? (i := 36) rfl
theorem ez_38 : (38, "BoardMachine$Window", "TIMER", "LBoardMachine$Window;") ∈ fk_st := List.mem_of_getElem? (i := 37) rfl
theorem ez_39 : (39, "BoardMachine$Window", "CONTROLLER", "LBoardMachine$Window;") ∈ fk_st := List.mem_of_getElem? (i := 38) rfl
theorem ez_40 : (40, "BoardMachine$Window", "SERIAL", "LBoardMachine$Window;") ∈ fk_st := List.mem_of_getElem? (i := 39) rfl
theorem ez_41 : (41, "BoardMachine$Window", "DISK", "LBoardMachine$Window;") ∈ fk_st := List.mem_of_getElem? (i := 40) rfl
def fk_sr : List (String × Nat × String × Nat) := [("BoardMachine$Describer", 87, "reg", 132), ("BoardMachine$Describer", 93, "#address-cells", 101), ("BoardMachine$Describer", 99, "#size-cells", 103), ("BoardMachine$Describer", 101, "cpu@", 111), ("BoardMachine$Describer", 106, "device_type", 117), ("BoardMachine$Describer", 108, "cpu", 110), ("BoardMachine$Describer", 114, "status", 137), ("BoardMachine$Describer", 116, "okay", 129), ("BoardMachine$Describer", 118, "compatible", 109), ("BoardMachine$Describer", 120, "whole,core", 146), ("BoardMachine$Describer", 122, "isa", 124), ("BoardMachine$Describer", 124, "w64", 142), ("BoardMachine$Describer", 126, "mmu-type", 127), ("BoardMachine$Describer", 128, "three,four", 139), ("BoardMachine$Describer", 130, "interrupt-controller", 119), ("BoardMachine$Describer", 134, "#interrupt-cells", 102), ("BoardMachine$Describer", 139, "whole,lines", 148), ("BoardMachine$Describer", 141, "phandle", 130), ("BoardMachine$Describer", 146, "interrupts-extended", 123), ("BoardMachine$Describer", 160, "interrupts", 122), ("BoardMachine$Describer", 162, "interrupt-parent", 121), ("BoardMachine$Describer", 164, "soc", 135), ("BoardMachine$Describer", 170, "simple-bus", 134), ("BoardMachine$Describer", 172, "ranges", 131), ("BoardMachine$Describer", 174, "end@100000", 118), ("BoardMachine$Describer", 176, "whole,end", 147), ("BoardMachine$Describer", 186, "timer@2000000", 141), ("BoardMachine$Describer", 188, "whole,timer", 150), ("BoardMachine$Describer", 197, "interrupt-controller@c000000", 120), ("BoardMachine$Describer", 199, "whole,controller", 145), ("BoardMachine$Describer", 204, "sources", 136), ("BoardMachine$Describer", 206, "serial@10000000", 133), ("BoardMachine$Describer", 208, "whole,serial", 149), ("BoardMachine$Describer", 213, "block@10001000", 106), ("BoardMachine$Describer", 215, "whole,block", 143), ("BoardMachine$Describer", 223, "whole,board", 144), ("BoardMachine$Describer", 225, "model", 128), ("BoardMachine$Describer", 227, "board", 107), ("BoardMachine$Describer", 229, "chosen", 108), ("BoardMachine$Describer", 231, "stdout-path", 138), ("BoardMachine$Describer", 233, "/soc/serial@10000000", 104), ("BoardMachine$Describer", 235, "cpus", 116), ("BoardMachine$Describer", 237, "timebase-frequency", 140), ("BoardMachine$Describer", 243, "memory@80000000", 126), ("BoardMachine$Describer", 245, "memory", 125), ("BoardMachine$Disks$Naming", 35, "block", 105), ("BoardMachineModel$Tree", 75, "reg", 132), ("BoardMachineModel$Tree", 80, "interrupts-extended", 123), ("BoardMachineModel$Tree", 82, "#address-cells", 101), ("BoardMachineModel$Tree", 88, "#size-cells", 103), ("BoardMachineModel$Tree", 90, "cpu@0", 112), ("BoardMachineModel$Tree", 92, "cpu@1", 113), ("BoardMachineModel$Tree", 94, "cpu@2", 114), ("BoardMachineModel$Tree", 96, "cpu@3", 115), ("BoardMachineModel$Tree", 101, "device_type", 117), ("BoardMachineModel$Tree", 103, "cpu", 110), ("BoardMachineModel$Tree", 109, "status", 137), ("BoardMachineModel$Tree", 111, "okay", 129), ("BoardMachineModel$Tree", 113, "compatible", 109), ("BoardMachineModel$Tree", 115, "whole,core", 146), ("BoardMachineModel$Tree", 117, "isa", 124), ("BoardMachineModel$Tree", 119, "w64", 142), ("BoardMachineModel$Tree", 121, "mmu-type", 127), ("BoardMachineModel$Tree", 123, "three,four", 139), ("BoardMachineModel$Tree", 125, "interrupt-controller", 119), ("BoardMachineModel$Tree", 127, "#interrupt-cells", 102), ("BoardMachineModel$Tree", 132, "whole,lines", 148), ("BoardMachineModel$Tree", 134, "phandle", 130), ("BoardMachineModel$Tree", 139, "end@100000", 118), ("BoardMachineModel$Tree", 141, "whole,end", 147), ("BoardMachineModel$Tree", 151, "timer@2000000", 141), ("BoardMachineModel$Tree", 153, "whole,timer", 150), ("BoardMachineModel$Tree", 163, "interrupt-controller@c000000", 120), ("BoardMachineModel$Tree", 165, "whole,controller", 145), ("BoardMachineModel$Tree", 171, "sources", 136), ("BoardMachineModel$Tree", 175, "serial@10000000", 133), ("BoardMachineModel$Tree", 177, "whole,serial", 149), ("BoardMachineModel$Tree", 183, "interrupts", 122), ("BoardMachineModel$Tree", 187, "interrupt-parent", 121), ("BoardMachineModel$Tree", 189, "block@10001000", 106), ("BoardMachineModel$Tree", 191, "whole,block", 143), ("BoardMachineModel$Tree", 195, "", 100), ("BoardMachineModel$Tree", 201, "whole,board", 144), ("BoardMachineModel$Tree", 203, "model", 128), ("BoardMachineModel$Tree", 205, "board", 107), ("BoardMachineModel$Tree", 207, "chosen", 108), ("BoardMachineModel$Tree", 209, "stdout-path", 138), ("BoardMachineModel$Tree", 211, "/soc/serial@10000000", 104), ("BoardMachineModel$Tree", 213, "cpus", 116), ("BoardMachineModel$Tree", 215, "timebase-frequency", 140), ("BoardMachineModel$Tree", 222, "memory@80000000", 126), ("BoardMachineModel$Tree", 224, "memory", 125), ("BoardMachineModel$Tree", 228, "soc", 135), ("BoardMachineModel$Tree", 230, "simple-bus", 134), ("BoardMachineModel$Tree", 232, "ranges", 131)]
theorem es_21_87 : ("BoardMachine$Describer", 87, "reg", 132) ∈ fk_sr := List.mem_of_getElem? (i := 0) rfl
theorem es_21_93 : ("BoardMachine$Describer", 93, "#address-cells", 101) ∈ fk_sr := List.mem_of_getElem? (i := 1) rfl
theorem es_21_99 : ("BoardMachine$Describer", 99, "#size-cells", 103) ∈ fk_sr := List.mem_of_getElem? (i := 2) rfl
theorem es_21_101 : ("BoardMachine$Describer", 101, "cpu@", 111) ∈ fk_sr := List.mem_of_getElem? (i := 3) rfl
theorem es_21_106 : ("BoardMachine$Describer", 106, "device_type", 117) ∈ fk_sr := List.mem_of_getElem? (i := 4) rfl
theorem es_21_108 : ("BoardMachine$Describer", 108, "cpu", 110) ∈ fk_sr := List.mem_of_getElem? (i := 5) rfl
theorem es_21_114 : ("BoardMachine$Describer", 114, "status", 137) ∈ fk_sr := List.mem_of_getElem? (i := 6) rfl
theorem es_21_116 : ("BoardMachine$Describer", 116, "okay", 129) ∈ fk_sr := List.mem_of_getElem? (i := 7) rfl
theorem es_21_118 : ("BoardMachine$Describer", 118, "compatible", 109) ∈ fk_sr := List.mem_of_getElem? (i := 8) rfl
theorem es_21_120 : ("BoardMachine$Describer", 120, "whole,core", 146) ∈ fk_sr := List.mem_of_getElem? (i := 9) rfl
theorem es_21_122 : ("BoardMachine$Describer", 122, "isa", 124) ∈ fk_sr := List.mem_of_getElem? (i := 10) rfl
theorem es_21_124 : ("BoardMachine$Describer", 124, "w64", 142) ∈ fk_sr := List.mem_of_getElem? (i := 11) rfl
theorem es_21_126 : ("BoardMachine$Describer", 126, "mmu-type", 127) ∈ fk_sr := List.mem_of_getElem? (i := 12) rfl
theorem es_21_128 : ("BoardMachine$Describer", 128, "three,four", 139) ∈ fk_sr := List.mem_of_getElem? (i := 13) rfl
theorem es_21_130 : ("BoardMachine$Describer", 130, "interrupt-controller", 119) ∈ fk_sr := List.mem_of_getElem? (i := 14) rfl
theorem es_21_134 : ("BoardMachine$Describer", 134, "#interrupt-cells", 102) ∈ fk_sr := List.mem_of_getElem? (i := 15) rfl
theorem es_21_139 : ("BoardMachine$Describer", 139, "whole,lines", 148) ∈ fk_sr := List.mem_of_getElem? (i := 16) rfl
theorem es_21_141 : ("BoardMachine$Describer", 141, "phandle", 130) ∈ fk_sr := List.mem_of_getElem? (i := 17) rfl
theorem es_21_146 : ("BoardMachine$Describer", 146, "interrupts-extended", 123) ∈ fk_sr := List.mem_of_getElem? (i := 18) rfl
theorem es_21_160 : ("BoardMachine$Describer", 160, "interrupts", 122) ∈ fk_sr := List.mem_of_getElem? (i := 19) rfl
theorem es_21_162 : ("BoardMachine$Describer", 162, "interrupt-parent", 121) ∈ fk_sr := List.mem_of_getElem? (i := 20) rfl
theorem es_21_164 : ("BoardMachine$Describer", 164, "soc", 135) ∈ fk_sr := List.mem_of_getElem? (i := 21) rfl
theorem es_21_170 : ("BoardMachine$Describer", 170, "simple-bus", 134) ∈ fk_sr := List.mem_of_getElem? (i := 22) rfl
theorem es_21_172 : ("BoardMachine$Describer", 172, "ranges", 131) ∈ fk_sr := List.mem_of_getElem? (i := 23) rfl
theorem es_21_174 : ("BoardMachine$Describer", 174, "end@100000", 118) ∈ fk_sr := List.mem_of_getElem? (i := 24) rfl
theorem es_21_176 : ("BoardMachine$Describer", 176, "whole,end", 147) ∈ fk_sr := List.mem_of_getElem? (i := 25) rfl
theorem es_21_186 : ("BoardMachine$Describer", 186, "timer@2000000", 141) ∈ fk_sr := List.mem_of_getElem? (i := 26) rfl
theorem es_21_188 : ("BoardMachine$Describer", 188, "whole,timer", 150) ∈ fk_sr := List.mem_of_getElem? (i := 27) rfl
theorem es_21_197 : ("BoardMachine$Describer", 197, "interrupt-controller@c000000", 120) ∈ fk_sr := List.mem_of_getElem? (i := 28) rfl
theorem es_21_199 : ("BoardMachine$Describer", 199, "whole,controller", 145) ∈ fk_sr := List.mem_of_getElem? (i := 29) rfl
theorem es_21_204 : ("BoardMachine$Describer", 204, "sources", 136) ∈ fk_sr := List.mem_of_getElem? (i := 30) rfl
theorem es_21_206 : ("BoardMachine$Describer", 206, "serial@10000000", 133) ∈ fk_sr := List.mem_of_getElem? (i := 31) rfl
theorem es_21_208 : ("BoardMachine$Describer", 208, "whole,serial", 149) ∈ fk_sr := List.mem_of_getElem? (i := 32) rfl
theorem es_21_213 : ("BoardMachine$Describer", 213, "block@10001000", 106) ∈ fk_sr := List.mem_of_getElem? (i := 33) rfl
theorem es_21_215 : ("BoardMachine$Describer", 215, "whole,block", 143) ∈ fk_sr := List.mem_of_getElem? (i := 34) rfl
theorem es_21_223 : ("BoardMachine$Describer", 223, "whole,board", 144) ∈ fk_sr := List.mem_of_getElem? (i := 35) rfl
theorem es_21_225 : ("BoardMachine$Describer", 225, "model", 128) ∈ fk_sr := List.mem_of_getElem? (i := 36) rfl
theorem es_21_227 : ("BoardMachine$Describer", 227, "board", 107) ∈ fk_sr := List.mem_of_getElem? (i := 37) rfl
theorem es_21_229 : ("BoardMachine$Describer", 229, "chosen", 108) ∈ fk_sr := List.mem_of_getElem? (i := 38) rfl
theorem es_21_231 : ("BoardMachine$Describer", 231, "stdout-path", 138) ∈ fk_sr := List.mem_of_getElem? (i := 39) rfl
theorem es_21_233 : ("BoardMachine$Describer", 233, "/soc/serial@10000000", 104) ∈ fk_sr := List.mem_of_getElem? (i := 40) rfl
theorem es_21_235 : ("BoardMachine$Describer", 235, "cpus", 116) ∈ fk_sr := List.mem_of_getElem? (i := 41) rfl
theorem es_21_237 : ("BoardMachine$Describer", 237, "timebase-frequency", 140) ∈ fk_sr := List.mem_of_getElem? (i := 42) rfl
theorem es_21_243 : ("BoardMachine$Describer", 243, "memory@80000000", 126) ∈ fk_sr := List.mem_of_getElem? (i := 43) rfl
theorem es_21_245 : ("BoardMachine$Describer", 245, "memory", 125) ∈ fk_sr := List.mem_of_getElem? (i := 44) rfl
theorem es_25_35 : ("BoardMachine$Disks$Naming", 35, "block", 105) ∈ fk_sr := List.mem_of_getElem? (i := 45) rfl
theorem es_100_75 : ("BoardMachineModel$Tree", 75, "reg", 132) ∈ fk_sr := List.mem_of_getElem? (i := 46) rfl
theorem es_100_80 : ("BoardMachineModel$Tree", 80, "interrupts-extended", 123) ∈ fk_sr := List.mem_of_getElem? (i := 47) rfl
theorem es_100_82 : ("BoardMachineModel$Tree", 82, "#address-cells", 101) ∈ fk_sr := List.mem_of_getElem? (i := 48) rfl
theorem es_100_88 : ("BoardMachineModel$Tree", 88, "#size-cells", 103) ∈ fk_sr := List.mem_of_getElem? (i := 49) rfl
theorem es_100_90 : ("BoardMachineModel$Tree", 90, "cpu@0", 112) ∈ fk_sr := List.mem_of_getElem? (i := 50) rfl
theorem es_100_92 : ("BoardMachineModel$Tree", 92, "cpu@1", 113) ∈ fk_sr := List.mem_of_getElem? (i := 51) rfl
theorem es_100_94 : ("BoardMachineModel$Tree", 94, "cpu@2", 114) ∈ fk_sr := List.mem_of_getElem? (i := 52) rfl
theorem es_100_96 : ("BoardMachineModel$Tree", 96, "cpu@3", 115) ∈ fk_sr := List.mem_of_getElem? (i := 53) rfl
theorem es_100_101 : ("BoardMachineModel$Tree", 101, "device_type", 117) ∈ fk_sr := List.mem_of_getElem? (i := 54) rfl
theorem es_100_103 : ("BoardMachineModel$Tree", 103, "cpu", 110) ∈ fk_sr := List.mem_of_getElem? (i := 55) rfl
theorem es_100_109 : ("BoardMachineModel$Tree", 109, "status", 137) ∈ fk_sr := List.mem_of_getElem? (i := 56) rfl
theorem es_100_111 : ("BoardMachineModel$Tree", 111, "okay", 129) ∈ fk_sr := List.mem_of_getElem? (i := 57) rfl
theorem es_100_113 : ("BoardMachineModel$Tree", 113, "compatible", 109) ∈ fk_sr := List.mem_of_getElem? (i := 58) rfl
theorem es_100_115 : ("BoardMachineModel$Tree", 115, "whole,core", 146) ∈ fk_sr := List.mem_of_getElem? (i := 59) rfl
theorem es_100_117 : ("BoardMachineModel$Tree", 117, "isa", 124) ∈ fk_sr := List.mem_of_getElem? (i := 60) rfl
theorem es_100_119 : ("BoardMachineModel$Tree", 119, "w64", 142) ∈ fk_sr := List.mem_of_getElem? (i := 61) rfl
theorem es_100_121 : ("BoardMachineModel$Tree", 121, "mmu-type", 127) ∈ fk_sr := List.mem_of_getElem? (i := 62) rfl
theorem es_100_123 : ("BoardMachineModel$Tree", 123, "three,four", 139) ∈ fk_sr := List.mem_of_getElem? (i := 63) rfl
theorem es_100_125 : ("BoardMachineModel$Tree", 125, "interrupt-controller", 119) ∈ fk_sr := List.mem_of_getElem? (i := 64) rfl
theorem es_100_127 : ("BoardMachineModel$Tree", 127, "#interrupt-cells", 102) ∈ fk_sr := List.mem_of_getElem? (i := 65) rfl
theorem es_100_132 : ("BoardMachineModel$Tree", 132, "whole,lines", 148) ∈ fk_sr := List.mem_of_getElem? (i := 66) rfl
theorem es_100_134 : ("BoardMachineModel$Tree", 134, "phandle", 130) ∈ fk_sr := List.mem_of_getElem? (i := 67) rfl
theorem es_100_139 : ("BoardMachineModel$Tree", 139, "end@100000", 118) ∈ fk_sr := List.mem_of_getElem? (i := 68) rfl
theorem es_100_141 : ("BoardMachineModel$Tree", 141, "whole,end", 147) ∈ fk_sr := List.mem_of_getElem? (i := 69) rfl
theorem es_100_151 : ("BoardMachineModel$Tree", 151, "timer@2000000", 141) ∈ fk_sr := List.mem_of_getElem? (i := 70) rfl
theorem es_100_153 : ("BoardMachineModel$Tree", 153, "whole,timer", 150) ∈ fk_sr := List.mem_of_getElem? (i := 71) rfl
theorem es_100_163 : ("BoardMachineModel$Tree", 163, "interrupt-controller@c000000", 120) ∈ fk_sr := List.mem_of_getElem? (i := 72) rfl
theorem es_100_165 : ("BoardMachineModel$Tree", 165, "whole,controller", 145) ∈ fk_sr := List.mem_of_getElem? (i := 73) rfl
theorem es_100_171 : ("BoardMachineModel$Tree", 171, "sources", 136) ∈ fk_sr := List.mem_of_getElem? (i := 74) rfl
theorem es_100_175 : ("BoardMachineModel$Tree", 175, "serial@10000000", 133) ∈ fk_sr := List.mem_of_getElem? (i := 75) rfl
theorem es_100_177 : ("BoardMachineModel$Tree", 177, "whole,serial", 149) ∈ fk_sr := List.mem_of_getElem? (i := 76) rfl
theorem es_100_183 : ("BoardMachineModel$Tree", 183, "interrupts", 122) ∈ fk_sr := List.mem_of_getElem? (i := 77) rfl
theorem es_100_187 : ("BoardMachineModel$Tree", 187, "interrupt-parent", 121) ∈ fk_sr := List.mem_of_getElem? (i := 78) rfl
theorem es_100_189 : ("BoardMachineModel$Tree", 189, "block@10001000", 106) ∈ fk_sr := List.mem_of_getElem? (i := 79) rfl
theorem es_100_191 : ("BoardMachineModel$Tree", 191, "whole,block", 143) ∈ fk_sr := List.mem_of_getElem? (i := 80) rfl
theorem es_100_195 : ("BoardMachineModel$Tree", 195, "", 100) ∈ fk_sr := List.mem_of_getElem? (i := 81) rfl
theorem es_100_201 : ("BoardMachineModel$Tree", 201, "whole,board", 144) ∈ fk_sr := List.mem_of_getElem? (i := 82) rfl
theorem es_100_203 : ("BoardMachineModel$Tree", 203, "model", 128) ∈ fk_sr := List.mem_of_getElem? (i := 83) rfl
theorem es_100_205 : ("BoardMachineModel$Tree", 205, "board", 107) ∈ fk_sr := List.mem_of_getElem? (i := 84) rfl
theorem es_100_207 : ("BoardMachineModel$Tree", 207, "chosen", 108) ∈ fk_sr := List.mem_of_getElem? (i := 85) rfl
theorem es_100_209 : ("BoardMachineModel$Tree", 209, "stdout-path", 138) ∈ fk_sr := List.mem_of_getElem? (i := 86) rfl
theorem es_100_211 : ("BoardMachineModel$Tree", 211, "/soc/serial@10000000", 104) ∈ fk_sr := List.mem_of_getElem? (i := 87) rfl
theorem es_100_213 : ("BoardMachineModel$Tree", 213, "cpus", 116) ∈ fk_sr := List.mem_of_getElem? (i := 88) rfl
theorem es_100_215 : ("BoardMachineModel$Tree", 215, "timebase-frequency", 140) ∈ fk_sr := List.mem_of_getElem? (i := 89) rfl
theorem es_100_222 : ("BoardMachineModel$Tree", 222, "memory@80000000", 126) ∈ fk_sr := List.mem_of_getElem? (i := 90) rfl
theorem es_100_224 : ("BoardMachineModel$Tree", 224, "memory", 125) ∈ fk_sr := List.mem_of_getElem? (i := 91) rfl
theorem es_100_228 : ("BoardMachineModel$Tree", 228, "soc", 135) ∈ fk_sr := List.mem_of_getElem? (i := 92) rfl
theorem es_100_230 : ("BoardMachineModel$Tree", 230, "simple-bus", 134) ∈ fk_sr := List.mem_of_getElem? (i := 93) rfl
theorem es_100_232 : ("BoardMachineModel$Tree", 232, "ranges", 131) ∈ fk_sr := List.mem_of_getElem? (i := 94) rfl
/-- what is known all through: the tables' words at the start, the classes, the constants of enums -/
def fk (s0 : State) (H0 : Heap) (oa : Nat → Nat) (D : va_G) : Prop := (∃ A : Array Value, ∀ w ∈ lw_tbl, w.before A s0 = true) ∧ fs_good (fk_E s0 H0 oa D) ∧ (∀ q ∈ fk_st, va_Z q.2.1 q.2.2.1 q.2.2.2 (.ref (fs_ra (fk_E s0 H0 oa D) q.1)) (fun a => H0.size ≤ a) s0 H0) ∧ (∀ q ∈ fk_sr, vk_R q.1 q.2.1 q.2.2.1 (fs_ra (fk_E s0 H0 oa D) q.2.2.2) s0) ∧ va_Z "java/lang/String" "COMPACT_STRINGS" "Z" (.int (Int32.ofInt 1)) (fun a => H0.size ≤ a) s0 H0 ∧
  (∃ k, (k = 0 ∨ k = 60) ∧ va_Z "jdk/internal/util/Preconditions" "SIOOBE_FORMATTER" "Ljava/util/function/BiFunction;" (fs_rv (fk_E s0 H0 oa D) k) (fun a => H0.size ≤ a) s0 H0) ∧
  fs_vs (fk_E s0 H0 oa D) "BoardMachine$Floats$Mode" "[LBoardMachine$Floats$Mode;" 5 1 ∧ fs_vs (fk_E s0 H0 oa D) "BoardMachine$Floats$Whole" "[LBoardMachine$Floats$Whole;" 4 11 ∧ fs_vs (fk_E s0 H0 oa D) "BoardMachine$Window" "[LBoardMachine$Window;" 5 37
section Fk
variable {s0 : State} {H0 : Heap} {oa : Nat → Nat} {D : va_G} {s : State} {args : Array Value}
theorem kw (K : fk s0 H0 oa D) (hw : s0.WarmedH s.vm) {w : Cond} (q : w ∈ lw_all) : w.before args s = true := by
  obtain ⟨⟨A, hA⟩, -⟩ := K
  exact word_at hw (lw_self w q).2 (hA w (lw_all_tbl q))
theorem kF (K : fk s0 H0 oa D) (hw : s0.WarmedH s.vm) {a : String} {i : Nat} {b n d h : String} (q : Cond.fieldLinkNest a i b n d h ∈ lw_tbl) : (Cond.fieldLinkNest a i b n d h).before args s = true := by
  obtain ⟨⟨A, hA⟩, -⟩ := K
  exact va_Nw.use rfl (va_Nw.warmF hw (va_Nw.of rfl (hA _ q)))
theorem kM (K : fk s0 H0 oa D) (hw : s0.WarmedH s.vm) {a : String} {i : Nat} {x : MethodName} {h : String} (q : Cond.methodLinkNest a i x h ∈ lw_tbl) : (Cond.methodLinkNest a i x h).before args s = true := by
  obtain ⟨⟨A, hA⟩, -⟩ := K
  exact va_Nw.use rfl (va_Nw.warmM hw (va_Nw.of rfl (hA _ q)))
theorem kC (K : fk s0 H0 oa D) (hw : s0.WarmedH s.vm) {C T : String} (q : Cond.castable C T ∈ lw_tbl) : (Cond.castable C T).before args s = true := by
  obtain ⟨⟨A, hA⟩, -⟩ := K
  exact va_Nw.use rfl (va_Nw.warmC hw (va_Nw.of rfl (hA _ q)))
theorem kD (K : fk s0 H0 oa D) (hw : s0.WarmedH s.vm) {x : MethodName} (q : Cond.declares x ∈ lw_tbl) : va_Nw (.declares x) s := by
  obtain ⟨⟨A, hA⟩, -⟩ := K
  exact va_Nw.warmD hw (va_Nw.of rfl (hA _ q))
theorem kO (K : fk s0 H0 oa D) (hw : s0.WarmedH s.vm) {C : String} (q : Cond.arrayOver (.object C) ∈ lw_tbl) : (Cond.arrayOver (.object C)).before args s = true := by
  obtain ⟨⟨A, hA⟩, -⟩ := K
  exact va_AO.use (va_AO.moved hw.alike (va_AO.of (hA _ q)))
theorem kAA (K : fk s0 H0 oa D) (hw : s0.WarmedH s.vm) (q : Cond.arrayOver (.array .int) ∈ lw_tbl) : fs_AA s := by
  obtain ⟨⟨A, hA⟩, -⟩ := K
  have h : fs_AA s0 := hA _ q
  exact fs_AA_moved hw.alike h
theorem kFw (K : fk s0 H0 oa D) (hw : s0.WarmedH s.vm) {C : String} {x y : MethodName} (hx : x.cls ≠ "java/lang/invoke/MethodHandle" ∧ x.cls ≠ "java/lang/invoke/VarHandle") (h1 : Cond.declares x ∈ lw_tbl) (h2 : Cond.interfaceMethod x.cls x.cls x.name x.desc ∈ lw_tbl) (h3 : Cond.publicMethod y ∈ lw_tbl) (h4 : Cond.unhidden C x.name x.desc ∈ lw_tbl) (h5 : Cond.castable C x.cls ∈ lw_tbl) :
    (Cond.declares x).before args s = true ∧ (Cond.interfaceMethod x.cls x.cls x.name x.desc).before args s = true ∧ (Cond.publicMethod y).before args s = true ∧ (Cond.unhidden C x.name x.desc).before args s = true ∧ (Cond.castable C x.cls).before args s = true := by
  obtain ⟨⟨A, hA⟩, -⟩ := K
  obtain ⟨g1, g2, g3, g4, g5⟩ := (va_Fw.of (hA _ h1) (hA _ h2) (hA _ h3) (hA _ h4) (hA _ h5) : va_Fw C x y s0).moved hx hw.alike
  exact ⟨va_Nw.use rfl g1, va_Nw.use rfl g2, va_Nw.use rfl g3, va_Nw.use rfl g4, va_Nw.use rfl g5⟩
theorem fs_one {P : Nat → Prop} {t0 : Nat} (h : P t0) : ∀ t, t0 ≤ t → t ≤ t0 → P t := fun t h1 h2 => by
  obtain rfl : t = t0 := by omega
  exact h
theorem fs_rc {P : Nat → Prop} {lo hi : Nat} (h : P lo) (ht : ∀ t, lo + 1 ≤ t → t ≤ hi → P t) : ∀ t, lo ≤ t → t ≤ hi → P t := fun t h1 h2 => by
  rcases Nat.eq_or_lt_of_le h1 with e | e
  · rw [← e]; exact h
  · exact ht t e h2
theorem fk_hwr : ∀ t, 901 ≤ t → t < 905 → (fk_E s0 H0 oa D).2.2.2.2.2.2.2 t = true := fun t h1 h2 => by
  obtain rfl | rfl | rfl | rfl : t = 901 ∨ t = 902 ∨ t = 903 ∨ t = 904 := by omega
  all_goals rfl
theorem kZ (K : fk s0 H0 oa D) (k : Nat) {CC n d : String} (h : (k, CC, n, d) ∈ fk_st) : va_Z CC n d (.ref (fs_ra (fk_E s0 H0 oa D) k)) (fun a => (fk_E s0 H0 oa D).2.1.size ≤ a) (fk_E s0 H0 oa D).1 (fk_E s0 H0 oa D).2.1 := K.2.2.1 _ h
theorem kS (K : fk s0 H0 oa D) {own tx : String} {idx c : Nat} (h : (own, idx, tx, c) ∈ fk_sr) : vk_R own idx tx (fs_ra (fk_E s0 H0 oa D) c) (fk_E s0 H0 oa D).1 := K.2.2.2.1 _ h
end Fk
