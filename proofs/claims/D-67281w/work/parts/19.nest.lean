/-- the words of nest mates: they ride in the contracts -/
def so_nest : List Cond := [Jvm.Cond.methodLinkNest "ModuleGate" (15 : Nat) ({ cls := "ModuleGate$Program", name := "<init>", desc := "()V" } : Jvm.MethodName) "ModuleGate",
  Jvm.Cond.fieldLinkNest "ModuleGate" (48 : Nat) "ModuleGate$Program" "tokens" "I" "ModuleGate",
  Jvm.Cond.fieldLinkNest "ModuleGate" (76 : Nat) "ModuleGate$Program" "requests" "I" "ModuleGate",
  Jvm.Cond.fieldLinkNest "ModuleGate" (82 : Nat) "ModuleGate$Program" "out" "[I" "ModuleGate",
  Jvm.Cond.fieldLinkNest "ModuleGate" (79 : Nat) "ModuleGate$Program" "outs" "I" "ModuleGate",
  Jvm.Cond.methodLinkNest "ModuleGate" (22 : Nat) ({ cls := "ModuleGate$Reader", name := "<init>", desc := "()V" } : Jvm.MethodName) "ModuleGate",
  Jvm.Cond.fieldLinkNest "ModuleGate" (55 : Nat) "ModuleGate$Reader" "kind" "[I" "ModuleGate",
  Jvm.Cond.fieldLinkNest "ModuleGate" (51 : Nat) "ModuleGate$Reader" "from" "[I" "ModuleGate",
  Jvm.Cond.fieldLinkNest "ModuleGate" (58 : Nat) "ModuleGate$Reader" "flag" "[I" "ModuleGate",
  Jvm.Cond.fieldLinkNest "ModuleGate" (70 : Nat) "ModuleGate$Reader" "first" "[I" "ModuleGate",
  Jvm.Cond.fieldLinkNest "ModuleGate" (73 : Nat) "ModuleGate$Reader" "after" "[I" "ModuleGate",
  Jvm.Cond.fieldLinkNest "ModuleGate" (61 : Nat) "ModuleGate$Reader" "functions" "I" "ModuleGate",
  Jvm.Cond.fieldLinkNest "ModuleGate" (64 : Nat) "ModuleGate$Reader" "fKind" "[I" "ModuleGate",
  Jvm.Cond.fieldLinkNest "ModuleGate" (67 : Nat) "ModuleGate$Reader" "classesSeen" "I" "ModuleGate",
  Jvm.Cond.methodLinkNest "ModuleGate" (27 : Nat) ({ cls := "ModuleGate$Program", name := "clear", desc := "()V" } : Jvm.MethodName) "ModuleGate",
  Jvm.Cond.methodLinkNest "ModuleGate" (37 : Nat) ({ cls := "ModuleGate$Reader", name := "read", desc := "(LModuleGate$Program;[BI)Z" } : Jvm.MethodName) "ModuleGate",
  Jvm.Cond.fieldLinkNest "ModuleGate$Reader" (666 : Nat) "ModuleGate$Program" "tokens" "I" "ModuleGate",
  Jvm.Cond.fieldLinkNest "ModuleGate$Reader" (216 : Nat) "ModuleGate$Program" "units" "[C" "ModuleGate",
  Jvm.Cond.fieldLinkNest "ModuleGate$Reader" (159 : Nat) "ModuleGate$Program" "unitCount" "I" "ModuleGate",
  Jvm.Cond.fieldLinkNest "ModuleGate$Reader" (614 : Nat) "ModuleGate$Program" "request" "[I" "ModuleGate",
  Jvm.Cond.fieldLinkNest "ModuleGate$Reader" (611 : Nat) "ModuleGate$Program" "requests" "I" "ModuleGate",
  Jvm.Cond.fieldLinkNest "ModuleGate$Reader" (622 : Nat) "ModuleGate$Program" "in" "[I" "ModuleGate",
  Jvm.Cond.fieldLinkNest "ModuleGate$Reader" (625 : Nat) "ModuleGate$Program" "ins" "I" "ModuleGate",
  Jvm.Cond.fieldLinkNest "ModuleGate$Reader" (640 : Nat) "ModuleGate$Program" "out" "[I" "ModuleGate",
  Jvm.Cond.fieldLinkNest "ModuleGate$Reader" (637 : Nat) "ModuleGate$Program" "outs" "I" "ModuleGate",
  Jvm.Cond.methodLinkNest "ModuleGate$Reader" (652 : Nat) ({ cls := "ModuleGate$Program", name := "clear", desc := "()V" } : Jvm.MethodName) "ModuleGate",
  Jvm.Cond.methodLinkNest "ModuleGate$Reader" (175 : Nat) ({ cls := "ModuleGate$Program", name := "text", desc := "(I)I" } : Jvm.MethodName) "ModuleGate",
  Jvm.Cond.methodLinkNest "ModuleGate$Reader" (171 : Nat) ({ cls := "ModuleGate$Program", name := "unit", desc := "(I)V" } : Jvm.MethodName) "ModuleGate",
  Jvm.Cond.methodLinkNest "ModuleGate$Reader" (224 : Nat) ({ cls := "ModuleGate$Program", name := "constant", desc := "(IIIJ)I" } : Jvm.MethodName) "ModuleGate",
  Jvm.Cond.methodLinkNest "ModuleGate$Reader" (617 : Nat) ({ cls := "ModuleGate$Program", name := "grown", desc := "([II)[I" } : Jvm.MethodName) "ModuleGate",
  Jvm.Cond.methodLinkNest "ModuleGate$Reader" (511 : Nat) ({ cls := "ModuleGate$Program", name := "isText", desc := "(ILjava/lang/String;)Z" } : Jvm.MethodName) "ModuleGate"]
theorem so_nest_tbl : ∀ w ∈ so_nest, w ∈ lw_tbl := List.forall_mem_cons.mpr ⟨q265, List.forall_mem_cons.mpr ⟨q270, List.forall_mem_cons.mpr ⟨q290, List.forall_mem_cons.mpr ⟨q297, List.forall_mem_cons.mpr ⟨q300, List.forall_mem_cons.mpr ⟨q356, List.forall_mem_cons.mpr ⟨q365, List.forall_mem_cons.mpr ⟨q369, List.forall_mem_cons.mpr ⟨q371, List.forall_mem_cons.mpr ⟨q392, List.forall_mem_cons.mpr ⟨q399, List.forall_mem_cons.mpr ⟨q401, List.forall_mem_cons.mpr ⟨q404, List.forall_mem_cons.mpr ⟨q426, List.forall_mem_cons.mpr ⟨q585, List.forall_mem_cons.mpr ⟨q720, List.forall_mem_cons.mpr ⟨q271, List.forall_mem_cons.mpr ⟨q275, List.forall_mem_cons.mpr ⟨q277, List.forall_mem_cons.mpr ⟨q288, List.forall_mem_cons.mpr ⟨q291, List.forall_mem_cons.mpr ⟨q293, List.forall_mem_cons.mpr ⟨q295, List.forall_mem_cons.mpr ⟨q298, List.forall_mem_cons.mpr ⟨q301, List.forall_mem_cons.mpr ⟨q724, List.forall_mem_cons.mpr ⟨q774, List.forall_mem_cons.mpr ⟨q806, List.forall_mem_cons.mpr ⟨q851, List.forall_mem_cons.mpr ⟨q895, List.forall_mem_cons.mpr ⟨q1073, (fun _ h => nomatch h)⟩⟩⟩⟩⟩⟩⟩⟩⟩⟩⟩⟩⟩⟩⟩⟩⟩⟩⟩⟩⟩⟩⟩⟩⟩⟩⟩⟩⟩⟩⟩
theorem so_nest_warm {s U : State} (hW : s.WarmedH U.vm) : ∀ w ∈ so_nest, va_Nw w s → va_Nw w U := List.forall_mem_cons.mpr ⟨va_Nw.warmM hW, List.forall_mem_cons.mpr ⟨va_Nw.warmF hW, List.forall_mem_cons.mpr ⟨va_Nw.warmF hW, List.forall_mem_cons.mpr ⟨va_Nw.warmF hW, List.forall_mem_cons.mpr ⟨va_Nw.warmF hW, List.forall_mem_cons.mpr ⟨va_Nw.warmM hW, List.forall_mem_cons.mpr ⟨va_Nw.warmF hW, List.forall_mem_cons.mpr ⟨va_Nw.warmF hW, List.forall_mem_cons.mpr ⟨va_Nw.warmF hW, List.forall_mem_cons.mpr ⟨va_Nw.warmF hW, List.forall_mem_cons.mpr ⟨va_Nw.warmF hW, List.forall_mem_cons.mpr ⟨va_Nw.warmF hW, List.forall_mem_cons.mpr ⟨va_Nw.warmF hW, List.forall_mem_cons.mpr ⟨va_Nw.warmF hW, List.forall_mem_cons.mpr ⟨va_Nw.warmM hW, List.forall_mem_cons.mpr ⟨va_Nw.warmM hW, List.forall_mem_cons.mpr ⟨va_Nw.warmF hW, List.forall_mem_cons.mpr ⟨va_Nw.warmF hW, List.forall_mem_cons.mpr ⟨va_Nw.warmF hW, List.forall_mem_cons.mpr ⟨va_Nw.warmF hW, List.forall_mem_cons.mpr ⟨va_Nw.warmF hW, List.forall_mem_cons.mpr ⟨va_Nw.warmF hW, List.forall_mem_cons.mpr ⟨va_Nw.warmF hW, List.forall_mem_cons.mpr ⟨va_Nw.warmF hW, List.forall_mem_cons.mpr ⟨va_Nw.warmF hW, List.forall_mem_cons.mpr ⟨va_Nw.warmM hW, List.forall_mem_cons.mpr ⟨va_Nw.warmM hW, List.forall_mem_cons.mpr ⟨va_Nw.warmM hW, List.forall_mem_cons.mpr ⟨va_Nw.warmM hW, List.forall_mem_cons.mpr ⟨va_Nw.warmM hW, List.forall_mem_cons.mpr ⟨va_Nw.warmM hW, (fun _ h => nomatch h)⟩⟩⟩⟩⟩⟩⟩⟩⟩⟩⟩⟩⟩⟩⟩⟩⟩⟩⟩⟩⟩⟩⟩⟩⟩⟩⟩⟩⟩⟩⟩
theorem so_nest_tabs : ∀ w ∈ so_nest, w.onTables = true := List.forall_mem_cons.mpr ⟨rfl, List.forall_mem_cons.mpr ⟨rfl, List.forall_mem_cons.mpr ⟨rfl, List.forall_mem_cons.mpr ⟨rfl, List.forall_mem_cons.mpr ⟨rfl, List.forall_mem_cons.mpr ⟨rfl, List.forall_mem_cons.mpr ⟨rfl, List.forall_mem_cons.mpr ⟨rfl, List.forall_mem_cons.mpr ⟨rfl, List.forall_mem_cons.mpr ⟨rfl, List.forall_mem_cons.mpr ⟨rfl, List.forall_mem_cons.mpr ⟨rfl, List.forall_mem_cons.mpr ⟨rfl, List.forall_mem_cons.mpr ⟨rfl, List.forall_mem_cons.mpr ⟨rfl, List.forall_mem_cons.mpr ⟨rfl, List.forall_mem_cons.mpr ⟨rfl, List.forall_mem_cons.mpr ⟨rfl, List.forall_mem_cons.mpr ⟨rfl, List.forall_mem_cons.mpr ⟨rfl, List.forall_mem_cons.mpr ⟨rfl, List.forall_mem_cons.mpr ⟨rfl, List.forall_mem_cons.mpr ⟨rfl, List.forall_mem_cons.mpr ⟨rfl, List.forall_mem_cons.mpr ⟨rfl, List.forall_mem_cons.mpr ⟨rfl, List.forall_mem_cons.mpr ⟨rfl, List.forall_mem_cons.mpr ⟨rfl, List.forall_mem_cons.mpr ⟨rfl, List.forall_mem_cons.mpr ⟨rfl, List.forall_mem_cons.mpr ⟨rfl, (fun _ h => nomatch h)⟩⟩⟩⟩⟩⟩⟩⟩⟩⟩⟩⟩⟩⟩⟩⟩⟩⟩⟩⟩⟩⟩⟩⟩⟩⟩⟩⟩⟩⟩⟩
theorem qn_q265 : (Jvm.Cond.methodLinkNest "ModuleGate" (15 : Nat) ({ cls := "ModuleGate$Program", name := "<init>", desc := "()V" } : Jvm.MethodName) "ModuleGate") ∈ so_nest := List.mem_of_getElem? (i := 0) rfl
theorem qn_q270 : (Jvm.Cond.fieldLinkNest "ModuleGate" (48 : Nat) "ModuleGate$Program" "tokens" "I" "ModuleGate") ∈ so_nest := List.mem_of_getElem? (i := 1) rfl
theorem qn_q290 : (Jvm.Cond.fieldLinkNest "ModuleGate" (76 : Nat) "ModuleGate$Program" "requests" "I" "ModuleGate") ∈ so_nest := List.mem_of_getElem? (i := 2) rfl
theorem qn_q297 : (Jvm.Cond.fieldLinkNest "ModuleGate" (82 : Nat) "ModuleGate$Program" "out" "[I" "ModuleGate") ∈ so_nest := List.mem_of_getElem? (i := 3) rfl
theorem qn_q300 : (Jvm.Cond.fieldLinkNest "ModuleGate" (79 : Nat) "ModuleGate$Program" "outs" "I" "ModuleGate") ∈ so_nest := List.mem_of_getElem? (i := 4) rfl
theorem qn_q356 : (Jvm.Cond.methodLinkNest "ModuleGate" (22 : Nat) ({ cls := "ModuleGate$Reader", name := "<init>", desc := "()V" } : Jvm.MethodName) "ModuleGate") ∈ so_nest := List.mem_of_getElem? (i := 5) rfl
theorem qn_q365 : (Jvm.Cond.fieldLinkNest "ModuleGate" (55 : Nat) "ModuleGate$Reader" "kind" "[I" "ModuleGate") ∈ so_nest := List.mem_of_getElem? (i := 6) rfl
theorem qn_q369 : (Jvm.Cond.fieldLinkNest "ModuleGate" (51 : Nat) "ModuleGate$Reader" "from" "[I" "ModuleGate") ∈ so_nest := List.mem_of_getElem? (i := 7) rfl
theorem qn_q371 : (Jvm.Cond.fieldLinkNest "ModuleGate" (58 : Nat) "ModuleGate$Reader" "flag" "[I" "ModuleGate") ∈ so_nest := List.mem_of_getElem? (i := 8) rfl
theorem qn_q392 : (Jvm.Cond.fieldLinkNest "ModuleGate" (70 : Nat) "ModuleGate$Reader" "first" "[I" "ModuleGate") ∈ so_nest := List.mem_of_getElem? (i := 9) rfl
theorem qn_q399 : (Jvm.Cond.fieldLinkNest "ModuleGate" (73 : Nat) "ModuleGate$Reader" "after" "[I" "ModuleGate") ∈ so_nest := List.mem_of_getElem? (i := 10) rfl
theorem qn_q401 : (Jvm.Cond.fieldLinkNest "ModuleGate" (61 : Nat) "ModuleGate$Reader" "functions" "I" "ModuleGate") ∈ so_nest := List.mem_of_getElem? (i := 11) rfl
theorem qn_q404 : (Jvm.Cond.fieldLinkNest "ModuleGate" (64 : Nat) "ModuleGate$Reader" "fKind" "[I" "ModuleGate") ∈ so_nest := List.mem_of_getElem? (i := 12) rfl
theorem qn_q426 : (Jvm.Cond.fieldLinkNest "ModuleGate" (67 : Nat) "ModuleGate$Reader" "classesSeen" "I" "ModuleGate") ∈ so_nest := List.mem_of_getElem? (i := 13) rfl
theorem qn_q585 : (Jvm.Cond.methodLinkNest "ModuleGate" (27 : Nat) ({ cls := "ModuleGate$Program", name := "clear", desc := "()V" } : Jvm.MethodName) "ModuleGate") ∈ so_nest := List.mem_of_getElem? (i := 14) rfl
theorem qn_q720 : (Jvm.Cond.methodLinkNest "ModuleGate" (37 : Nat) ({ cls := "ModuleGate$Reader", name := "read", desc := "(LModuleGate$Program;[BI)Z" } : Jvm.MethodName) "ModuleGate") ∈ so_nest := List.mem_of_getElem? (i := 15) rfl
theorem qn_q271 : (Jvm.Cond.fieldLinkNest "ModuleGate$Reader" (666 : Nat) "ModuleGate$Program" "tokens" "I" "ModuleGate") ∈ so_nest := List.mem_of_getElem? (i := 16) rfl
theorem qn_q275 : (Jvm.Cond.fieldLinkNest "ModuleGate$Reader" (216 : Nat) "ModuleGate$Program" "units" "[C" "ModuleGate") ∈ so_nest := List.mem_of_getElem? (i := 17) rfl
theorem qn_q277 : (Jvm.Cond.fieldLinkNest "ModuleGate$Reader" (159 : Nat) "ModuleGate$Program" "unitCount" "I" "ModuleGate") ∈ so_nest := List.mem_of_getElem? (i := 18) rfl
theorem qn_q288 : (Jvm.Cond.fieldLinkNest "ModuleGate$Reader" (614 : Nat) "ModuleGate$Program" "request" "[I" "ModuleGate") ∈ so_nest := List.mem_of_getElem? (i := 19) rfl
theorem qn_q291 : (Jvm.Cond.fieldLinkNest "ModuleGate$Reader" (611 : Nat) "ModuleGate$Program" "requests" "I" "ModuleGate") ∈ so_nest := List.mem_of_getElem? (i := 20) rfl
theorem qn_q293 : (Jvm.Cond.fieldLinkNest "ModuleGate$Reader" (622 : Nat) "ModuleGate$Program" "in" "[I" "ModuleGate") ∈ so_nest := List.mem_of_getElem? (i := 21) rfl
theorem qn_q295 : (Jvm.Cond.fieldLinkNest "ModuleGate$Reader" (625 : Nat) "ModuleGate$Program" "ins" "I" "ModuleGate") ∈ so_nest := List.mem_of_getElem? (i := 22) rfl
theorem qn_q298 : (Jvm.Cond.fieldLinkNest "ModuleGate$Reader" (640 : Nat) "ModuleGate$Program" "out" "[I" "ModuleGate") ∈ so_nest := List.mem_of_getElem? (i := 23) rfl
theorem qn_q301 : (Jvm.Cond.fieldLinkNest "ModuleGate$Reader" (637 : Nat) "ModuleGate$Program" "outs" "I" "ModuleGate") ∈ so_nest := List.mem_of_getElem? (i := 24) rfl
theorem qn_q724 : (Jvm.Cond.methodLinkNest "ModuleGate$Reader" (652 : Nat) ({ cls := "ModuleGate$Program", name := "clear", desc := "()V" } : Jvm.MethodName) "ModuleGate") ∈ so_nest := List.mem_of_getElem? (i := 25) rfl
theorem qn_q774 : (Jvm.Cond.methodLinkNest "ModuleGate$Reader" (175 : Nat) ({ cls := "ModuleGate$Program", name := "text", desc := "(I)I" } : Jvm.MethodName) "ModuleGate") ∈ so_nest := List.mem_of_getElem? (i := 26) rfl
theorem qn_q806 : (Jvm.Cond.methodLinkNest "ModuleGate$Reader" (171 : Nat) ({ cls := "ModuleGate$Program", name := "unit", desc := "(I)V" } : Jvm.MethodName) "ModuleGate") ∈ so_nest := List.mem_of_getElem? (i := 27) rfl
theorem qn_q851 : (Jvm.Cond.methodLinkNest "ModuleGate$Reader" (224 : Nat) ({ cls := "ModuleGate$Program", name := "constant", desc := "(IIIJ)I" } : Jvm.MethodName) "ModuleGate") ∈ so_nest := List.mem_of_getElem? (i := 28) rfl
theorem qn_q895 : (Jvm.Cond.methodLinkNest "ModuleGate$Reader" (617 : Nat) ({ cls := "ModuleGate$Program", name := "grown", desc := "([II)[I" } : Jvm.MethodName) "ModuleGate") ∈ so_nest := List.mem_of_getElem? (i := 29) rfl
theorem qn_q1073 : (Jvm.Cond.methodLinkNest "ModuleGate$Reader" (511 : Nat) ({ cls := "ModuleGate$Program", name := "isText", desc := "(ILjava/lang/String;)Z" } : Jvm.MethodName) "ModuleGate") ∈ so_nest := List.mem_of_getElem? (i := 30) rfl
/-- the String constants of the code: class, index, text, its number -/
def so_str : List (String × Nat × String × Nat) := [("ModuleGate$Reader", 655, "await break case catch class const continue debugger default delete do else enum export extends false finally for function if import in instanceof new null return super switch this throw true try typeof var void while with yield let static implements interface package private protected public as async from get of set target constructor prototype arguments eval use_strict default_name * get_ ", 0),
  ("ModuleGate$Reader", 195, "{ } ( ) [ ] . ... ; , < > <= >= == != === !== + - * / % ** ++ -- << >> >>> & | ^ ! ~ && || ?? ? ?. : = += -= *= /= %= **= <<= >>= >>>= &= |= ^= &&= ||= ??= => ", 1),
  ("ModuleGate$Reader", 509, "use strict", 2),
  ("ModuleGateModel", 236, "{}()[];,<>+-*/%&|^!~?:=.", 3),
  ("ModuleGateModel", 769, "default", 4),
  ("ModuleGateModel", 889, "*default*", 5),
  ("ModuleGateModel", 561, "import", 6),
  ("ModuleGateModel", 325, ";", 7),
  ("ModuleGateModel", 327, "}", 8),
  ("ModuleGateModel", 313, " await break case catch class const continue debugger default delete do else enum export extends false finally for function if import in instanceof new null return super switch this throw true try typeof var void while with yield let static implements interface package private protected public ", 9),
  ("ModuleGateModel", 321, "eval", 10),
  ("ModuleGateModel", 323, "arguments", 11),
  ("ModuleGateModel", 349, ",", 12),
  ("ModuleGateModel", 430, "*", 13),
  ("ModuleGateModel", 807, "as", 14),
  ("ModuleGateModel", 336, "{", 15),
  ("ModuleGateModel", 812, "from", 16),
  ("ModuleGateModel", 793, "export", 17),
  ("ModuleGateModel", 572, "function", 18),
  ("ModuleGateModel", 373, "async", 19),
  ("ModuleGateModel", 329, "(", 20),
  ("ModuleGateModel", 338, ")", 21),
  ("ModuleGateModel", 563, "...", 22),
  ("ModuleGateModel", 334, "[", 23),
  ("ModuleGateModel", 340, "]", 24),
  ("ModuleGateModel", 383, "=", 25),
  ("ModuleGateModel", 531, "new", 26),
  ("ModuleGateModel", 533, ".", 27),
  ("ModuleGateModel", 535, "super", 28),
  ("ModuleGateModel", 365, "yield", 29),
  ("ModuleGateModel", 432, ":", 30),
  ("ModuleGateModel", 434, "in", 31),
  ("ModuleGateModel", 357, "=>", 32),
  ("ModuleGateModel", 694, "let", 33),
  ("ModuleGateModel", 696, "const", 34),
  ("ModuleGateModel", 716, "var", 35),
  ("ModuleGateModel", 577, "class", 36),
  ("ModuleGateModel", 582, "extends", 37),
  ("ModuleGateModel", 677, "static", 38),
  ("ModuleGateModel", 626, "get", 39),
  ("ModuleGateModel", 628, "set", 40),
  ("ModuleGateModel", 685, "#constructor", 41),
  ("ModuleGateModel", 687, "constructor", 42),
  ("ModuleGateModel", 689, "prototype", 43),
  ("ModuleGateModel", 721, "if", 44),
  ("ModuleGateModel", 726, "else", 45),
  ("ModuleGateModel", 728, "for", 46),
  ("ModuleGateModel", 773, "of", 47),
  ("ModuleGateModel", 733, "while", 48),
  ("ModuleGateModel", 738, "do", 49),
  ("ModuleGateModel", 740, "continue", 50),
  ("ModuleGateModel", 742, "break", 51),
  ("ModuleGateModel", 747, "return", 52),
  ("ModuleGateModel", 749, "throw", 53),
  ("ModuleGateModel", 751, "try", 54),
  ("ModuleGateModel", 765, "catch", 55),
  ("ModuleGateModel", 767, "finally", 56),
  ("ModuleGateModel", 756, "switch", 57),
  ("ModuleGateModel", 771, "case", 58),
  ("ModuleGateModel", 760, "debugger", 59),
  ("ModuleGateModel", 524, "++", 60),
  ("ModuleGateModel", 526, "--", 61),
  ("ModuleGateModel", 506, "!", 62),
  ("ModuleGateModel", 504, "~", 63),
  ("ModuleGateModel", 453, "instanceof", 64),
  ("ModuleGateModel", 666, "use strict", 2),
  ("ModuleGateModel", 483, "+", 65),
  ("ModuleGateModel", 485, "-", 66),
  ("ModuleGateModel", 508, "delete", 67),
  ("ModuleGateModel", 510, "void", 68),
  ("ModuleGateModel", 512, "typeof", 69),
  ("ModuleGateModel", 514, "await", 70),
  ("ModuleGateModel", 519, "**", 71),
  ("ModuleGateModel", 455, "|", 72),
  ("ModuleGateModel", 457, "^", 73),
  ("ModuleGateModel", 459, "&", 74),
  ("ModuleGateModel", 461, "==", 75),
  ("ModuleGateModel", 463, "!=", 76),
  ("ModuleGateModel", 465, "===", 77),
  ("ModuleGateModel", 467, "!==", 78),
  ("ModuleGateModel", 469, "<", 79),
  ("ModuleGateModel", 471, ">", 80),
  ("ModuleGateModel", 473, "<=", 81),
  ("ModuleGateModel", 475, ">=", 82),
  ("ModuleGateModel", 477, "<<", 83),
  ("ModuleGateModel", 479, ">>", 84),
  ("ModuleGateModel", 481, ">>>", 85),
  ("ModuleGateModel", 487, "/", 86),
  ("ModuleGateModel", 489, "%", 87),
  ("ModuleGateModel", 444, "??", 88),
  ("ModuleGateModel", 446, "||", 89),
  ("ModuleGateModel", 448, "&&", 90),
  ("ModuleGateModel", 439, "?", 91),
  ("ModuleGateModel", 394, "+=", 92),
  ("ModuleGateModel", 396, "-=", 93),
  ("ModuleGateModel", 398, "*=", 94),
  ("ModuleGateModel", 400, "/=", 95),
  ("ModuleGateModel", 402, "%=", 96),
  ("ModuleGateModel", 404, "**=", 97),
  ("ModuleGateModel", 406, "<<=", 98),
  ("ModuleGateModel", 408, ">>=", 99),
  ("ModuleGateModel", 410, ">>>=", 100),
  ("ModuleGateModel", 412, "&=", 101),
  ("ModuleGateModel", 414, "|=", 102),
  ("ModuleGateModel", 416, "^=", 103),
  ("ModuleGateModel", 418, "&&=", 104),
  ("ModuleGateModel", 420, "||=", 105),
  ("ModuleGateModel", 422, "??=", 106),
  ("ModuleGateModel", 587, "this", 107),
  ("ModuleGateModel", 589, "null", 108),
  ("ModuleGateModel", 591, "true", 109),
  ("ModuleGateModel", 593, "false", 110),
  ("ModuleGateModel", 595, "target", 111),
  ("ModuleGateModel", 546, "?.", 112)]
