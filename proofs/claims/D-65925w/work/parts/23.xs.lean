set_option maxRecDepth 100000
set_option maxRecDepth 100000
set_option maxRecDepth 100000
set_option maxRecDepth 100000
set_option maxRecDepth 100000
set_option maxRecDepth 100000
set_option maxRecDepth 100000
set_option maxRecDepth 100000
set_option maxRecDepth 100000
set_option maxRecDepth 100000
def RJ2 : String := "java/util/ArrayList"
def TJ2 : u_T := fun k => match k with
  | 0 => ("java/util/AbstractList", "modCount", "I", false)
  | 1 => ("java/util/ArrayList", "elementData", "[Ljava/lang/Object;", false)
  | _ => ("java/util/ArrayList", "size", "I", false)
set_option maxRecDepth 100000
set_option maxRecDepth 100000
set_option maxRecDepth 100000
def RX1 : String := "EquationHouse$Words"
def TX1 : u_T := fun k => match k with
  | 0 => ("EquationHouse$Words", "keys", "Ljava/util/ArrayList;", true)
  | 1 => ("EquationHouse$Words", "names", "[J", false)
  | _ => ("EquationHouse$Words", "many", "I", false)
set_option maxRecDepth 100000
def RX10 : String := "EquationHouse$Model"
def TX10 : u_T := fun k => match k with
  | 0 => ("EquationHouse$Model", "name", "I", false)
  | 1 => ("EquationHouse$Model", "connector", "Z", false)
  | 2 => ("EquationHouse$Model", "elements", "Ljava/util/ArrayList;", true)
  | 3 => ("EquationHouse$Model", "equations", "Ljava/util/ArrayList;", true)
  | _ => ("EquationHouse$Model", "many", "I", false)
set_option maxRecDepth 100000
def RX11 : String := "EquationHouse$Element"
def TX11 : u_T := fun k => match k with
  | 0 => ("EquationHouse$Element", "base", "Z", false)
  | 1 => ("EquationHouse$Element", "prefixes", "I", false)
  | 2 => ("EquationHouse$Element", "type", "I", false)
  | 3 => ("EquationHouse$Element", "name", "I", false)
  | 4 => ("EquationHouse$Element", "size", "I", false)
  | 5 => ("EquationHouse$Element", "unit", "[I", true)
  | 6 => ("EquationHouse$Element", "mods", "Ljava/util/ArrayList;", true)
  | _ => ("EquationHouse$Element", "value", "LEquationHouse$Ast;", false)
set_option maxRecDepth 100000
def RX12 : String := "EquationHouse$Mod"
def TX12 : u_T := fun k => match k with
  | 0 => ("EquationHouse$Mod", "path", "Ljava/util/ArrayList;", true)
  | 1 => ("EquationHouse$Mod", "start", "Z", false)
  | 2 => ("EquationHouse$Mod", "value", "LEquationHouse$Ast;", false)
  | _ => ("EquationHouse$Mod", "type", "I", false)
set_option maxRecDepth 100000
def RX13 : String := "EquationHouse$Equation"
def TX13 : u_T := fun k => match k with
  | 0 => ("EquationHouse$Equation", "kind", "I", true)
  | 1 => ("EquationHouse$Equation", "left", "LEquationHouse$Ast;", false)
  | 2 => ("EquationHouse$Equation", "right", "LEquationHouse$Ast;", false)
  | 3 => ("EquationHouse$Equation", "name", "I", false)
  | 4 => ("EquationHouse$Equation", "from", "I", false)
  | 5 => ("EquationHouse$Equation", "to", "I", false)
  | 6 => ("EquationHouse$Equation", "inner", "Ljava/util/ArrayList;", true)
  | _ => ("EquationHouse$Equation", "other", "Ljava/util/ArrayList;", true)
set_option maxRecDepth 100000
def RX14 : String := "EquationHouse$Inst"
def TX14 : u_T := fun k => match k with
  | 0 => ("EquationHouse$Inst", "number", "I", false)
  | 1 => ("EquationHouse$Inst", "parent", "LEquationHouse$Inst;", false)
  | 2 => ("EquationHouse$Inst", "model", "LEquationHouse$Model;", false)
  | 3 => ("EquationHouse$Inst", "word", "I", false)
  | 4 => ("EquationHouse$Inst", "index", "I", false)
  | _ => ("EquationHouse$Inst", "members", "Ljava/util/ArrayList;", true)
set_option maxRecDepth 100000
def RX15 : String := "EquationHouse$Row"
def TX15 : u_T := fun k => match k with
  | 0 => ("EquationHouse$Row", "mod", "LEquationHouse$Mod;", false)
  | 1 => ("EquationHouse$Row", "used", "I", false)
  | 2 => ("EquationHouse$Row", "in", "LEquationHouse$Inst;", false)
  | _ => ("EquationHouse$Row", "hit", "Z", false)
set_option maxRecDepth 100000
def RX16 : String := "EquationHouse$Member"
def TX16 : u_T := fun k => match k with
  | 0 => ("EquationHouse$Member", "word", "I", false)
  | 1 => ("EquationHouse$Member", "type", "I", false)
  | 2 => ("EquationHouse$Member", "size", "I", false)
  | 3 => ("EquationHouse$Member", "element", "LEquationHouse$Element;", false)
  | 4 => ("EquationHouse$Member", "isVar", "Z", false)
  | 5 => ("EquationHouse$Member", "first", "I", false)
  | 6 => ("EquationHouse$Member", "in", "LEquationHouse$Inst;", false)
  | _ => ("EquationHouse$Member", "target", "LEquationHouse$Member;", false)
set_option maxRecDepth 100000
def RX17 : String := "EquationHouse$Var"
def TX17 : u_T := fun k => match k with
  | 0 => ("EquationHouse$Var", "in", "LEquationHouse$Inst;", false)
  | 1 => ("EquationHouse$Var", "word", "I", false)
  | 2 => ("EquationHouse$Var", "index", "I", false)
  | 3 => ("EquationHouse$Var", "kind", "I", false)
  | 4 => ("EquationHouse$Var", "unit", "[I", true)
  | 5 => ("EquationHouse$Var", "flow", "Z", false)
  | 6 => ("EquationHouse$Var", "value", "LEquationHouse$Ast;", false)
  | 7 => ("EquationHouse$Var", "valueIn", "LEquationHouse$Inst;", false)
  | 8 => ("EquationHouse$Var", "start", "LEquationHouse$Ast;", false)
  | 9 => ("EquationHouse$Var", "startIn", "LEquationHouse$Inst;", false)
  | 10 => ("EquationHouse$Var", "valueEx", "LEquationHouse$Ex;", false)
  | 11 => ("EquationHouse$Var", "startEx", "LEquationHouse$Ex;", false)
  | 12 => ("EquationHouse$Var", "startValue", "I", false)
  | 13 => ("EquationHouse$Var", "now", "I", false)
  | 14 => ("EquationHouse$Var", "before", "I", false)
  | 15 => ("EquationHouse$Var", "known", "Z", false)
  | 16 => ("EquationHouse$Var", "asked", "Z", false)
  | 17 => ("EquationHouse$Var", "head", "I", false)
  | 18 => ("EquationHouse$Var", "sign", "I", false)
  | _ => ("EquationHouse$Var", "unknown", "I", false)
set_option maxRecDepth 100000
def RX18 : String := "EquationHouse$Ex"
def TX18 : u_T := fun k => match k with
  | 0 => ("EquationHouse$Ex", "op", "I", false)
  | 1 => ("EquationHouse$Ex", "value", "I", false)
  | 2 => ("EquationHouse$Ex", "more", "I", false)
  | 3 => ("EquationHouse$Ex", "held", "I", false)
  | 4 => ("EquationHouse$Ex", "height", "I", false)
  | 5 => ("EquationHouse$Ex", "a", "LEquationHouse$Ex;", false)
  | 6 => ("EquationHouse$Ex", "b", "LEquationHouse$Ex;", false)
  | _ => ("EquationHouse$Ex", "c", "LEquationHouse$Ex;", false)
set_option maxRecDepth 100000
set_option maxRecDepth 100000
def RX20 : String := "EquationHouse$Flat"
def TX20 : u_T := fun k => match k with
  | 0 => ("EquationHouse$Flat", "left", "LEquationHouse$Ex;", false)
  | _ => ("EquationHouse$Flat", "right", "LEquationHouse$Ex;", false)
set_option maxRecDepth 100000
def RX21 : String := "EquationHouse$When"
def TX21 : u_T := fun k => match k with
  | 0 => ("EquationHouse$When", "condition", "LEquationHouse$Ex;", false)
  | 1 => ("EquationHouse$When", "solved", "LEquationHouse$Ex;", false)
  | 2 => ("EquationHouse$When", "from", "I", false)
  | 3 => ("EquationHouse$When", "to", "I", false)
  | 4 => ("EquationHouse$When", "noted", "Z", false)
  | _ => ("EquationHouse$When", "is", "Z", false)
set_option maxRecDepth 100000
def RX22 : String := "EquationHouse$Action"
def TX22 : u_T := fun k => match k with
  | 0 => ("EquationHouse$Action", "reinit", "Z", false)
  | 1 => ("EquationHouse$Action", "var", "I", false)
  | 2 => ("EquationHouse$Action", "value", "LEquationHouse$Ex;", false)
  | 3 => ("EquationHouse$Action", "solved", "LEquationHouse$Ex;", false)
  | _ => ("EquationHouse$Action", "unknown", "I", false)
set_option maxRecDepth 100000
def RX3 : String := "EquationHouse$Arena"
def TX3 : u_T := fun k => match k with
  | 0 => ("EquationHouse$Arena", "all", "Ljava/util/ArrayList;", true)
  | 1 => ("EquationHouse$Arena", "most", "I", true)
  | 2 => ("EquationHouse$Arena", "highest", "I", true)
  | 3 => ("EquationHouse$Arena", "rule", "I", true)
  | 4 => ("EquationHouse$Arena", "many", "I", false)
  | _ => ("EquationHouse$Arena", "place", "I", false)
set_option maxRecDepth 100000
def RX4 : String := "EquationHouse$Kept"
def TX4 : u_T := fun k => match k with
  | 0 => ("EquationHouse$Kept", "instant", "I", false)
  | 1 => ("EquationHouse$Kept", "now", "[I", true)
  | 2 => ("EquationHouse$Kept", "before", "[I", true)
  | 3 => ("EquationHouse$Kept", "varNow", "[I", true)
  | 4 => ("EquationHouse$Kept", "varBefore", "[I", true)
  | 5 => ("EquationHouse$Kept", "held", "[Z", true)
  | _ => ("EquationHouse$Kept", "noted", "[Z", true)
set_option maxRecDepth 100000
def RX6 : String := "EquationHouse$Function"
def TX6 : u_T := fun k => match k with
  | 0 => ("EquationHouse$Function", "name", "I", false)
  | 1 => ("EquationHouse$Function", "args", "Ljava/util/ArrayList;", true)
  | _ => ("EquationHouse$Function", "body", "LEquationHouse$Ast;", false)
set_option maxRecDepth 100000
def RX7 : String := "EquationHouse$Wrong"
set_option maxRecDepth 100000
def RX8 : String := "EquationHouse$Ast"
def TX8 : u_T := fun k => match k with
  | 0 => ("EquationHouse$Ast", "kind", "I", true)
  | 1 => ("EquationHouse$Ast", "value", "I", false)
  | 2 => ("EquationHouse$Ast", "a", "LEquationHouse$Ast;", false)
  | 3 => ("EquationHouse$Ast", "b", "LEquationHouse$Ast;", false)
  | 4 => ("EquationHouse$Ast", "c", "LEquationHouse$Ast;", false)
  | 5 => ("EquationHouse$Ast", "path", "Ljava/util/ArrayList;", false)
  | 6 => ("EquationHouse$Ast", "args", "Ljava/util/ArrayList;", false)
  | _ => ("EquationHouse$Ast", "function", "LEquationHouse$Function;", false)
set_option maxRecDepth 100000
def RX9 : String := "EquationHouse$Part"
def TX9 : u_T := fun k => match k with
  | 0 => ("EquationHouse$Part", "name", "I", true)
  | 1 => ("EquationHouse$Part", "indexed", "Z", false)
  | 2 => ("EquationHouse$Part", "loop", "I", false)
  | _ => ("EquationHouse$Part", "number", "I", false)
set_option maxRecDepth 100000
set_option maxRecDepth 100000
set_option maxRecDepth 100000
set_option maxRecDepth 100000
set_option maxRecDepth 100000
set_option maxRecDepth 100000
set_option maxRecDepth 100000
set_option maxRecDepth 100000
set_option maxRecDepth 100000
set_option maxRecDepth 100000
set_option maxRecDepth 100000
