set_option maxRecDepth 100000
set_option maxRecDepth 100000
def RX2 : String := "EquationHouse$Reader"
def TX2 : u_T := fun k => match k with
  | 0 => ("EquationHouse$Reader", "kind", "[I", true)
  | 1 => ("EquationHouse$Reader", "value", "[I", true)
  | 2 => ("EquationHouse$Reader", "whole", "[Z", true)
  | 3 => ("EquationHouse$Reader", "at", "[I", true)
  | 4 => ("EquationHouse$Reader", "many", "I", false)
  | 5 => ("EquationHouse$Reader", "i", "I", false)
  | 6 => ("EquationHouse$Reader", "depth", "I", false)
  | 7 => ("EquationHouse$Reader", "loops", "Ljava/util/ArrayList;", true)
  | 8 => ("EquationHouse$Reader", "made", "LEquationHouse$Function;", false)
  | 9 => ("EquationHouse$Reader", "newFunctions", "Ljava/util/ArrayList;", true)
  | 10 => ("EquationHouse$Reader", "newModels", "Ljava/util/ArrayList;", true)
  | 11 => ("EquationHouse$Reader", "current", "LEquationHouse$Model;", false)
  | _ => ("EquationHouse$Reader", "this$0", "LEquationHouse;", true)
