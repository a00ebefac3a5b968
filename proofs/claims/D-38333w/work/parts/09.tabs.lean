/-! kinds: the classes of objects with their fields, arrays, enum constants; statics and constants (written by a program of mine) -/
set_option maxRecDepth 100000
/-- KeelHouse -/
def kT_1 : u_T := fun k => match k with
  | 0 => ("KeelHouse", "bell", "LKeelHouse$Bell;", true)
  | 1 => ("KeelHouse", "books", "LKeelHouse$Books;", true)
  | 2 => ("KeelHouse", "store", "LKeelHouse$Store;", true)
  | 3 => ("KeelHouse", "edge", "LKeelHouse$Edge;", true)
  | 4 => ("KeelHouse", "ships", "Ljava/util/ArrayList;", true)
  | 5 => ("KeelHouse", "works", "LKeelHouse$Works;", true)
  | 6 => ("KeelHouse", "sales", "LKeelHouse$Sales;", true)
  | 7 => ("KeelHouse", "voyages", "LKeelHouse$Voyages;", true)
  | 8 => ("KeelHouse", "day", "I", false)
  | 9 => ("KeelHouse", "weather", "I", false)
  | 10 => ("KeelHouse", "refused", "I", false)
  | 11 => ("KeelHouse", "count", "I", false)
  | _ => ("KeelHouse", "sum", "J", false)
/-- KeelHouse$Bell -/
def kT_2 : u_T := fun k => match k with
  | _ => ("KeelHouse$Bell", "rung", "I", false)
/-- KeelHouse$Books -/
def kT_3 : u_T := fun k => match k with
  | 0 => ("KeelHouse$Books", "amounts", "[I", true)
  | 1 => ("KeelHouse$Books", "month", "I", false)
  | _ => ("KeelHouse$Books", "cash", "I", false)
/-- KeelHouse$Store -/
def kT_4 : u_T := fun k => match k with
  | 0 => ("KeelHouse$Store", "kinds", "Ljava/util/ArrayList;", true)
  | 1 => ("KeelHouse$Store", "deliveries", "Ljava/util/ArrayList;", true)
  | _ => ("KeelHouse$Store", "offcuts", "Ljava/util/ArrayList;", true)
/-- java/util/ArrayList -/
def kT_5 : u_T := fun k => match k with
  | 0 => ("java/util/AbstractList", "modCount", "I", false)
  | 1 => ("java/util/ArrayList", "elementData", "[Ljava/lang/Object;", false)
  | _ => ("java/util/ArrayList", "size", "I", false)
/-- KeelHouse$Edge -/
def kT_6 : u_T := fun k => match k with
  | _ => ("KeelHouse$Edge", "there", "[LKeelHouse$Ship;", true)
/-- KeelHouse$Works -/
def kT_7 : u_T := fun k => match k with
  | 0 => ("KeelHouse$Works", "ships", "Ljava/util/ArrayList;", true)
  | 1 => ("KeelHouse$Works", "teams", "[I", true)
  | 2 => ("KeelHouse$Works", "luck", "I", false)
  | 3 => ("KeelHouse$Works", "faults", "I", false)
  | 4 => ("KeelHouse$Works", "worked", "I", false)
  | 5 => ("KeelHouse$Works", "lost", "I", false)
  | 6 => ("KeelHouse$Works", "found", "LKeelHouse$Ship;", false)
  | _ => ("KeelHouse$Works", "foundJob", "LKeelHouse$Job;", false)
/-- KeelHouse$Sales -/
def kT_8 : u_T := fun k => match k with
  | 0 => ("KeelHouse$Sales", "books", "LKeelHouse$Books;", true)
  | _ => ("KeelHouse$Sales", "buyers", "Ljava/util/ArrayList;", true)
/-- KeelHouse$Voyages -/
def kT_9 : u_T := fun k => match k with
  | 0 => ("KeelHouse$Voyages", "edge", "LKeelHouse$Edge;", true)
  | 1 => ("KeelHouse$Voyages", "ports", "Ljava/util/ArrayList;", true)
  | 2 => ("KeelHouse$Voyages", "lots", "Ljava/util/ArrayList;", true)
  | _ => ("KeelHouse$Voyages", "route", "LKeelHouse$Route;", true)
/-- KeelHouse$Route -/
def kT_10 : u_T := fun k => match k with
  | 0 => ("KeelHouse$Route", "ports", "Ljava/util/ArrayList;", true)
  | 1 => ("KeelHouse$Route", "order", "[I", true)
  | 2 => ("KeelHouse$Route", "least", "I", false)
  | _ => ("KeelHouse$Route", "first", "I", false)
/-- java/util/ArrayList$Itr -/
def kT_11 : u_T := fun k => match k with
  | 0 => ("java/util/ArrayList$Itr", "cursor", "I", false)
  | 1 => ("java/util/ArrayList$Itr", "lastRet", "I", false)
  | 2 => ("java/util/ArrayList$Itr", "expectedModCount", "I", false)
  | _ => ("java/util/ArrayList$Itr", "this$0", "Ljava/util/ArrayList;", true)
/-- KeelHouse$Jobs -/
def kT_12 : u_T := fun k => match k with
  | 0 => ("KeelHouse$Jobs", "ship", "LKeelHouse$Ship;", true)
  | 1 => ("KeelHouse$Jobs", "jobs", "[LKeelHouse$Job;", true)
  | 2 => ("KeelHouse$Jobs", "order", "[I", true)
  | _ => ("KeelHouse$Jobs", "isTold", "Z", false)
/-- KeelHouse$Net -/
def kT_13 : u_T := fun k => match k with
  | 0 => ("KeelHouse$Net", "pipes", "Ljava/util/ArrayList;", true)
  | 1 => ("KeelHouse$Net", "reached", "[Z", true)
  | 2 => ("KeelHouse$Net", "by", "[I", true)
  | _ => ("KeelHouse$Net", "queue", "[I", true)
/-- java/lang/String -/
def kT_14 : u_T := fun k => match k with
  | 0 => ("java/lang/String", "value", "[B", true)
  | _ => ("java/lang/String", "coder", "B", true)
/-- KeelHouse$Tank -/
def kT_15 : u_T := fun k => match k with
  | 0 => ("KeelHouse$Tank", "lines", "LKeelHouse$Lines;", true)
  | 1 => ("KeelHouse$Tank", "compartment", "I", true)
  | _ => ("KeelHouse$Tank", "fill", "I", false)
/-- KeelHouse$Lines -/
def kT_16 : u_T := fun k => match k with
  | 0 => ("KeelHouse$Lines", "form", "I", true)
  | 1 => ("KeelHouse$Lines", "length", "I", true)
  | 2 => ("KeelHouse$Lines", "depth", "I", true)
  | 3 => ("KeelHouse$Lines", "halves", "[I", true)
  | _ => ("KeelHouse$Lines", "ordinates", "[D", true)
/-- KeelHouse$Trim -/
def kT_17 : u_T := fun k => match k with
  | 0 => ("KeelHouse$Trim", "ship", "LKeelHouse$Ship;", true)
  | 1 => ("KeelHouse$Trim", "weight", "D", false)
  | 2 => ("KeelHouse$Trim", "lcg", "D", false)
  | 3 => ("KeelHouse$Trim", "tcg", "D", false)
  | 4 => ("KeelHouse$Trim", "kg", "D", false)
  | _ => ("KeelHouse$Trim", "draught", "D", false)
/-- KeelHouse$Flood -/
def kT_18 : u_T := fun k => match k with
  | 0 => ("KeelHouse$Flood", "ship", "LKeelHouse$Ship;", true)
  | 1 => ("KeelHouse$Flood", "flooded", "I", false)
  | _ => ("KeelHouse$Flood", "draught", "D", false)
/-- KeelHouse$Strength -/
def kT_19 : u_T := fun k => match k with
  | 0 => ("KeelHouse$Strength", "ship", "LKeelHouse$Ship;", true)
  | 1 => ("KeelHouse$Strength", "carries", "[D", true)
  | 2 => ("KeelHouse$Strength", "bears", "[D", true)
  | 3 => ("KeelHouse$Strength", "shears", "[D", true)
  | 4 => ("KeelHouse$Strength", "moments", "[D", true)
  | 5 => ("KeelHouse$Strength", "stresses", "[D", true)
  | 6 => ("KeelHouse$Strength", "moduli", "[D", true)
  | 7 => ("KeelHouse$Strength", "most", "D", false)
  | 8 => ("KeelHouse$Strength", "bySea", "I", false)
  | _ => ("KeelHouse$Strength", "byNumber", "I", false)
/-- KeelHouse$Engine -/
def kT_20 : u_T := fun k => match k with
  | 0 => ("KeelHouse$Engine", "ship", "LKeelHouse$Ship;", true)
  | 1 => ("KeelHouse$Engine", "net", "LKeelHouse$Net;", true)
  | _ => ("KeelHouse$Engine", "power", "I", false)
/-- KeelHouseLaw$Out -/
def kT_21 : u_T := fun k => match k with
  | 0 => ("KeelHouseLaw$Out", "n", "J", false)
  | 1 => ("KeelHouseLaw$Out", "d", "D", false)
  | _ => ("KeelHouseLaw$Out", "s", "Ljava/lang/String;", false)
/-- KeelHouse$Ship -/
def kT_22 : u_T := fun k => match k with
  | 0 => ("KeelHouse$Ship", "number", "I", true)
  | 1 => ("KeelHouse$Ship", "lines", "LKeelHouse$Lines;", true)
  | 2 => ("KeelHouse$Ship", "plates", "[LKeelHouse$Plates;", true)
  | 3 => ("KeelHouse$Ship", "items", "Ljava/util/ArrayList;", true)
  | 4 => ("KeelHouse$Ship", "tanks", "[LKeelHouse$Tank;", true)
  | 5 => ("KeelHouse$Ship", "engine", "LKeelHouse$Engine;", true)
  | 6 => ("KeelHouse$Ship", "holds", "[LKeelHouse$Cargo;", true)
  | 7 => ("KeelHouse$Ship", "trim", "LKeelHouse$Trim;", true)
  | 8 => ("KeelHouse$Ship", "flood", "LKeelHouse$Flood;", true)
  | 9 => ("KeelHouse$Ship", "strength", "LKeelHouse$Strength;", true)
  | 10 => ("KeelHouse$Ship", "jobs", "LKeelHouse$Jobs;", true)
  | 11 => ("KeelHouse$Ship", "aboard", "Ljava/util/ArrayList;", true)
  | 12 => ("KeelHouse$Ship", "remembered", "[I", true)
  | 13 => ("KeelHouse$Ship", "stage", "LKeelHouse$Stage;", false)
  | 14 => ("KeelHouse$Ship", "bulkheads", "I", false)
  | 15 => ("KeelHouse$Ship", "limit", "I", false)
  | 16 => ("KeelHouse$Ship", "isByPlan", "Z", false)
  | 17 => ("KeelHouse$Ship", "spot", "I", false)
  | 18 => ("KeelHouse$Ship", "foul", "I", false)
  | 19 => ("KeelHouse$Ship", "isAtSea", "Z", false)
  | 20 => ("KeelHouse$Ship", "isWaiting", "Z", false)
  | 21 => ("KeelHouse$Ship", "port", "LKeelHouse$Port;", false)
  | 22 => ("KeelHouse$Ship", "way", "D", false)
  | 23 => ("KeelHouse$Ship", "fuel", "I", false)
  | 24 => ("KeelHouse$Ship", "holed", "I", false)
  | 25 => ("KeelHouse$Ship", "earned", "I", false)
  | _ => ("KeelHouse$Ship", "days", "I", false)
/-- KeelHouse$Plates -/
def kT_23 : u_T := fun k => match k with
  | 0 => ("KeelHouse$Plates", "ship", "LKeelHouse$Ship;", true)
  | 1 => ("KeelHouse$Plates", "compartment", "I", true)
  | 2 => ("KeelHouse$Plates", "strake", "I", true)
  | 3 => ("KeelHouse$Plates", "plan", "I", false)
  | 4 => ("KeelHouse$Plates", "fitted", "I", false)
  | 5 => ("KeelHouse$Plates", "state", "I", false)
  | _ => ("KeelHouse$Plates", "thickness", "I", false)
/-- KeelHouse$Cargo -/
def kT_24 : u_T := fun k => match k with
  | 0 => ("KeelHouse$Cargo", "ship", "LKeelHouse$Ship;", true)
  | _ => ("KeelHouse$Cargo", "compartment", "I", true)
/-- KeelHouse$Job -/
def kT_25 : u_T := fun k => match k with
  | 0 => ("KeelHouse$Job", "number", "I", true)
  | 1 => ("KeelHouse$Job", "trade", "I", true)
  | 2 => ("KeelHouse$Job", "before", "I", true)
  | 3 => ("KeelHouse$Job", "ahead", "[I", true)
  | 4 => ("KeelHouse$Job", "hours", "I", false)
  | 5 => ("KeelHouse$Job", "left", "I", false)
  | 6 => ("KeelHouse$Job", "isAsked", "Z", false)
  | 7 => ("KeelHouse$Job", "isFaulty", "Z", false)
  | 8 => ("KeelHouse$Job", "early", "I", false)
  | 9 => ("KeelHouse$Job", "late", "I", false)
  | _ => ("KeelHouse$Job", "teams", "I", false)
/-- KeelHouse$Item -/
def kT_26 : u_T := fun k => match k with
  | 0 => ("KeelHouse$Item", "tonnes", "I", true)
  | 1 => ("KeelHouse$Item", "compartment", "I", true)
  | 2 => ("KeelHouse$Item", "side", "I", true)
  | _ => ("KeelHouse$Item", "up", "I", true)
/-- KeelHouse$Kind -/
def kT_27 : u_T := fun k => match k with
  | 0 => ("KeelHouse$Kind", "wide", "I", true)
  | 1 => ("KeelHouse$Kind", "longer", "I", true)
  | 2 => ("KeelHouse$Kind", "thickness", "I", true)
  | 3 => ("KeelHouse$Kind", "price", "I", true)
  | 4 => ("KeelHouse$Kind", "lead", "I", true)
  | _ => ("KeelHouse$Kind", "stock", "I", false)
/-- KeelHouse$Delivery -/
def kT_28 : u_T := fun k => match k with
  | 0 => ("KeelHouse$Delivery", "kind", "LKeelHouse$Kind;", true)
  | 1 => ("KeelHouse$Delivery", "many", "I", true)
  | _ => ("KeelHouse$Delivery", "day", "I", true)
/-- java/util/Optional -/
def kT_29 : u_T := fun k => match k with
  | _ => ("java/util/Optional", "value", "Ljava/lang/Object;", true)
/-- KeelHouse$Nest -/
def kT_30 : u_T := fun k => match k with
  | 0 => ("KeelHouse$Nest", "kind", "LKeelHouse$Kind;", true)
  | 1 => ("KeelHouse$Nest", "along", "I", true)
  | 2 => ("KeelHouse$Nest", "across", "I", true)
  | _ => ("KeelHouse$Nest", "isAlong", "Z", true)
/-- KeelHouse$Offcut -/
def kT_31 : u_T := fun k => match k with
  | 0 => ("KeelHouse$Offcut", "kind", "LKeelHouse$Kind;", true)
  | 1 => ("KeelHouse$Offcut", "one", "I", true)
  | _ => ("KeelHouse$Offcut", "other", "I", true)
/-- KeelHouse$Pipe -/
def kT_32 : u_T := fun k => match k with
  | 0 => ("KeelHouse$Pipe", "from", "I", true)
  | 1 => ("KeelHouse$Pipe", "to", "I", true)
  | 2 => ("KeelHouse$Pipe", "width", "I", true)
  | 3 => ("KeelHouse$Pipe", "isShut", "Z", false)
  | 4 => ("KeelHouse$Pipe", "isBurst", "Z", false)
  | _ => ("KeelHouse$Pipe", "flow", "I", false)
/-- KeelHouse$Buyer -/
def kT_33 : u_T := fun k => match k with
  | 0 => ("KeelHouse$Buyer", "length", "I", true)
  | 1 => ("KeelHouse$Buyer", "speed", "I", true)
  | 2 => ("KeelHouse$Buyer", "rules", "I", true)
  | 3 => ("KeelHouse$Buyer", "due", "I", true)
  | 4 => ("KeelHouse$Buyer", "price", "I", true)
  | 5 => ("KeelHouse$Buyer", "state", "I", false)
  | 6 => ("KeelHouse$Buyer", "ship", "LKeelHouse$Ship;", false)
  | 7 => ("KeelHouse$Buyer", "our", "I", false)
  | 8 => ("KeelHouse$Buyer", "fines", "I", false)
  | _ => ("KeelHouse$Buyer", "paid", "I", false)
/-- KeelHouse$Port -/
def kT_34 : u_T := fun k => match k with
  | 0 => ("KeelHouse$Port", "number", "I", true)
  | 1 => ("KeelHouse$Port", "east", "I", true)
  | 2 => ("KeelHouse$Port", "north", "I", true)
  | _ => ("KeelHouse$Port", "deep", "I", true)
/-- KeelHouse$Lot -/
def kT_35 : u_T := fun k => match k with
  | 0 => ("KeelHouse$Lot", "number", "I", true)
  | 1 => ("KeelHouse$Lot", "at", "LKeelHouse$Port;", true)
  | 2 => ("KeelHouse$Lot", "to", "LKeelHouse$Port;", true)
  | 3 => ("KeelHouse$Lot", "tonnes", "I", true)
  | 4 => ("KeelHouse$Lot", "sort", "I", true)
  | 5 => ("KeelHouse$Lot", "freight", "I", true)
  | 6 => ("KeelHouse$Lot", "state", "I", false)
  | 7 => ("KeelHouse$Lot", "ship", "LKeelHouse$Ship;", false)
  | 8 => ("KeelHouse$Lot", "compartment", "I", false)
  | _ => ("KeelHouse$Lot", "side", "D", false)
/-- java/lang/StringBuilder -/
def kT_36 : u_T := fun k => match k with
  | 0 => ("java/lang/AbstractStringBuilder", "value", "[B", false)
  | 1 => ("java/lang/AbstractStringBuilder", "coder", "B", false)
  | 2 => ("java/lang/AbstractStringBuilder", "maybeLatin1", "Z", false)
  | _ => ("java/lang/AbstractStringBuilder", "count", "I", false)
/-- KeelHouseModel -/
def kT_37 : u_T := fun k => match k with
  | 0 => ("KeelHouseModel", "thrown", "I", false)
  | 1 => ("KeelHouseModel", "ships", "Ljava/util/ArrayList;", true)
  | 2 => ("KeelHouseModel", "day", "I", false)
  | 3 => ("KeelHouseModel", "weather", "I", false)
  | 4 => ("KeelHouseModel", "luck", "I", false)
  | 5 => ("KeelHouseModel", "faults", "I", false)
  | 6 => ("KeelHouseModel", "worked", "I", false)
  | 7 => ("KeelHouseModel", "wasted", "I", false)
  | 8 => ("KeelHouseModel", "teams", "[I", true)
  | 9 => ("KeelHouseModel", "kinds", "Ljava/util/ArrayList;", true)
  | 10 => ("KeelHouseModel", "orders", "Ljava/util/ArrayList;", true)
  | 11 => ("KeelHouseModel", "offcuts", "Ljava/util/ArrayList;", true)
  | 12 => ("KeelHouseModel", "buyers", "Ljava/util/ArrayList;", true)
  | 13 => ("KeelHouseModel", "ports", "Ljava/util/ArrayList;", true)
  | 14 => ("KeelHouseModel", "lots", "Ljava/util/ArrayList;", true)
  | 15 => ("KeelHouseModel", "books", "[I", true)
  | 16 => ("KeelHouseModel", "cash", "I", false)
  | _ => ("KeelHouseModel", "refused", "I", false)
/-- KeelHouseModel$Ship -/
def kT_38 : u_T := fun k => match k with
  | 0 => ("KeelHouseModel$Hull", "form", "I", true)
  | 1 => ("KeelHouseModel$Hull", "length", "I", true)
  | 2 => ("KeelHouseModel$Hull", "depth", "I", true)
  | 3 => ("KeelHouseModel$Hull", "half", "[[I", true)
  | 4 => ("KeelHouseModel$Ship", "number", "I", true)
  | 5 => ("KeelHouseModel$Ship", "stage", "I", false)
  | 6 => ("KeelHouseModel$Ship", "items", "Ljava/util/ArrayList;", true)
  | 7 => ("KeelHouseModel$Ship", "fills", "[I", true)
  | 8 => ("KeelHouseModel$Ship", "bulkheads", "I", false)
  | 9 => ("KeelHouseModel$Ship", "plans", "[I", true)
  | 10 => ("KeelHouseModel$Ship", "plates", "[I", true)
  | 11 => ("KeelHouseModel$Ship", "strakes", "[I", true)
  | 12 => ("KeelHouseModel$Ship", "cuts", "[I", true)
  | 13 => ("KeelHouseModel$Ship", "limit", "I", false)
  | 14 => ("KeelHouseModel$Ship", "spot", "I", false)
  | 15 => ("KeelHouseModel$Ship", "foul", "I", false)
  | 16 => ("KeelHouseModel$Ship", "isLaid", "Z", false)
  | 17 => ("KeelHouseModel$Ship", "hours", "[I", true)
  | 18 => ("KeelHouseModel$Ship", "left", "[I", true)
  | 19 => ("KeelHouseModel$Ship", "isAsked", "[Z", true)
  | 20 => ("KeelHouseModel$Ship", "isFaulty", "[Z", true)
  | 21 => ("KeelHouseModel$Ship", "power", "I", false)
  | 22 => ("KeelHouseModel$Ship", "pipes", "Ljava/util/ArrayList;", true)
  | 23 => ("KeelHouseModel$Ship", "where", "I", false)
  | 24 => ("KeelHouseModel$Ship", "port", "I", false)
  | 25 => ("KeelHouseModel$Ship", "fuel", "I", false)
  | 26 => ("KeelHouseModel$Ship", "way", "D", false)
  | 27 => ("KeelHouseModel$Ship", "waits", "Z", false)
  | 28 => ("KeelHouseModel$Ship", "holed", "I", false)
  | 29 => ("KeelHouseModel$Ship", "earned", "I", false)
  | 30 => ("KeelHouseModel$Ship", "days", "I", false)
  | 31 => ("KeelHouseModel$Ship", "sums", "[D", true)
  | 32 => ("KeelHouseModel$Ship", "carries", "[D", true)
  | 33 => ("KeelHouseModel$Ship", "stress", "[D", true)
  | 34 => ("KeelHouseModel$Ship", "shears", "[D", true)
  | 35 => ("KeelHouseModel$Ship", "moments", "[D", true)
  | _ => ("KeelHouseModel$Ship", "this$0", "LKeelHouseModel;", true)
/-- KeelHouseModel$Works -/
def kT_39 : u_T := fun k => match k with
  | 0 => ("KeelHouseModel$Works", "left", "[[I", true)
  | 1 => ("KeelHouseModel$Works", "strakes", "[[I", true)
  | 2 => ("KeelHouseModel$Works", "slack", "[[I", true)
  | 3 => ("KeelHouseModel$Works", "today", "[[I", true)
  | 4 => ("KeelHouseModel$Works", "isReal", "Z", true)
  | _ => ("KeelHouseModel$Works", "this$0", "LKeelHouseModel;", true)
/-- KeelHouseModel$Lot -/
def kT_40 : u_T := fun k => match k with
  | 0 => ("KeelHouseModel$Lot", "at", "I", true)
  | 1 => ("KeelHouseModel$Lot", "to", "I", true)
  | 2 => ("KeelHouseModel$Lot", "tonnes", "I", true)
  | 3 => ("KeelHouseModel$Lot", "sort", "I", true)
  | 4 => ("KeelHouseModel$Lot", "freight", "I", true)
  | 5 => ("KeelHouseModel$Lot", "stands", "I", false)
  | 6 => ("KeelHouseModel$Lot", "ship", "I", false)
  | 7 => ("KeelHouseModel$Lot", "compartment", "I", false)
  | _ => ("KeelHouseModel$Lot", "side", "D", false)
/-- class, fields, how many are told (place 0 is filled up) -/
def kCl : List vw_C := [("KeelHouse", kT_1, 0),
  ("KeelHouse", kT_1, 13),
  ("KeelHouse$Bell", kT_2, 1),
  ("KeelHouse$Books", kT_3, 3),
  ("KeelHouse$Store", kT_4, 3),
  ("java/util/ArrayList", kT_5, 3),
  ("KeelHouse$Edge", kT_6, 1),
  ("KeelHouse$Works", kT_7, 8),
  ("KeelHouse$Sales", kT_8, 2),
  ("KeelHouse$Voyages", kT_9, 4),
  ("KeelHouse$Route", kT_10, 4),
  ("java/util/ArrayList$Itr", kT_11, 4),
  ("KeelHouse$Jobs", kT_12, 4),
  ("KeelHouse$Net", kT_13, 4),
  ("java/lang/String", kT_14, 2),
  ("KeelHouse$Tank", kT_15, 3),
  ("KeelHouse$Lines", kT_16, 5),
  ("KeelHouse$Trim", kT_17, 6),
  ("KeelHouse$Flood", kT_18, 3),
  ("KeelHouse$Strength", kT_19, 10),
  ("KeelHouse$Engine", kT_20, 3),
  ("KeelHouseLaw$Out", kT_21, 3),
  ("KeelHouse$Ship", kT_22, 27),
  ("KeelHouse$Plates", kT_23, 7),
  ("KeelHouse$Cargo", kT_24, 2),
  ("KeelHouse$Job", kT_25, 11),
  ("KeelHouse$Item", kT_26, 4),
  ("KeelHouse$Kind", kT_27, 6),
  ("KeelHouse$Delivery", kT_28, 3),
  ("java/util/Optional", kT_29, 1),
  ("KeelHouse$Nest", kT_30, 4),
  ("KeelHouse$Offcut", kT_31, 3),
  ("KeelHouse$Pipe", kT_32, 6),
  ("KeelHouse$Buyer", kT_33, 10),
  ("KeelHouse$Port", kT_34, 4),
  ("KeelHouse$Lot", kT_35, 10),
  ("java/lang/StringBuilder", kT_36, 4),
  ("KeelHouseModel", kT_37, 18),
  ("KeelHouseModel$Ship", kT_38, 37),
  ("KeelHouseModel$Works", kT_39, 6),
  ("KeelHouseModel$Lot", kT_40, 9)]
/-- the sorts and numbers of the fields: 0 int, 1 long, 2 double, 3 reference, 4 boolean, 5 byte -/
def kFl : List (List (Nat × Nat)) := [[],
  [(3, 1), (3, 2), (3, 3), (3, 4), (3, 5), (3, 6), (3, 7), (3, 8), (0, 9), (0, 10), (0, 11), (0, 12), (1, 13)],
  [(0, 14)],
  [(3, 15), (0, 16), (0, 17)],
  [(3, 18), (3, 19), (3, 20)],
  [(0, 21), (3, 22), (0, 23)],
  [(3, 24)],
  [(3, 25), (3, 26), (0, 27), (0, 28), (0, 29), (0, 30), (3, 31), (3, 32)],
  [(3, 33), (3, 34)],
  [(3, 35), (3, 36), (3, 37), (3, 38)],
  [(3, 39), (3, 40), (0, 41), (0, 42)],
  [(0, 43), (0, 44), (0, 45), (3, 46)],
  [(3, 47), (3, 48), (3, 49), (4, 50)],
  [(3, 51), (3, 52), (3, 53), (3, 54)],
  [(3, 55), (5, 56)],
  [(3, 59), (0, 60), (0, 61)],
  [(0, 62), (0, 63), (0, 64), (3, 65), (3, 66)],
  [(3, 67), (2, 68), (2, 69), (2, 70), (2, 71), (2, 72)],
  [(3, 73), (0, 74), (2, 75)],
  [(3, 76), (3, 77), (3, 78), (3, 79), (3, 80), (3, 81), (3, 82), (2, 83), (0, 84), (0, 85)],
  [(3, 86), (3, 87), (0, 88)],
  [(1, 89), (2, 90), (3, 91)],
  [(0, 92), (3, 93), (3, 94), (3, 95), (3, 96), (3, 97), (3, 98), (3, 99), (3, 100), (3, 101), (3, 102), (3, 103), (3, 104), (3, 105), (0, 106), (0, 107), (4, 108), (0, 109), (0, 110), (4, 111), (4, 112), (3, 113), (2, 114), (0, 115), (0, 116), (0, 117), (0, 118)],
  [(3, 119), (0, 120), (0, 121), (0, 122), (0, 123), (0, 124), (0, 125)],
  [(3, 126), (0, 127)],
  [(0, 128), (0, 129), (0, 130), (3, 131), (0, 132), (0, 133), (4, 134), (4, 135), (0, 136), (0, 137), (0, 138)],
  [(0, 139), (0, 140), (0, 141), (0, 142)],
  [(0, 143), (0, 144), (0, 145), (0, 146), (0, 147), (0, 148)],
  [(3, 149), (0, 150), (0, 151)],
  [(3, 152)],
  [(3, 153), (0, 154), (0, 155), (4, 156)],
  [(3, 157), (0, 158), (0, 159)],
  [(0, 160), (0, 161), (0, 162), (4, 163), (4, 164), (0, 165)],
  [(0, 166), (0, 167), (0, 168), (0, 169), (0, 170), (0, 171), (3, 172), (0, 173), (0, 174), (0, 175)],
  [(0, 176), (0, 177), (0, 178), (0, 179)],
  [(0, 180), (3, 181), (3, 182), (0, 183), (0, 184), (0, 185), (0, 186), (3, 187), (0, 188), (2, 189)],
  [(3, 190), (5, 191), (4, 192), (0, 193)],
  [(0, 194), (3, 195), (0, 196), (0, 197), (0, 198), (0, 199), (0, 200), (0, 201), (3, 202), (3, 203), (3, 204), (3, 205), (3, 206), (3, 207), (3, 208), (3, 209), (0, 210), (0, 211)],
  [(0, 212), (0, 213), (0, 214), (3, 215), (0, 216), (0, 217), (3, 218), (3, 219), (0, 220), (3, 221), (3, 222), (3, 223), (3, 224), (0, 225), (0, 226), (0, 227), (4, 228), (3, 229), (3, 230), (3, 231), (3, 232), (0, 233), (3, 234), (0, 235), (0, 236), (0, 237), (2, 238), (4, 239), (0, 240), (0, 241), (0, 242), (3, 243), (3, 244), (3, 245), (3, 246), (3, 247), (3, 248)],
  [(3, 249), (3, 250), (3, 251), (3, 252), (4, 253), (3, 254)],
  [(0, 255), (0, 256), (0, 257), (0, 258), (0, 259), (0, 260), (0, 261), (0, 262), (2, 263)]]
def kEn : List (Nat × String) := []
/-- the constants of enums: the number of the static, the class -/
def eTb : List (Nat × String) := [(9, "KeelHouse$Sea$1"), (10, "KeelHouse$Sea$2"), (11, "KeelHouse$Sea$3"), (12, "KeelHouse$Form$1"), (13, "KeelHouse$Form$2"), (14, "KeelHouse$Form$3"), (15, "KeelHouse$Stage$1"), (16, "KeelHouse$Stage$2"), (17, "KeelHouse$Account$1"), (18, "KeelHouse$Stage$5"), (19, "KeelHouse$Stage$3"), (20, "KeelHouse$Account$2"), (21, "KeelHouse$Account$3"), (22, "KeelHouse$Account$8"), (23, "KeelHouse$Account$9"), (24, "KeelHouse$Stage$4"), (25, "KeelHouse$Stage$6"), (26, "KeelHouse$Account$6"), (27, "KeelHouse$Account$7"), (28, "KeelHouse$Spot$5"), (29, "KeelHouse$Spot$4"), (30, "KeelHouse$Spot$3"), (31, "KeelHouse$Spot$2"), (32, "KeelHouse$Spot$1"), (33, "KeelHouse$Spot$6"), (34, "KeelHouse$Account$4"), (35, "KeelHouse$Account$5"), (58, "KeelHouse$Rule$7"), (59, "KeelHouse$Rule$6"), (60, "KeelHouse$Rule$5"), (61, "KeelHouse$Rule$4"), (62, "KeelHouse$Rule$3"), (63, "KeelHouse$Rule$2"), (64, "KeelHouse$Rule$1"), (65, "KeelHouse$Rule$8")]
def kAr : List FieldType := [.int, .boolean, .byte, .double, .object "KeelHouse$Ship", .object "KeelHouse$Plates", .object "KeelHouse$Tank", .object "KeelHouse$Cargo", .object "KeelHouse$Job", .array .int, .object "java/lang/String", .object "java/lang/Object"]
/-- what the numbers of constants stand for: 0 a static, 1 a text, 2 a class object -/
def gTb : List (Nat × String × String × String) := [(0, "", "", ""),
  (0, "java/util/ArrayList", "DEFAULTCAPACITY_EMPTY_ELEMENTDATA", "[Ljava/lang/Object;"),
  (1, "Index: ", "", ""),
  (1, ", Size: ", "", ""),
  (0, "jdk/internal/util/Preconditions", "SIOOBE_FORMATTER", "Ljava/util/function/BiFunction;"),
  (0, "java/lang/Integer", "DigitOnes", "[B"),
  (0, "java/lang/Integer", "DigitTens", "[B"),
  (2, "[Ljava/lang/Object;", "", ""),
  (0, "java/util/Optional", "EMPTY", "Ljava/util/Optional;"),
  (0, "KeelHouse$Sea", "STILL", "LKeelHouse$Sea;"),
  (0, "KeelHouse$Sea", "HOLLOW", "LKeelHouse$Sea;"),
  (0, "KeelHouse$Sea", "CREST", "LKeelHouse$Sea;"),
  (0, "KeelHouse$Form", "BOX", "LKeelHouse$Form;"),
  (0, "KeelHouse$Form", "FULL", "LKeelHouse$Form;"),
  (0, "KeelHouse$Form", "FINE", "LKeelHouse$Form;"),
  (0, "KeelHouse$Stage", "DRAWN", "LKeelHouse$Stage;"),
  (0, "KeelHouse$Stage", "SLIP", "LKeelHouse$Stage;"),
  (0, "KeelHouse$Account", "STEEL", "LKeelHouse$Account;"),
  (0, "KeelHouse$Stage", "LOST", "LKeelHouse$Stage;"),
  (0, "KeelHouse$Stage", "AFLOAT", "LKeelHouse$Stage;"),
  (0, "KeelHouse$Account", "WAGES", "LKeelHouse$Account;"),
  (0, "KeelHouse$Account", "SPOTS", "LKeelHouse$Account;"),
  (0, "KeelHouse$Account", "MENDING", "LKeelHouse$Account;"),
  (0, "KeelHouse$Account", "PIPES", "LKeelHouse$Account;"),
  (0, "KeelHouse$Stage", "READY", "LKeelHouse$Stage;"),
  (0, "KeelHouse$Stage", "SOLD", "LKeelHouse$Stage;"),
  (0, "KeelHouse$Account", "FUEL", "LKeelHouse$Account;"),
  (0, "KeelHouse$Account", "FREIGHT", "LKeelHouse$Account;"),
  (0, "KeelHouse$Spot", "BERTH", "LKeelHouse$Spot;"),
  (0, "KeelHouse$Spot", "SMALL_BERTH", "LKeelHouse$Spot;"),
  (0, "KeelHouse$Spot", "DOCK", "LKeelHouse$Spot;"),
  (0, "KeelHouse$Spot", "GREAT_SLIP", "LKeelHouse$Spot;"),
  (0, "KeelHouse$Spot", "SMALL_SLIP", "LKeelHouse$Spot;"),
  (0, "KeelHouse$Spot", "GREAT_BERTH", "LKeelHouse$Spot;"),
  (0, "KeelHouse$Account", "CONTRACTS", "LKeelHouse$Account;"),
  (0, "KeelHouse$Account", "FINES", "LKeelHouse$Account;"),
  (0, "KeelHouseModel", "DEEP", "[I"),
  (0, "KeelHouseModel", "MOON", "[I"),
  (0, "KeelHouseModel", "SPRING", "[I"),
  (0, "KeelHouseModel", "ROOM", "[I"),
  (1, "", "", ""),
  (1, "drawn", "", ""),
  (1, "slip", "", ""),
  (1, "afloat", "", ""),
  (1, "ready", "", ""),
  (1, "lost", "", ""),
  (1, "sold", "", ""),
  (1, " ", "", ""),
  (1, " at ", "", ""),
  (1, " at sea", "", ""),
  (1, " at port ", "", ""),
  (0, "KeelHouseModel", "ALONG_FORMS", "[[I"),
  (0, "KeelHouseModel", "UP_FORMS", "[[I"),
  (0, "KeelHouseModel", "SIMPSON", "[D"),
  (0, "KeelHouseModel", "ANGLES", "[D"),
  (0, "KeelHouseModel", "SEAS", "[[I"),
  (0, "KeelHouseModel", "HOME", "[I"),
  (0, "KeelHouseModel", "ORDER", "[I"),
  (0, "KeelHouse$Rule", "LEVEL", "LKeelHouse$Rule;"),
  (0, "KeelHouse$Rule", "SPARE", "LKeelHouse$Rule;"),
  (0, "KeelHouse$Rule", "FAST", "LKeelHouse$Rule;"),
  (0, "KeelHouse$Rule", "SURVIVES", "LKeelHouse$Rule;"),
  (0, "KeelHouse$Rule", "STRONG", "LKeelHouse$Rule;"),
  (0, "KeelHouse$Rule", "STABLE", "LKeelHouse$Rule;"),
  (0, "KeelHouse$Rule", "FLOATS", "LKeelHouse$Rule;"),
  (0, "KeelHouse$Rule", "CLEAN", "LKeelHouse$Rule;"),
  (1, "3688862", "", ""),
  (1, "47888", "", ""),
  (1, "1478630", "", ""),
  (1, "14688", "", "")]
