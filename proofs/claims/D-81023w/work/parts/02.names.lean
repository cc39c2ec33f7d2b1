/-! LAYER 0b: the classes of the claim, their fields, their links (printed by gen/mk02.py out of claim/names and WORDS.tsv) -/
set_option maxRecDepth 100000
def hRn : Nat → String := fun c => match c with
  | 0 => "HintHouse"
  | 1 => "HintHouse$Bytes"
  | 2 => "HintHouse$Font"
  | 3 => "HintHouse$Glyph"
  | 4 => "HintHouse$Machine"
  | 5 => "HintHouse$Store"
  | 6 => "HintHouse$Zone"
  | 7 => "HintHouse$Settings"
  | 8 => "HintHouse$Maker"
  | 9 => "HintHouse$Outline"
  | 10 => "HintHouse$Inside"
  | 11 => "HintHouseModel"
  | 12 => "java/lang/Math"
  | _ => "HintHouseLaw"
def hT0 : u_T := fun k => match k with
  | 0 => ("HintHouse", "fed", "LHintHouse$Bytes;", true)
  | 1 => ("HintHouse", "font", "LHintHouse$Font;", true)
  | 2 => ("HintHouse", "loaded", "Z", false)
  | 3 => ("HintHouse", "machine", "LHintHouse$Machine;", true)
  | 4 => ("HintHouse", "maker", "LHintHouse$Maker;", true)
  | 5 => ("HintHouse", "asked", "LHintHouse$Glyph;", true)
  | 6 => ("HintHouse", "ppem", "I", false)
  | 7 => ("HintHouse", "made", "LHintHouse$Outline;", false)
  | 8 => ("HintHouse", "advance", "I", false)
  | 9 => ("HintHouse", "inside", "LHintHouse$Inside;", true)
  | 10 => ("HintHouse", "steps", "I", false)
  | 11 => ("HintHouse", "failed", "I", false)
  | 12 => ("HintHouse", "failure", "I", false)
  | 13 => ("HintHouse", "failedAt", "I", false)
  | 14 => ("HintHouse", "width", "I", false)
  | 15 => ("HintHouse", "height", "I", false)
  | 16 => ("HintHouse", "canvas", "[Z", true)
  | 17 => ("HintHouse", "codes", "[I", true)
  | _ => ("HintHouse", "codeMany", "I", false)
def hTy0 : Nat → FieldType := fun k => match k with
  | 0 => (.object "HintHouse$Bytes")
  | 1 => (.object "HintHouse$Font")
  | 2 => .boolean
  | 3 => (.object "HintHouse$Machine")
  | 4 => (.object "HintHouse$Maker")
  | 5 => (.object "HintHouse$Glyph")
  | 6 => .int
  | 7 => (.object "HintHouse$Outline")
  | 8 => .int
  | 9 => (.object "HintHouse$Inside")
  | 10 => .int
  | 11 => .int
  | 12 => .int
  | 13 => .int
  | 14 => .int
  | 15 => .int
  | 16 => (.array .boolean)
  | 17 => (.array .int)
  | _ => .int
def hT1 : u_T := fun k => match k with
  | 0 => ("HintHouse$Bytes", "row", "[B", true)
  | _ => ("HintHouse$Bytes", "size", "I", false)
def hTy1 : Nat → FieldType := fun k => match k with
  | 0 => (.array .byte)
  | _ => .int
def hT2 : u_T := fun k => match k with
  | 0 => ("HintHouse$Font", "bytes", "LHintHouse$Bytes;", true)
  | 1 => ("HintHouse$Font", "tables", "I", false)
  | 2 => ("HintHouse$Font", "tags", "[J", true)
  | 3 => ("HintHouse$Font", "sums", "[J", true)
  | 4 => ("HintHouse$Font", "begins", "[J", true)
  | 5 => ("HintHouse$Font", "lengths", "[J", true)
  | 6 => ("HintHouse$Font", "units", "I", false)
  | 7 => ("HintHouse$Font", "form", "I", false)
  | 8 => ("HintHouse$Font", "glyphs", "I", false)
  | 9 => ("HintHouse$Font", "zones", "I", false)
  | 10 => ("HintHouse$Font", "twilight", "I", false)
  | 11 => ("HintHouse$Font", "storage", "I", false)
  | 12 => ("HintHouse$Font", "functions", "I", false)
  | 13 => ("HintHouse$Font", "ownCodes", "I", false)
  | 14 => ("HintHouse$Font", "stack", "I", false)
  | 15 => ("HintHouse$Font", "depth", "I", false)
  | 16 => ("HintHouse$Font", "metrics", "I", false)
  | 17 => ("HintHouse$Font", "hmtx", "I", false)
  | 18 => ("HintHouse$Font", "loca", "I", false)
  | 19 => ("HintHouse$Font", "glyf", "I", false)
  | 20 => ("HintHouse$Font", "map", "I", false)
  | 21 => ("HintHouse$Font", "mapForm", "I", false)
  | 22 => ("HintHouse$Font", "mapMany", "I", false)
  | 23 => ("HintHouse$Font", "pairs", "I", false)
  | 24 => ("HintHouse$Font", "pairsAt", "I", false)
  | 25 => ("HintHouse$Font", "cvt", "I", false)
  | 26 => ("HintHouse$Font", "cvtMany", "I", false)
  | 27 => ("HintHouse$Font", "fpgm", "I", false)
  | 28 => ("HintHouse$Font", "fpgmSize", "I", false)
  | 29 => ("HintHouse$Font", "prep", "I", false)
  | 30 => ("HintHouse$Font", "prepSize", "I", false)
  | 31 => ("HintHouse$Font", "glyph", "LHintHouse$Glyph;", true)
  | _ => ("HintHouse$Font", "depths", "[I", true)
def hTy2 : Nat → FieldType := fun k => match k with
  | 0 => (.object "HintHouse$Bytes")
  | 1 => .int
  | 2 => (.array .long)
  | 3 => (.array .long)
  | 4 => (.array .long)
  | 5 => (.array .long)
  | 6 => .int
  | 7 => .int
  | 8 => .int
  | 9 => .int
  | 10 => .int
  | 11 => .int
  | 12 => .int
  | 13 => .int
  | 14 => .int
  | 15 => .int
  | 16 => .int
  | 17 => .int
  | 18 => .int
  | 19 => .int
  | 20 => .int
  | 21 => .int
  | 22 => .int
  | 23 => .int
  | 24 => .int
  | 25 => .int
  | 26 => .int
  | 27 => .int
  | 28 => .int
  | 29 => .int
  | 30 => .int
  | 31 => (.object "HintHouse$Glyph")
  | _ => (.array .int)
def hT3 : u_T := fun k => match k with
  | 0 => ("HintHouse$Glyph", "contours", "I", false)
  | 1 => ("HintHouse$Glyph", "left", "I", false)
  | 2 => ("HintHouse$Glyph", "points", "I", false)
  | 3 => ("HintHouse$Glyph", "ends", "[I", true)
  | 4 => ("HintHouse$Glyph", "x", "[I", true)
  | 5 => ("HintHouse$Glyph", "y", "[I", true)
  | 6 => ("HintHouse$Glyph", "flags", "[I", true)
  | 7 => ("HintHouse$Glyph", "program", "I", false)
  | 8 => ("HintHouse$Glyph", "programSize", "I", false)
  | 9 => ("HintHouse$Glyph", "parts", "I", false)
  | 10 => ("HintHouse$Glyph", "partFlags", "[I", true)
  | 11 => ("HintHouse$Glyph", "partGlyph", "[I", true)
  | 12 => ("HintHouse$Glyph", "first", "[I", true)
  | 13 => ("HintHouse$Glyph", "second", "[I", true)
  | 14 => ("HintHouse$Glyph", "matrix", "[I", true)
  | 15 => ("HintHouse$Glyph", "bytes", "LHintHouse$Bytes;", false)
  | 16 => ("HintHouse$Glyph", "at", "I", false)
  | _ => ("HintHouse$Glyph", "end", "I", false)
def hTy3 : Nat → FieldType := fun k => match k with
  | 0 => .int
  | 1 => .int
  | 2 => .int
  | 3 => (.array .int)
  | 4 => (.array .int)
  | 5 => (.array .int)
  | 6 => (.array .int)
  | 7 => .int
  | 8 => .int
  | 9 => .int
  | 10 => (.array .int)
  | 11 => (.array .int)
  | 12 => (.array .int)
  | 13 => (.array .int)
  | 14 => (.array .int)
  | 15 => (.object "HintHouse$Bytes")
  | 16 => .int
  | _ => .int
def hT4 : u_T := fun k => match k with
  | 0 => ("HintHouse$Machine", "font", "LHintHouse$Font;", true)
  | 1 => ("HintHouse$Machine", "store", "LHintHouse$Store;", true)
  | 2 => ("HintHouse$Machine", "glyph", "LHintHouse$Zone;", true)
  | 3 => ("HintHouse$Machine", "outline", "LHintHouse$Outline;", false)
  | 4 => ("HintHouse$Machine", "ppem", "I", false)
  | 5 => ("HintHouse$Machine", "steps", "I", false)
  | 6 => ("HintHouse$Machine", "high", "I", false)
  | 7 => ("HintHouse$Machine", "program", "I", false)
  | 8 => ("HintHouse$Machine", "running", "I", false)
  | 9 => ("HintHouse$Machine", "begins", "[I", true)
  | 10 => ("HintHouse$Machine", "sizes", "[I", true)
  | 11 => ("HintHouse$Machine", "pc", "I", false)
  | 12 => ("HintHouse$Machine", "at", "I", false)
  | 13 => ("HintHouse$Machine", "stop", "I", false)
  | 14 => ("HintHouse$Machine", "stack", "[I", true)
  | 15 => ("HintHouse$Machine", "top", "I", false)
  | 16 => ("HintHouse$Machine", "calls", "I", false)
  | 17 => ("HintHouse$Machine", "callProgram", "[I", true)
  | 18 => ("HintHouse$Machine", "callPc", "[I", true)
  | 19 => ("HintHouse$Machine", "callMore", "[I", true)
  | 20 => ("HintHouse$Machine", "callStart", "[I", true)
  | 21 => ("HintHouse$Machine", "callBody", "[I", true)
  | 22 => ("HintHouse$Machine", "functionProgram", "[I", true)
  | 23 => ("HintHouse$Machine", "functionStart", "[I", true)
  | 24 => ("HintHouse$Machine", "owns", "I", false)
  | 25 => ("HintHouse$Machine", "ownCode", "[I", true)
  | 26 => ("HintHouse$Machine", "ownProgram", "[I", true)
  | 27 => ("HintHouse$Machine", "ownStart", "[I", true)
  | 28 => ("HintHouse$Machine", "fx", "I", false)
  | 29 => ("HintHouse$Machine", "fy", "I", false)
  | 30 => ("HintHouse$Machine", "px", "I", false)
  | 31 => ("HintHouse$Machine", "py", "I", false)
  | 32 => ("HintHouse$Machine", "dx", "I", false)
  | 33 => ("HintHouse$Machine", "dy", "I", false)
  | 34 => ("HintHouse$Machine", "turnX", "I", false)
  | 35 => ("HintHouse$Machine", "turnY", "I", false)
  | 36 => ("HintHouse$Machine", "rp", "[I", true)
  | 37 => ("HintHouse$Machine", "zp", "[I", true)
  | 38 => ("HintHouse$Machine", "loop", "I", false)
  | 39 => ("HintHouse$Machine", "rounds", "Z", false)
  | 40 => ("HintHouse$Machine", "period", "I", false)
  | 41 => ("HintHouse$Machine", "phase", "I", false)
  | _ => ("HintHouse$Machine", "threshold", "I", false)
def hTy4 : Nat → FieldType := fun k => match k with
  | 0 => (.object "HintHouse$Font")
  | 1 => (.object "HintHouse$Store")
  | 2 => (.object "HintHouse$Zone")
  | 3 => (.object "HintHouse$Outline")
  | 4 => .int
  | 5 => .int
  | 6 => .int
  | 7 => .int
  | 8 => .int
  | 9 => (.array .int)
  | 10 => (.array .int)
  | 11 => .int
  | 12 => .int
  | 13 => .int
  | 14 => (.array .int)
  | 15 => .int
  | 16 => .int
  | 17 => (.array .int)
  | 18 => (.array .int)
  | 19 => (.array .int)
  | 20 => (.array .int)
  | 21 => (.array .int)
  | 22 => (.array .int)
  | 23 => (.array .int)
  | 24 => .int
  | 25 => (.array .int)
  | 26 => (.array .int)
  | 27 => (.array .int)
  | 28 => .int
  | 29 => .int
  | 30 => .int
  | 31 => .int
  | 32 => .int
  | 33 => .int
  | 34 => .int
  | 35 => .int
  | 36 => (.array .int)
  | 37 => (.array .int)
  | 38 => .int
  | 39 => .boolean
  | 40 => .int
  | 41 => .int
  | _ => .int
def hT5 : u_T := fun k => match k with
  | 0 => ("HintHouse$Store", "cvt", "[I", true)
  | 1 => ("HintHouse$Store", "cvtMany", "I", false)
  | 2 => ("HintHouse$Store", "storage", "[I", true)
  | 3 => ("HintHouse$Store", "storageMany", "I", false)
  | 4 => ("HintHouse$Store", "twilight", "LHintHouse$Zone;", true)
  | _ => ("HintHouse$Store", "settings", "LHintHouse$Settings;", true)
def hTy5 : Nat → FieldType := fun k => match k with
  | 0 => (.array .int)
  | 1 => .int
  | 2 => (.array .int)
  | 3 => .int
  | 4 => (.object "HintHouse$Zone")
  | _ => (.object "HintHouse$Settings")
def hT6 : u_T := fun k => match k with
  | 0 => ("HintHouse$Zone", "oldX", "[I", true)
  | 1 => ("HintHouse$Zone", "oldY", "[I", true)
  | 2 => ("HintHouse$Zone", "x", "[I", true)
  | 3 => ("HintHouse$Zone", "y", "[I", true)
  | 4 => ("HintHouse$Zone", "touchedX", "[Z", true)
  | 5 => ("HintHouse$Zone", "touchedY", "[Z", true)
  | _ => ("HintHouse$Zone", "many", "I", false)
def hTy6 : Nat → FieldType := fun k => match k with
  | 0 => (.array .int)
  | 1 => (.array .int)
  | 2 => (.array .int)
  | 3 => (.array .int)
  | 4 => (.array .boolean)
  | 5 => (.array .boolean)
  | _ => .int
def hT7 : u_T := fun k => match k with
  | 0 => ("HintHouse$Settings", "cut", "I", false)
  | 1 => ("HintHouse$Settings", "single", "I", false)
  | 2 => ("HintHouse$Settings", "singleCut", "I", false)
  | 3 => ("HintHouse$Settings", "least", "I", false)
  | 4 => ("HintHouse$Settings", "flip", "Z", false)
  | 5 => ("HintHouse$Settings", "base", "I", false)
  | 6 => ("HintHouse$Settings", "shift", "I", false)
  | 7 => ("HintHouse$Settings", "scan", "I", false)
  | _ => ("HintHouse$Settings", "scanKind", "I", false)
def hTy7 : Nat → FieldType := fun k => match k with
  | 0 => .int
  | 1 => .int
  | 2 => .int
  | 3 => .int
  | 4 => .boolean
  | 5 => .int
  | 6 => .int
  | 7 => .int
  | _ => .int
def hT8 : u_T := fun k => match k with
  | 0 => ("HintHouse$Maker", "font", "LHintHouse$Font;", true)
  | 1 => ("HintHouse$Maker", "machine", "LHintHouse$Machine;", true)
  | 2 => ("HintHouse$Maker", "size", "LHintHouse$Store;", true)
  | 3 => ("HintHouse$Maker", "outlines", "[LHintHouse$Outline;", true)
  | 4 => ("HintHouse$Maker", "glyphs", "[LHintHouse$Glyph;", true)
  | 5 => ("HintHouse$Maker", "parts", "I", false)
  | 6 => ("HintHouse$Maker", "scan", "I", false)
  | _ => ("HintHouse$Maker", "scanKind", "I", false)
def hTy8 : Nat → FieldType := fun k => match k with
  | 0 => (.object "HintHouse$Font")
  | 1 => (.object "HintHouse$Machine")
  | 2 => (.object "HintHouse$Store")
  | 3 => (.array (.object "HintHouse$Outline"))
  | 4 => (.array (.object "HintHouse$Glyph"))
  | 5 => .int
  | 6 => .int
  | _ => .int
def hT9 : u_T := fun k => match k with
  | 0 => ("HintHouse$Outline", "x", "[I", true)
  | 1 => ("HintHouse$Outline", "y", "[I", true)
  | 2 => ("HintHouse$Outline", "on", "[Z", true)
  | 3 => ("HintHouse$Outline", "points", "I", false)
  | 4 => ("HintHouse$Outline", "ends", "[I", true)
  | 5 => ("HintHouse$Outline", "contours", "I", false)
  | 6 => ("HintHouse$Outline", "phantomX", "[I", true)
  | _ => ("HintHouse$Outline", "phantomY", "[I", true)
def hTy9 : Nat → FieldType := fun k => match k with
  | 0 => (.array .int)
  | 1 => (.array .int)
  | 2 => (.array .boolean)
  | 3 => .int
  | 4 => (.array .int)
  | 5 => .int
  | 6 => (.array .int)
  | _ => (.array .int)
def hT10 : u_T := fun k => match k with
  | 0 => ("HintHouse$Inside", "ax", "[I", true)
  | 1 => ("HintHouse$Inside", "ay", "[I", true)
  | 2 => ("HintHouse$Inside", "bx", "[I", true)
  | 3 => ("HintHouse$Inside", "by", "[I", true)
  | 4 => ("HintHouse$Inside", "cx", "[I", true)
  | 5 => ("HintHouse$Inside", "cy", "[I", true)
  | 6 => ("HintHouse$Inside", "line", "[Z", true)
  | 7 => ("HintHouse$Inside", "many", "I", false)
  | 8 => ("HintHouse$Inside", "lastX", "I", false)
  | 9 => ("HintHouse$Inside", "lastY", "I", false)
  | 10 => ("HintHouse$Inside", "waits", "Z", false)
  | 11 => ("HintHouse$Inside", "waitX", "I", false)
  | 12 => ("HintHouse$Inside", "waitY", "I", false)
  | 13 => ("HintHouse$Inside", "isOn", "Z", false)
  | 14 => ("HintHouse$Inside", "a", "J", false)
  | 15 => ("HintHouse$Inside", "b", "J", false)
  | 16 => ("HintHouse$Inside", "c", "J", false)
  | 17 => ("HintHouse$Inside", "d", "J", false)
  | 18 => ("HintHouse$Inside", "e", "J", false)
  | _ => ("HintHouse$Inside", "f", "J", false)
def hTy10 : Nat → FieldType := fun k => match k with
  | 0 => (.array .int)
  | 1 => (.array .int)
  | 2 => (.array .int)
  | 3 => (.array .int)
  | 4 => (.array .int)
  | 5 => (.array .int)
  | 6 => (.array .boolean)
  | 7 => .int
  | 8 => .int
  | 9 => .int
  | 10 => .boolean
  | 11 => .int
  | 12 => .int
  | 13 => .boolean
  | 14 => .long
  | 15 => .long
  | 16 => .long
  | 17 => .long
  | 18 => .long
  | _ => .long
def hT11 : u_T := fun k => match k with
  | 0 => ("HintHouseModel", "typed", "[B", false)
  | 1 => ("HintHouseModel", "typedMany", "I", false)
  | 2 => ("HintHouseModel", "font", "[B", false)
  | 3 => ("HintHouseModel", "fontMany", "I", false)
  | 4 => ("HintHouseModel", "isLoaded", "Z", false)
  | 5 => ("HintHouseModel", "tables", "I", false)
  | 6 => ("HintHouseModel", "tag", "[I", false)
  | 7 => ("HintHouseModel", "sum", "[J", false)
  | 8 => ("HintHouseModel", "begin", "[J", false)
  | 9 => ("HintHouseModel", "length", "[J", false)
  | 10 => ("HintHouseModel", "units", "I", false)
  | 11 => ("HintHouseModel", "form", "I", false)
  | 12 => ("HintHouseModel", "glyphs", "I", false)
  | 13 => ("HintHouseModel", "zones", "I", false)
  | 14 => ("HintHouseModel", "twilight", "I", false)
  | 15 => ("HintHouseModel", "storages", "I", false)
  | 16 => ("HintHouseModel", "functions", "I", false)
  | 17 => ("HintHouseModel", "ownCodes", "I", false)
  | 18 => ("HintHouseModel", "stackMost", "I", false)
  | 19 => ("HintHouseModel", "depthMost", "I", false)
  | 20 => ("HintHouseModel", "metrics", "I", false)
  | 21 => ("HintHouseModel", "mapAt", "I", false)
  | 22 => ("HintHouseModel", "mapForm", "I", false)
  | 23 => ("HintHouseModel", "mapMany", "I", false)
  | 24 => ("HintHouseModel", "pairs", "I", false)
  | 25 => ("HintHouseModel", "cvts", "I", false)
  | 26 => ("HintHouseModel", "gBegin", "I", false)
  | 27 => ("HintHouseModel", "gEnd", "I", false)
  | 28 => ("HintHouseModel", "gContours", "I", false)
  | 29 => ("HintHouseModel", "gPoints", "I", false)
  | 30 => ("HintHouseModel", "gParts", "I", false)
  | 31 => ("HintHouseModel", "gProgram", "I", false)
  | 32 => ("HintHouseModel", "gProgramMany", "I", false)
  | 33 => ("HintHouseModel", "gEnds", "[I", false)
  | 34 => ("HintHouseModel", "gX", "[I", false)
  | 35 => ("HintHouseModel", "gY", "[I", false)
  | 36 => ("HintHouseModel", "gFlag", "[I", false)
  | 37 => ("HintHouseModel", "pFlags", "[I", false)
  | 38 => ("HintHouseModel", "pGlyph", "[I", false)
  | 39 => ("HintHouseModel", "pOne", "[I", false)
  | 40 => ("HintHouseModel", "pTwo", "[I", false)
  | 41 => ("HintHouseModel", "pScale", "[I", false)
  | 42 => ("HintHouseModel", "within", "[Z", false)
  | 43 => ("HintHouseModel", "withinNow", "[Z", false)
  | 44 => ("HintHouseModel", "cvt", "[I", false)
  | 45 => ("HintHouseModel", "storage", "[I", false)
  | 46 => ("HintHouseModel", "ox", "[I", false)
  | 47 => ("HintHouseModel", "oy", "[I", false)
  | 48 => ("HintHouseModel", "cx", "[I", false)
  | 49 => ("HintHouseModel", "cy", "[I", false)
  | 50 => ("HintHouseModel", "touched", "[I", false)
  | 51 => ("HintHouseModel", "on", "[Z", false)
  | 52 => ("HintHouseModel", "zoneMany", "I", false)
  | 53 => ("HintHouseModel", "contours", "I", false)
  | 54 => ("HintHouseModel", "ends", "[I", false)
  | 55 => ("HintHouseModel", "stack", "[I", false)
  | 56 => ("HintHouseModel", "top", "I", false)
  | 57 => ("HintHouseModel", "peak", "I", false)
  | 58 => ("HintHouseModel", "steps", "I", false)
  | 59 => ("HintHouseModel", "failure", "I", false)
  | 60 => ("HintHouseModel", "failurePlace", "I", false)
  | 61 => ("HintHouseModel", "codeAt", "I", false)
  | 62 => ("HintHouseModel", "ppem", "I", false)
  | 63 => ("HintHouseModel", "fx", "I", false)
  | 64 => ("HintHouseModel", "fy", "I", false)
  | 65 => ("HintHouseModel", "px", "I", false)
  | 66 => ("HintHouseModel", "py", "I", false)
  | 67 => ("HintHouseModel", "dx", "I", false)
  | 68 => ("HintHouseModel", "dy", "I", false)
  | 69 => ("HintHouseModel", "rp0", "I", false)
  | 70 => ("HintHouseModel", "rp1", "I", false)
  | 71 => ("HintHouseModel", "rp2", "I", false)
  | 72 => ("HintHouseModel", "zp0", "I", false)
  | 73 => ("HintHouseModel", "zp1", "I", false)
  | 74 => ("HintHouseModel", "zp2", "I", false)
  | 75 => ("HintHouseModel", "loop", "I", false)
  | 76 => ("HintHouseModel", "rounding", "I", false)
  | 77 => ("HintHouseModel", "period", "I", false)
  | 78 => ("HintHouseModel", "phase", "I", false)
  | 79 => ("HintHouseModel", "threshold", "I", false)
  | 80 => ("HintHouseModel", "cut", "I", false)
  | 81 => ("HintHouseModel", "single", "I", false)
  | 82 => ("HintHouseModel", "singleCut", "I", false)
  | 83 => ("HintHouseModel", "least", "I", false)
  | 84 => ("HintHouseModel", "flip", "Z", false)
  | 85 => ("HintHouseModel", "base", "I", false)
  | 86 => ("HintHouseModel", "shift", "I", false)
  | 87 => ("HintHouseModel", "scan", "I", false)
  | 88 => ("HintHouseModel", "scanKind", "I", false)
  | 89 => ("HintHouseModel", "programAt", "[I", false)
  | 90 => ("HintHouseModel", "programMany", "[I", false)
  | 91 => ("HintHouseModel", "running", "I", false)
  | 92 => ("HintHouseModel", "now", "I", false)
  | 93 => ("HintHouseModel", "pc", "I", false)
  | 94 => ("HintHouseModel", "functionAt", "[I", false)
  | 95 => ("HintHouseModel", "functionIn", "[I", false)
  | 96 => ("HintHouseModel", "ownAt", "[I", false)
  | 97 => ("HintHouseModel", "ownIn", "[I", false)
  | 98 => ("HintHouseModel", "ownMany", "I", false)
  | 99 => ("HintHouseModel", "frames", "I", false)
  | 100 => ("HintHouseModel", "frameIn", "[I", false)
  | 101 => ("HintHouseModel", "framePc", "[I", false)
  | 102 => ("HintHouseModel", "frameOf", "[I", false)
  | 103 => ("HintHouseModel", "frameAt", "[I", false)
  | 104 => ("HintHouseModel", "frameLeft", "[I", false)
  | 105 => ("HintHouseModel", "directionX", "I", false)
  | 106 => ("HintHouseModel", "directionY", "I", false)
  | 107 => ("HintHouseModel", "hasSize", "Z", false)
  | 108 => ("HintHouseModel", "isMade", "Z", false)
  | 109 => ("HintHouseModel", "lastSteps", "I", false)
  | 110 => ("HintHouseModel", "failed", "I", false)
  | 111 => ("HintHouseModel", "lastFailure", "I", false)
  | 112 => ("HintHouseModel", "lastPlace", "I", false)
  | 113 => ("HintHouseModel", "sizeCvt", "[I", false)
  | 114 => ("HintHouseModel", "sizeStorage", "[I", false)
  | 115 => ("HintHouseModel", "sizeZone", "[I", false)
  | 116 => ("HintHouseModel", "kept", "[I", false)
  | 117 => ("HintHouseModel", "sizeTouched", "[I", false)
  | 118 => ("HintHouseModel", "lMany", "[I", false)
  | 119 => ("HintHouseModel", "lContours", "[I", false)
  | 120 => ("HintHouseModel", "lx", "[I", false)
  | 121 => ("HintHouseModel", "ly", "[I", false)
  | 122 => ("HintHouseModel", "lOn", "[Z", false)
  | 123 => ("HintHouseModel", "lEnds", "[I", false)
  | 124 => ("HintHouseModel", "lPhantom", "[I", false)
  | 125 => ("HintHouseModel", "parts", "I", false)
  | 126 => ("HintHouseModel", "madeScan", "I", false)
  | 127 => ("HintHouseModel", "madeKind", "I", false)
  | 128 => ("HintHouseModel", "mMany", "I", false)
  | 129 => ("HintHouseModel", "mContours", "I", false)
  | 130 => ("HintHouseModel", "mx", "[I", false)
  | 131 => ("HintHouseModel", "my", "[I", false)
  | 132 => ("HintHouseModel", "mOn", "[Z", false)
  | 133 => ("HintHouseModel", "mEnds", "[I", false)
  | 134 => ("HintHouseModel", "mAdvance", "I", false)
  | 135 => ("HintHouseModel", "nodes", "I", false)
  | 136 => ("HintHouseModel", "nx", "[I", false)
  | 137 => ("HintHouseModel", "ny", "[I", false)
  | 138 => ("HintHouseModel", "nOn", "[Z", false)
  | 139 => ("HintHouseModel", "turns", "I", false)
  | 140 => ("HintHouseModel", "isOn", "Z", false)
  | 141 => ("HintHouseModel", "wide", "I", false)
  | 142 => ("HintHouseModel", "tall", "I", false)
  | 143 => ("HintHouseModel", "pixel", "[Z", false)
  | 144 => ("HintHouseModel", "codes", "I", false)
  | _ => ("HintHouseModel", "code", "[I", false)
def hTy11 : Nat → FieldType := fun k => match k with
  | 0 => (.array .byte)
  | 1 => .int
  | 2 => (.array .byte)
  | 3 => .int
  | 4 => .boolean
  | 5 => .int
  | 6 => (.array .int)
  | 7 => (.array .long)
  | 8 => (.array .long)
  | 9 => (.array .long)
  | 10 => .int
  | 11 => .int
  | 12 => .int
  | 13 => .int
  | 14 => .int
  | 15 => .int
  | 16 => .int
  | 17 => .int
  | 18 => .int
  | 19 => .int
  | 20 => .int
  | 21 => .int
  | 22 => .int
  | 23 => .int
  | 24 => .int
  | 25 => .int
  | 26 => .int
  | 27 => .int
  | 28 => .int
  | 29 => .int
  | 30 => .int
  | 31 => .int
  | 32 => .int
  | 33 => (.array .int)
  | 34 => (.array .int)
  | 35 => (.array .int)
  | 36 => (.array .int)
  | 37 => (.array .int)
  | 38 => (.array .int)
  | 39 => (.array .int)
  | 40 => (.array .int)
  | 41 => (.array .int)
  | 42 => (.array .boolean)
  | 43 => (.array .boolean)
  | 44 => (.array .int)
  | 45 => (.array .int)
  | 46 => (.array .int)
  | 47 => (.array .int)
  | 48 => (.array .int)
  | 49 => (.array .int)
  | 50 => (.array .int)
  | 51 => (.array .boolean)
  | 52 => .int
  | 53 => .int
  | 54 => (.array .int)
  | 55 => (.array .int)
  | 56 => .int
  | 57 => .int
  | 58 => .int
  | 59 => .int
  | 60 => .int
  | 61 => .int
  | 62 => .int
  | 63 => .int
  | 64 => .int
  | 65 => .int
  | 66 => .int
  | 67 => .int
  | 68 => .int
  | 69 => .int
  | 70 => .int
  | 71 => .int
  | 72 => .int
  | 73 => .int
  | 74 => .int
  | 75 => .int
  | 76 => .int
  | 77 => .int
  | 78 => .int
  | 79 => .int
  | 80 => .int
  | 81 => .int
  | 82 => .int
  | 83 => .int
  | 84 => .boolean
  | 85 => .int
  | 86 => .int
  | 87 => .int
  | 88 => .int
  | 89 => (.array .int)
  | 90 => (.array .int)
  | 91 => .int
  | 92 => .int
  | 93 => .int
  | 94 => (.array .int)
  | 95 => (.array .int)
  | 96 => (.array .int)
  | 97 => (.array .int)
  | 98 => .int
  | 99 => .int
  | 100 => (.array .int)
  | 101 => (.array .int)
  | 102 => (.array .int)
  | 103 => (.array .int)
  | 104 => (.array .int)
  | 105 => .int
  | 106 => .int
  | 107 => .boolean
  | 108 => .boolean
  | 109 => .int
  | 110 => .int
  | 111 => .int
  | 112 => .int
  | 113 => (.array .int)
  | 114 => (.array .int)
  | 115 => (.array .int)
  | 116 => (.array .int)
  | 117 => (.array .int)
  | 118 => (.array .int)
  | 119 => (.array .int)
  | 120 => (.array .int)
  | 121 => (.array .int)
  | 122 => (.array .boolean)
  | 123 => (.array .int)
  | 124 => (.array .int)
  | 125 => .int
  | 126 => .int
  | 127 => .int
  | 128 => .int
  | 129 => .int
  | 130 => (.array .int)
  | 131 => (.array .int)
  | 132 => (.array .boolean)
  | 133 => (.array .int)
  | 134 => .int
  | 135 => .int
  | 136 => (.array .int)
  | 137 => (.array .int)
  | 138 => (.array .boolean)
  | 139 => .int
  | 140 => .boolean
  | 141 => .int
  | 142 => .int
  | 143 => (.array .boolean)
  | 144 => .int
  | _ => (.array .int)
def hcl : List vw_C := [("HintHouse", hT0, 19), ("HintHouse$Bytes", hT1, 2), ("HintHouse$Font", hT2, 33), ("HintHouse$Glyph", hT3, 18), ("HintHouse$Machine", hT4, 43), ("HintHouse$Store", hT5, 6), ("HintHouse$Zone", hT6, 7), ("HintHouse$Settings", hT7, 9), ("HintHouse$Maker", hT8, 8), ("HintHouse$Outline", hT9, 8), ("HintHouse$Inside", hT10, 20), ("HintHouseModel", hT11, 146)]
def hTT : Nat → u_T := fun c => match c with
  | 0 => hT0
  | 1 => hT1
  | 2 => hT2
  | 3 => hT3
  | 4 => hT4
  | 5 => hT5
  | 6 => hT6
  | 7 => hT7
  | 8 => hT8
  | 9 => hT9
  | 10 => hT10
  | _ => hT11
def hTyT : Nat → Nat → FieldType := fun c => match c with
  | 0 => hTy0
  | 1 => hTy1
  | 2 => hTy2
  | 3 => hTy3
  | 4 => hTy4
  | 5 => hTy5
  | 6 => hTy6
  | 7 => hTy7
  | 8 => hTy8
  | 9 => hTy9
  | 10 => hTy10
  | _ => hTy11
def hkT : List (List Nat) := [[4, 4, 1, 4, 4, 4, 0, 3, 0, 4, 0, 0, 0, 0, 0, 0, 4, 4, 0], [4, 0], [4, 0, 4, 4, 4, 4, 0, 0, 0, 0, 0, 0, 0, 0, 0, 0, 0, 0, 0, 0, 0, 0, 0, 0, 0, 0, 0, 0, 0, 0, 0, 4, 4], [0, 0, 0, 4, 4, 4, 4, 0, 0, 0, 4, 4, 4, 4, 4, 3, 0, 0], [4, 4, 4, 3, 0, 0, 0, 0, 0, 4, 4, 0, 0, 0, 4, 0, 0, 4, 4, 4, 4, 4, 4, 4, 0, 4, 4, 4, 0, 0, 0, 0, 0, 0, 0, 0, 4, 4, 0, 1, 0, 0, 0], [4, 0, 4, 0, 4, 4], [4, 4, 4, 4, 4, 4, 0], [0, 0, 0, 0, 1, 0, 0, 0, 0], [4, 4, 4, 4, 4, 0, 0, 0], [4, 4, 4, 0, 4, 0, 4, 4], [4, 4, 4, 4, 4, 4, 4, 0, 0, 0, 1, 0, 0, 1, 2, 2, 2, 2, 2, 2], [4, 0, 4, 0, 1, 0, 4, 4, 4, 4, 0, 0, 0, 0, 0, 0, 0, 0, 0, 0, 0, 0, 0, 0, 0, 0, 0, 0, 0, 0, 0, 0, 0, 4, 4, 4, 4, 4, 4, 4, 4, 4, 4, 4, 4, 4, 4, 4, 4, 4, 4, 4, 0, 0, 4, 4, 0, 0, 0, 0, 0, 0, 0, 0, 0, 0, 0, 0, 0, 0, 0, 0, 0, 0, 0, 0, 0, 0, 0, 0, 0, 0, 0, 0, 1, 0, 0, 0, 0, 4, 4, 0, 0, 0, 4, 4, 4, 4, 0, 0, 4, 4, 4, 4, 4, 0, 0, 1, 1, 0, 0, 0, 0, 4, 4, 4, 4, 4, 4, 4, 4, 4, 4, 4, 4, 0, 0, 0, 0, 0, 4, 4, 4, 4, 0, 0, 4, 4, 4, 0, 1, 0, 0, 4, 0, 4]]
def hk (c k : Nat) : Nat := (hkT.getD c []).getD k 9
def hnf (c : Nat) : Nat := (hkT.getD c []).length
theorem hin0 : ∀ w ∈ u_ws "HintHouse" hT0 19, w ∈ lw_all := by
  have e : u_ws "HintHouse" hT0 19 = [u_lay "HintHouse" hT0 0, u_lay "HintHouse" hT0 1, u_lay "HintHouse" hT0 2, u_lay "HintHouse" hT0 3, u_lay "HintHouse" hT0 4, u_lay "HintHouse" hT0 5, u_lay "HintHouse" hT0 6, u_lay "HintHouse" hT0 7, u_lay "HintHouse" hT0 8, u_lay "HintHouse" hT0 9, u_lay "HintHouse" hT0 10, u_lay "HintHouse" hT0 11, u_lay "HintHouse" hT0 12, u_lay "HintHouse" hT0 13, u_lay "HintHouse" hT0 14, u_lay "HintHouse" hT0 15, u_lay "HintHouse" hT0 16, u_lay "HintHouse" hT0 17, u_lay "HintHouse" hT0 18] := rfl
  rw [e]
  exact List.forall_mem_cons.mpr ⟨lw_g (lw_at lw_m3 235 rfl) rfl, List.forall_mem_cons.mpr ⟨lw_g (lw_at lw_m3 237 rfl) rfl, List.forall_mem_cons.mpr ⟨lw_g (lw_at lw_m3 239 rfl) rfl, List.forall_mem_cons.mpr ⟨lw_g (lw_at lw_m4 1 rfl) rfl, List.forall_mem_cons.mpr ⟨lw_g (lw_at lw_m4 3 rfl) rfl, List.forall_mem_cons.mpr ⟨lw_g (lw_at lw_m4 5 rfl) rfl, List.forall_mem_cons.mpr ⟨lw_g (lw_at lw_m4 7 rfl) rfl, List.forall_mem_cons.mpr ⟨lw_g (lw_at lw_m4 9 rfl) rfl, List.forall_mem_cons.mpr ⟨lw_g (lw_at lw_m4 11 rfl) rfl, List.forall_mem_cons.mpr ⟨lw_g (lw_at lw_m4 13 rfl) rfl, List.forall_mem_cons.mpr ⟨lw_g (lw_at lw_m4 15 rfl) rfl, List.forall_mem_cons.mpr ⟨lw_g (lw_at lw_m4 17 rfl) rfl, List.forall_mem_cons.mpr ⟨lw_g (lw_at lw_m4 19 rfl) rfl, List.forall_mem_cons.mpr ⟨lw_g (lw_at lw_m4 21 rfl) rfl, List.forall_mem_cons.mpr ⟨lw_g (lw_at lw_m4 23 rfl) rfl, List.forall_mem_cons.mpr ⟨lw_g (lw_at lw_m4 25 rfl) rfl, List.forall_mem_cons.mpr ⟨lw_g (lw_at lw_m4 27 rfl) rfl, List.forall_mem_cons.mpr ⟨lw_g (lw_at lw_m4 29 rfl) rfl, List.forall_mem_cons.mpr ⟨lw_g (lw_at lw_m4 31 rfl) rfl, fun _ h => absurd h List.not_mem_nil⟩⟩⟩⟩⟩⟩⟩⟩⟩⟩⟩⟩⟩⟩⟩⟩⟩⟩⟩
theorem hty0 : ∀ k, k < 19 → parseFieldDescriptor (hT0 k).2.2.1 = some (hTy0 k) := by decide +kernel
theorem hin1 : ∀ w ∈ u_ws "HintHouse$Bytes" hT1 2, w ∈ lw_all := by
  have e : u_ws "HintHouse$Bytes" hT1 2 = [u_lay "HintHouse$Bytes" hT1 0, u_lay "HintHouse$Bytes" hT1 1] := rfl
  rw [e]
  exact List.forall_mem_cons.mpr ⟨lw_g (lw_at lw_m1 37 rfl) rfl, List.forall_mem_cons.mpr ⟨lw_g (lw_at lw_m1 39 rfl) rfl, fun _ h => absurd h List.not_mem_nil⟩⟩
theorem hty1 : ∀ k, k < 2 → parseFieldDescriptor (hT1 k).2.2.1 = some (hTy1 k) := by decide +kernel
theorem hin2 : ∀ w ∈ u_ws "HintHouse$Font" hT2 33, w ∈ lw_all := by
  have e : u_ws "HintHouse$Font" hT2 33 = [u_lay "HintHouse$Font" hT2 0, u_lay "HintHouse$Font" hT2 1, u_lay "HintHouse$Font" hT2 2, u_lay "HintHouse$Font" hT2 3, u_lay "HintHouse$Font" hT2 4, u_lay "HintHouse$Font" hT2 5, u_lay "HintHouse$Font" hT2 6, u_lay "HintHouse$Font" hT2 7, u_lay "HintHouse$Font" hT2 8, u_lay "HintHouse$Font" hT2 9, u_lay "HintHouse$Font" hT2 10, u_lay "HintHouse$Font" hT2 11, u_lay "HintHouse$Font" hT2 12, u_lay "HintHouse$Font" hT2 13, u_lay "HintHouse$Font" hT2 14, u_lay "HintHouse$Font" hT2 15, u_lay "HintHouse$Font" hT2 16, u_lay "HintHouse$Font" hT2 17, u_lay "HintHouse$Font" hT2 18, u_lay "HintHouse$Font" hT2 19, u_lay "HintHouse$Font" hT2 20, u_lay "HintHouse$Font" hT2 21, u_lay "HintHouse$Font" hT2 22, u_lay "HintHouse$Font" hT2 23, u_lay "HintHouse$Font" hT2 24, u_lay "HintHouse$Font" hT2 25, u_lay "HintHouse$Font" hT2 26, u_lay "HintHouse$Font" hT2 27, u_lay "HintHouse$Font" hT2 28, u_lay "HintHouse$Font" hT2 29, u_lay "HintHouse$Font" hT2 30, u_lay "HintHouse$Font" hT2 31, u_lay "HintHouse$Font" hT2 32] := rfl
  rw [e]
  exact List.forall_mem_cons.mpr ⟨lw_g (lw_at lw_m1 190 rfl) rfl, List.forall_mem_cons.mpr ⟨lw_g (lw_at lw_m1 192 rfl) rfl, List.forall_mem_cons.mpr ⟨lw_g (lw_at lw_m1 194 rfl) rfl, List.forall_mem_cons.mpr ⟨lw_g (lw_at lw_m1 196 rfl) rfl, List.forall_mem_cons.mpr ⟨lw_g (lw_at lw_m1 198 rfl) rfl, List.forall_mem_cons.mpr ⟨lw_g (lw_at lw_m1 200 rfl) rfl, List.forall_mem_cons.mpr ⟨lw_g (lw_at lw_m1 202 rfl) rfl, List.forall_mem_cons.mpr ⟨lw_g (lw_at lw_m1 204 rfl) rfl, List.forall_mem_cons.mpr ⟨lw_g (lw_at lw_m1 206 rfl) rfl, List.forall_mem_cons.mpr ⟨lw_g (lw_at lw_m1 208 rfl) rfl, List.forall_mem_cons.mpr ⟨lw_g (lw_at lw_m1 210 rfl) rfl, List.forall_mem_cons.mpr ⟨lw_g (lw_at lw_m1 212 rfl) rfl, List.forall_mem_cons.mpr ⟨lw_g (lw_at lw_m1 214 rfl) rfl, List.forall_mem_cons.mpr ⟨lw_g (lw_at lw_m1 216 rfl) rfl, List.forall_mem_cons.mpr ⟨lw_g (lw_at lw_m1 218 rfl) rfl, List.forall_mem_cons.mpr ⟨lw_g (lw_at lw_m1 220 rfl) rfl, List.forall_mem_cons.mpr ⟨lw_g (lw_at lw_m1 222 rfl) rfl, List.forall_mem_cons.mpr ⟨lw_g (lw_at lw_m1 224 rfl) rfl, List.forall_mem_cons.mpr ⟨lw_g (lw_at lw_m1 226 rfl) rfl, List.forall_mem_cons.mpr ⟨lw_g (lw_at lw_m1 228 rfl) rfl, List.forall_mem_cons.mpr ⟨lw_g (lw_at lw_m1 230 rfl) rfl, List.forall_mem_cons.mpr ⟨lw_g (lw_at lw_m1 232 rfl) rfl, List.forall_mem_cons.mpr ⟨lw_g (lw_at lw_m1 234 rfl) rfl, List.forall_mem_cons.mpr ⟨lw_g (lw_at lw_m1 236 rfl) rfl, List.forall_mem_cons.mpr ⟨lw_g (lw_at lw_m1 238 rfl) rfl, List.forall_mem_cons.mpr ⟨lw_g (lw_at lw_m2 0 rfl) rfl, List.forall_mem_cons.mpr ⟨lw_g (lw_at lw_m2 2 rfl) rfl, List.forall_mem_cons.mpr ⟨lw_g (lw_at lw_m2 4 rfl) rfl, List.forall_mem_cons.mpr ⟨lw_g (lw_at lw_m2 6 rfl) rfl, List.forall_mem_cons.mpr ⟨lw_g (lw_at lw_m2 8 rfl) rfl, List.forall_mem_cons.mpr ⟨lw_g (lw_at lw_m2 10 rfl) rfl, List.forall_mem_cons.mpr ⟨lw_g (lw_at lw_m2 12 rfl) rfl, List.forall_mem_cons.mpr ⟨lw_g (lw_at lw_m2 14 rfl) rfl, fun _ h => absurd h List.not_mem_nil⟩⟩⟩⟩⟩⟩⟩⟩⟩⟩⟩⟩⟩⟩⟩⟩⟩⟩⟩⟩⟩⟩⟩⟩⟩⟩⟩⟩⟩⟩⟩⟩⟩
theorem hty2 : ∀ k, k < 33 → parseFieldDescriptor (hT2 k).2.2.1 = some (hTy2 k) := by decide +kernel
theorem hin3 : ∀ w ∈ u_ws "HintHouse$Glyph" hT3 18, w ∈ lw_all := by
  have e : u_ws "HintHouse$Glyph" hT3 18 = [u_lay "HintHouse$Glyph" hT3 0, u_lay "HintHouse$Glyph" hT3 1, u_lay "HintHouse$Glyph" hT3 2, u_lay "HintHouse$Glyph" hT3 3, u_lay "HintHouse$Glyph" hT3 4, u_lay "HintHouse$Glyph" hT3 5, u_lay "HintHouse$Glyph" hT3 6, u_lay "HintHouse$Glyph" hT3 7, u_lay "HintHouse$Glyph" hT3 8, u_lay "HintHouse$Glyph" hT3 9, u_lay "HintHouse$Glyph" hT3 10, u_lay "HintHouse$Glyph" hT3 11, u_lay "HintHouse$Glyph" hT3 12, u_lay "HintHouse$Glyph" hT3 13, u_lay "HintHouse$Glyph" hT3 14, u_lay "HintHouse$Glyph" hT3 15, u_lay "HintHouse$Glyph" hT3 16, u_lay "HintHouse$Glyph" hT3 17] := rfl
  rw [e]
  exact List.forall_mem_cons.mpr ⟨lw_g (lw_at lw_m1 97 rfl) rfl, List.forall_mem_cons.mpr ⟨lw_g (lw_at lw_m1 99 rfl) rfl, List.forall_mem_cons.mpr ⟨lw_g (lw_at lw_m1 101 rfl) rfl, List.forall_mem_cons.mpr ⟨lw_g (lw_at lw_m1 103 rfl) rfl, List.forall_mem_cons.mpr ⟨lw_g (lw_at lw_m1 105 rfl) rfl, List.forall_mem_cons.mpr ⟨lw_g (lw_at lw_m1 107 rfl) rfl, List.forall_mem_cons.mpr ⟨lw_g (lw_at lw_m1 109 rfl) rfl, List.forall_mem_cons.mpr ⟨lw_g (lw_at lw_m1 111 rfl) rfl, List.forall_mem_cons.mpr ⟨lw_g (lw_at lw_m1 113 rfl) rfl, List.forall_mem_cons.mpr ⟨lw_g (lw_at lw_m1 115 rfl) rfl, List.forall_mem_cons.mpr ⟨lw_g (lw_at lw_m1 117 rfl) rfl, List.forall_mem_cons.mpr ⟨lw_g (lw_at lw_m1 119 rfl) rfl, List.forall_mem_cons.mpr ⟨lw_g (lw_at lw_m1 121 rfl) rfl, List.forall_mem_cons.mpr ⟨lw_g (lw_at lw_m1 123 rfl) rfl, List.forall_mem_cons.mpr ⟨lw_g (lw_at lw_m1 125 rfl) rfl, List.forall_mem_cons.mpr ⟨lw_g (lw_at lw_m1 127 rfl) rfl, List.forall_mem_cons.mpr ⟨lw_g (lw_at lw_m1 129 rfl) rfl, List.forall_mem_cons.mpr ⟨lw_g (lw_at lw_m1 131 rfl) rfl, fun _ h => absurd h List.not_mem_nil⟩⟩⟩⟩⟩⟩⟩⟩⟩⟩⟩⟩⟩⟩⟩⟩⟩⟩
theorem hty3 : ∀ k, k < 18 → parseFieldDescriptor (hT3 k).2.2.1 = some (hTy3 k) := by decide +kernel
theorem hin4 : ∀ w ∈ u_ws "HintHouse$Machine" hT4 43, w ∈ lw_all := by
  have e : u_ws "HintHouse$Machine" hT4 43 = [u_lay "HintHouse$Machine" hT4 0, u_lay "HintHouse$Machine" hT4 1, u_lay "HintHouse$Machine" hT4 2, u_lay "HintHouse$Machine" hT4 3, u_lay "HintHouse$Machine" hT4 4, u_lay "HintHouse$Machine" hT4 5, u_lay "HintHouse$Machine" hT4 6, u_lay "HintHouse$Machine" hT4 7, u_lay "HintHouse$Machine" hT4 8, u_lay "HintHouse$Machine" hT4 9, u_lay "HintHouse$Machine" hT4 10, u_lay "HintHouse$Machine" hT4 11, u_lay "HintHouse$Machine" hT4 12, u_lay "HintHouse$Machine" hT4 13, u_lay "HintHouse$Machine" hT4 14, u_lay "HintHouse$Machine" hT4 15, u_lay "HintHouse$Machine" hT4 16, u_lay "HintHouse$Machine" hT4 17, u_lay "HintHouse$Machine" hT4 18, u_lay "HintHouse$Machine" hT4 19, u_lay "HintHouse$Machine" hT4 20, u_lay "HintHouse$Machine" hT4 21, u_lay "HintHouse$Machine" hT4 22, u_lay "HintHouse$Machine" hT4 23, u_lay "HintHouse$Machine" hT4 24, u_lay "HintHouse$Machine" hT4 25, u_lay "HintHouse$Machine" hT4 26, u_lay "HintHouse$Machine" hT4 27, u_lay "HintHouse$Machine" hT4 28, u_lay "HintHouse$Machine" hT4 29, u_lay "HintHouse$Machine" hT4 30, u_lay "HintHouse$Machine" hT4 31, u_lay "HintHouse$Machine" hT4 32, u_lay "HintHouse$Machine" hT4 33, u_lay "HintHouse$Machine" hT4 34, u_lay "HintHouse$Machine" hT4 35, u_lay "HintHouse$Machine" hT4 36, u_lay "HintHouse$Machine" hT4 37, u_lay "HintHouse$Machine" hT4 38, u_lay "HintHouse$Machine" hT4 39, u_lay "HintHouse$Machine" hT4 40, u_lay "HintHouse$Machine" hT4 41, u_lay "HintHouse$Machine" hT4 42] := rfl
  rw [e]
  exact List.forall_mem_cons.mpr ⟨lw_g (lw_at lw_m2 206 rfl) rfl, List.forall_mem_cons.mpr ⟨lw_g (lw_at lw_m2 208 rfl) rfl, List.forall_mem_cons.mpr ⟨lw_g (lw_at lw_m2 210 rfl) rfl, List.forall_mem_cons.mpr ⟨lw_g (lw_at lw_m2 212 rfl) rfl, List.forall_mem_cons.mpr ⟨lw_g (lw_at lw_m2 214 rfl) rfl, List.forall_mem_cons.mpr ⟨lw_g (lw_at lw_m2 216 rfl) rfl, List.forall_mem_cons.mpr ⟨lw_g (lw_at lw_m2 218 rfl) rfl, List.forall_mem_cons.mpr ⟨lw_g (lw_at lw_m2 220 rfl) rfl, List.forall_mem_cons.mpr ⟨lw_g (lw_at lw_m2 222 rfl) rfl, List.forall_mem_cons.mpr ⟨lw_g (lw_at lw_m2 224 rfl) rfl, List.forall_mem_cons.mpr ⟨lw_g (lw_at lw_m2 226 rfl) rfl, List.forall_mem_cons.mpr ⟨lw_g (lw_at lw_m2 228 rfl) rfl, List.forall_mem_cons.mpr ⟨lw_g (lw_at lw_m2 230 rfl) rfl, List.forall_mem_cons.mpr ⟨lw_g (lw_at lw_m2 232 rfl) rfl, List.forall_mem_cons.mpr ⟨lw_g (lw_at lw_m2 234 rfl) rfl, List.forall_mem_cons.mpr ⟨lw_g (lw_at lw_m2 236 rfl) rfl, List.forall_mem_cons.mpr ⟨lw_g (lw_at lw_m2 238 rfl) rfl, List.forall_mem_cons.mpr ⟨lw_g (lw_at lw_m3 0 rfl) rfl, List.forall_mem_cons.mpr ⟨lw_g (lw_at lw_m3 2 rfl) rfl, List.forall_mem_cons.mpr ⟨lw_g (lw_at lw_m3 4 rfl) rfl, List.forall_mem_cons.mpr ⟨lw_g (lw_at lw_m3 6 rfl) rfl, List.forall_mem_cons.mpr ⟨lw_g (lw_at lw_m3 8 rfl) rfl, List.forall_mem_cons.mpr ⟨lw_g (lw_at lw_m3 10 rfl) rfl, List.forall_mem_cons.mpr ⟨lw_g (lw_at lw_m3 12 rfl) rfl, List.forall_mem_cons.mpr ⟨lw_g (lw_at lw_m3 14 rfl) rfl, List.forall_mem_cons.mpr ⟨lw_g (lw_at lw_m3 16 rfl) rfl, List.forall_mem_cons.mpr ⟨lw_g (lw_at lw_m3 18 rfl) rfl, List.forall_mem_cons.mpr ⟨lw_g (lw_at lw_m3 20 rfl) rfl, List.forall_mem_cons.mpr ⟨lw_g (lw_at lw_m3 22 rfl) rfl, List.forall_mem_cons.mpr ⟨lw_g (lw_at lw_m3 24 rfl) rfl, List.forall_mem_cons.mpr ⟨lw_g (lw_at lw_m3 26 rfl) rfl, List.forall_mem_cons.mpr ⟨lw_g (lw_at lw_m3 28 rfl) rfl, List.forall_mem_cons.mpr ⟨lw_g (lw_at lw_m3 30 rfl) rfl, List.forall_mem_cons.mpr ⟨lw_g (lw_at lw_m3 32 rfl) rfl, List.forall_mem_cons.mpr ⟨lw_g (lw_at lw_m3 34 rfl) rfl, List.forall_mem_cons.mpr ⟨lw_g (lw_at lw_m3 36 rfl) rfl, List.forall_mem_cons.mpr ⟨lw_g (lw_at lw_m3 38 rfl) rfl, List.forall_mem_cons.mpr ⟨lw_g (lw_at lw_m3 40 rfl) rfl, List.forall_mem_cons.mpr ⟨lw_g (lw_at lw_m3 42 rfl) rfl, List.forall_mem_cons.mpr ⟨lw_g (lw_at lw_m3 44 rfl) rfl, List.forall_mem_cons.mpr ⟨lw_g (lw_at lw_m3 46 rfl) rfl, List.forall_mem_cons.mpr ⟨lw_g (lw_at lw_m3 48 rfl) rfl, List.forall_mem_cons.mpr ⟨lw_g (lw_at lw_m3 50 rfl) rfl, fun _ h => absurd h List.not_mem_nil⟩⟩⟩⟩⟩⟩⟩⟩⟩⟩⟩⟩⟩⟩⟩⟩⟩⟩⟩⟩⟩⟩⟩⟩⟩⟩⟩⟩⟩⟩⟩⟩⟩⟩⟩⟩⟩⟩⟩⟩⟩⟩⟩
theorem hty4 : ∀ k, k < 43 → parseFieldDescriptor (hT4 k).2.2.1 = some (hTy4 k) := by decide +kernel
theorem hin5 : ∀ w ∈ u_ws "HintHouse$Store" hT5 6, w ∈ lw_all := by
  have e : u_ws "HintHouse$Store" hT5 6 = [u_lay "HintHouse$Store" hT5 0, u_lay "HintHouse$Store" hT5 1, u_lay "HintHouse$Store" hT5 2, u_lay "HintHouse$Store" hT5 3, u_lay "HintHouse$Store" hT5 4, u_lay "HintHouse$Store" hT5 5] := rfl
  rw [e]
  exact List.forall_mem_cons.mpr ⟨lw_g (lw_at lw_m2 138 rfl) rfl, List.forall_mem_cons.mpr ⟨lw_g (lw_at lw_m2 140 rfl) rfl, List.forall_mem_cons.mpr ⟨lw_g (lw_at lw_m2 142 rfl) rfl, List.forall_mem_cons.mpr ⟨lw_g (lw_at lw_m2 144 rfl) rfl, List.forall_mem_cons.mpr ⟨lw_g (lw_at lw_m2 146 rfl) rfl, List.forall_mem_cons.mpr ⟨lw_g (lw_at lw_m2 148 rfl) rfl, fun _ h => absurd h List.not_mem_nil⟩⟩⟩⟩⟩⟩
theorem hty5 : ∀ k, k < 6 → parseFieldDescriptor (hT5 k).2.2.1 = some (hTy5 k) := by decide +kernel
theorem hin6 : ∀ w ∈ u_ws "HintHouse$Zone" hT6 7, w ∈ lw_all := by
  have e : u_ws "HintHouse$Zone" hT6 7 = [u_lay "HintHouse$Zone" hT6 0, u_lay "HintHouse$Zone" hT6 1, u_lay "HintHouse$Zone" hT6 2, u_lay "HintHouse$Zone" hT6 3, u_lay "HintHouse$Zone" hT6 4, u_lay "HintHouse$Zone" hT6 5, u_lay "HintHouse$Zone" hT6 6] := rfl
  rw [e]
  exact List.forall_mem_cons.mpr ⟨lw_g (lw_at lw_m2 56 rfl) rfl, List.forall_mem_cons.mpr ⟨lw_g (lw_at lw_m2 58 rfl) rfl, List.forall_mem_cons.mpr ⟨lw_g (lw_at lw_m2 60 rfl) rfl, List.forall_mem_cons.mpr ⟨lw_g (lw_at lw_m2 62 rfl) rfl, List.forall_mem_cons.mpr ⟨lw_g (lw_at lw_m2 64 rfl) rfl, List.forall_mem_cons.mpr ⟨lw_g (lw_at lw_m2 66 rfl) rfl, List.forall_mem_cons.mpr ⟨lw_g (lw_at lw_m2 68 rfl) rfl, fun _ h => absurd h List.not_mem_nil⟩⟩⟩⟩⟩⟩⟩
theorem hty6 : ∀ k, k < 7 → parseFieldDescriptor (hT6 k).2.2.1 = some (hTy6 k) := by decide +kernel
theorem hin7 : ∀ w ∈ u_ws "HintHouse$Settings" hT7 9, w ∈ lw_all := by
  have e : u_ws "HintHouse$Settings" hT7 9 = [u_lay "HintHouse$Settings" hT7 0, u_lay "HintHouse$Settings" hT7 1, u_lay "HintHouse$Settings" hT7 2, u_lay "HintHouse$Settings" hT7 3, u_lay "HintHouse$Settings" hT7 4, u_lay "HintHouse$Settings" hT7 5, u_lay "HintHouse$Settings" hT7 6, u_lay "HintHouse$Settings" hT7 7, u_lay "HintHouse$Settings" hT7 8] := rfl
  rw [e]
  exact List.forall_mem_cons.mpr ⟨lw_g (lw_at lw_m2 100 rfl) rfl, List.forall_mem_cons.mpr ⟨lw_g (lw_at lw_m2 102 rfl) rfl, List.forall_mem_cons.mpr ⟨lw_g (lw_at lw_m2 104 rfl) rfl, List.forall_mem_cons.mpr ⟨lw_g (lw_at lw_m2 106 rfl) rfl, List.forall_mem_cons.mpr ⟨lw_g (lw_at lw_m2 108 rfl) rfl, List.forall_mem_cons.mpr ⟨lw_g (lw_at lw_m2 110 rfl) rfl, List.forall_mem_cons.mpr ⟨lw_g (lw_at lw_m2 112 rfl) rfl, List.forall_mem_cons.mpr ⟨lw_g (lw_at lw_m2 114 rfl) rfl, List.forall_mem_cons.mpr ⟨lw_g (lw_at lw_m2 116 rfl) rfl, fun _ h => absurd h List.not_mem_nil⟩⟩⟩⟩⟩⟩⟩⟩⟩
theorem hty7 : ∀ k, k < 9 → parseFieldDescriptor (hT7 k).2.2.1 = some (hTy7 k) := by decide +kernel
theorem hin8 : ∀ w ∈ u_ws "HintHouse$Maker" hT8 8, w ∈ lw_all := by
  have e : u_ws "HintHouse$Maker" hT8 8 = [u_lay "HintHouse$Maker" hT8 0, u_lay "HintHouse$Maker" hT8 1, u_lay "HintHouse$Maker" hT8 2, u_lay "HintHouse$Maker" hT8 3, u_lay "HintHouse$Maker" hT8 4, u_lay "HintHouse$Maker" hT8 5, u_lay "HintHouse$Maker" hT8 6, u_lay "HintHouse$Maker" hT8 7] := rfl
  rw [e]
  exact List.forall_mem_cons.mpr ⟨lw_g (lw_at lw_m3 130 rfl) rfl, List.forall_mem_cons.mpr ⟨lw_g (lw_at lw_m3 132 rfl) rfl, List.forall_mem_cons.mpr ⟨lw_g (lw_at lw_m3 134 rfl) rfl, List.forall_mem_cons.mpr ⟨lw_g (lw_at lw_m3 136 rfl) rfl, List.forall_mem_cons.mpr ⟨lw_g (lw_at lw_m3 138 rfl) rfl, List.forall_mem_cons.mpr ⟨lw_g (lw_at lw_m3 140 rfl) rfl, List.forall_mem_cons.mpr ⟨lw_g (lw_at lw_m3 142 rfl) rfl, List.forall_mem_cons.mpr ⟨lw_g (lw_at lw_m3 144 rfl) rfl, fun _ h => absurd h List.not_mem_nil⟩⟩⟩⟩⟩⟩⟩⟩
theorem hty8 : ∀ k, k < 8 → parseFieldDescriptor (hT8 k).2.2.1 = some (hTy8 k) := by decide +kernel
theorem hin9 : ∀ w ∈ u_ws "HintHouse$Outline" hT9 8, w ∈ lw_all := by
  have e : u_ws "HintHouse$Outline" hT9 8 = [u_lay "HintHouse$Outline" hT9 0, u_lay "HintHouse$Outline" hT9 1, u_lay "HintHouse$Outline" hT9 2, u_lay "HintHouse$Outline" hT9 3, u_lay "HintHouse$Outline" hT9 4, u_lay "HintHouse$Outline" hT9 5, u_lay "HintHouse$Outline" hT9 6, u_lay "HintHouse$Outline" hT9 7] := rfl
  rw [e]
  exact List.forall_mem_cons.mpr ⟨lw_g (lw_at lw_m3 101 rfl) rfl, List.forall_mem_cons.mpr ⟨lw_g (lw_at lw_m3 103 rfl) rfl, List.forall_mem_cons.mpr ⟨lw_g (lw_at lw_m3 105 rfl) rfl, List.forall_mem_cons.mpr ⟨lw_g (lw_at lw_m3 107 rfl) rfl, List.forall_mem_cons.mpr ⟨lw_g (lw_at lw_m3 109 rfl) rfl, List.forall_mem_cons.mpr ⟨lw_g (lw_at lw_m3 111 rfl) rfl, List.forall_mem_cons.mpr ⟨lw_g (lw_at lw_m3 113 rfl) rfl, List.forall_mem_cons.mpr ⟨lw_g (lw_at lw_m3 115 rfl) rfl, fun _ h => absurd h List.not_mem_nil⟩⟩⟩⟩⟩⟩⟩⟩
theorem hty9 : ∀ k, k < 8 → parseFieldDescriptor (hT9 k).2.2.1 = some (hTy9 k) := by decide +kernel
theorem hin10 : ∀ w ∈ u_ws "HintHouse$Inside" hT10 20, w ∈ lw_all := by
  have e : u_ws "HintHouse$Inside" hT10 20 = [u_lay "HintHouse$Inside" hT10 0, u_lay "HintHouse$Inside" hT10 1, u_lay "HintHouse$Inside" hT10 2, u_lay "HintHouse$Inside" hT10 3, u_lay "HintHouse$Inside" hT10 4, u_lay "HintHouse$Inside" hT10 5, u_lay "HintHouse$Inside" hT10 6, u_lay "HintHouse$Inside" hT10 7, u_lay "HintHouse$Inside" hT10 8, u_lay "HintHouse$Inside" hT10 9, u_lay "HintHouse$Inside" hT10 10, u_lay "HintHouse$Inside" hT10 11, u_lay "HintHouse$Inside" hT10 12, u_lay "HintHouse$Inside" hT10 13, u_lay "HintHouse$Inside" hT10 14, u_lay "HintHouse$Inside" hT10 15, u_lay "HintHouse$Inside" hT10 16, u_lay "HintHouse$Inside" hT10 17, u_lay "HintHouse$Inside" hT10 18, u_lay "HintHouse$Inside" hT10 19] := rfl
  rw [e]
  exact List.forall_mem_cons.mpr ⟨lw_g (lw_at lw_m3 175 rfl) rfl, List.forall_mem_cons.mpr ⟨lw_g (lw_at lw_m3 177 rfl) rfl, List.forall_mem_cons.mpr ⟨lw_g (lw_at lw_m3 179 rfl) rfl, List.forall_mem_cons.mpr ⟨lw_g (lw_at lw_m3 181 rfl) rfl, List.forall_mem_cons.mpr ⟨lw_g (lw_at lw_m3 183 rfl) rfl, List.forall_mem_cons.mpr ⟨lw_g (lw_at lw_m3 185 rfl) rfl, List.forall_mem_cons.mpr ⟨lw_g (lw_at lw_m3 187 rfl) rfl, List.forall_mem_cons.mpr ⟨lw_g (lw_at lw_m3 189 rfl) rfl, List.forall_mem_cons.mpr ⟨lw_g (lw_at lw_m3 191 rfl) rfl, List.forall_mem_cons.mpr ⟨lw_g (lw_at lw_m3 193 rfl) rfl, List.forall_mem_cons.mpr ⟨lw_g (lw_at lw_m3 195 rfl) rfl, List.forall_mem_cons.mpr ⟨lw_g (lw_at lw_m3 197 rfl) rfl, List.forall_mem_cons.mpr ⟨lw_g (lw_at lw_m3 199 rfl) rfl, List.forall_mem_cons.mpr ⟨lw_g (lw_at lw_m3 201 rfl) rfl, List.forall_mem_cons.mpr ⟨lw_g (lw_at lw_m3 203 rfl) rfl, List.forall_mem_cons.mpr ⟨lw_g (lw_at lw_m3 205 rfl) rfl, List.forall_mem_cons.mpr ⟨lw_g (lw_at lw_m3 207 rfl) rfl, List.forall_mem_cons.mpr ⟨lw_g (lw_at lw_m3 209 rfl) rfl, List.forall_mem_cons.mpr ⟨lw_g (lw_at lw_m3 211 rfl) rfl, List.forall_mem_cons.mpr ⟨lw_g (lw_at lw_m3 213 rfl) rfl, fun _ h => absurd h List.not_mem_nil⟩⟩⟩⟩⟩⟩⟩⟩⟩⟩⟩⟩⟩⟩⟩⟩⟩⟩⟩⟩
theorem hty10 : ∀ k, k < 20 → parseFieldDescriptor (hT10 k).2.2.1 = some (hTy10 k) := by decide +kernel
theorem hin11 : ∀ w ∈ u_ws "HintHouseModel" hT11 146, w ∈ lw_all := by
  have e : u_ws "HintHouseModel" hT11 146 = [u_lay "HintHouseModel" hT11 0, u_lay "HintHouseModel" hT11 1, u_lay "HintHouseModel" hT11 2, u_lay "HintHouseModel" hT11 3, u_lay "HintHouseModel" hT11 4, u_lay "HintHouseModel" hT11 5, u_lay "HintHouseModel" hT11 6, u_lay "HintHouseModel" hT11 7, u_lay "HintHouseModel" hT11 8, u_lay "HintHouseModel" hT11 9, u_lay "HintHouseModel" hT11 10, u_lay "HintHouseModel" hT11 11, u_lay "HintHouseModel" hT11 12, u_lay "HintHouseModel" hT11 13, u_lay "HintHouseModel" hT11 14, u_lay "HintHouseModel" hT11 15, u_lay "HintHouseModel" hT11 16, u_lay "HintHouseModel" hT11 17, u_lay "HintHouseModel" hT11 18, u_lay "HintHouseModel" hT11 19, u_lay "HintHouseModel" hT11 20, u_lay "HintHouseModel" hT11 21, u_lay "HintHouseModel" hT11 22, u_lay "HintHouseModel" hT11 23, u_lay "HintHouseModel" hT11 24, u_lay "HintHouseModel" hT11 25, u_lay "HintHouseModel" hT11 26, u_lay "HintHouseModel" hT11 27, u_lay "HintHouseModel" hT11 28, u_lay "HintHouseModel" hT11 29, u_lay "HintHouseModel" hT11 30, u_lay "HintHouseModel" hT11 31, u_lay "HintHouseModel" hT11 32, u_lay "HintHouseModel" hT11 33, u_lay "HintHouseModel" hT11 34, u_lay "HintHouseModel" hT11 35, u_lay "HintHouseModel" hT11 36, u_lay "HintHouseModel" hT11 37, u_lay "HintHouseModel" hT11 38, u_lay "HintHouseModel" hT11 39, u_lay "HintHouseModel" hT11 40, u_lay "HintHouseModel" hT11 41, u_lay "HintHouseModel" hT11 42, u_lay "HintHouseModel" hT11 43, u_lay "HintHouseModel" hT11 44, u_lay "HintHouseModel" hT11 45, u_lay "HintHouseModel" hT11 46, u_lay "HintHouseModel" hT11 47, u_lay "HintHouseModel" hT11 48, u_lay "HintHouseModel" hT11 49, u_lay "HintHouseModel" hT11 50, u_lay "HintHouseModel" hT11 51, u_lay "HintHouseModel" hT11 52, u_lay "HintHouseModel" hT11 53, u_lay "HintHouseModel" hT11 54, u_lay "HintHouseModel" hT11 55, u_lay "HintHouseModel" hT11 56, u_lay "HintHouseModel" hT11 57, u_lay "HintHouseModel" hT11 58, u_lay "HintHouseModel" hT11 59, u_lay "HintHouseModel" hT11 60, u_lay "HintHouseModel" hT11 61, u_lay "HintHouseModel" hT11 62, u_lay "HintHouseModel" hT11 63, u_lay "HintHouseModel" hT11 64, u_lay "HintHouseModel" hT11 65, u_lay "HintHouseModel" hT11 66, u_lay "HintHouseModel" hT11 67, u_lay "HintHouseModel" hT11 68, u_lay "HintHouseModel" hT11 69, u_lay "HintHouseModel" hT11 70, u_lay "HintHouseModel" hT11 71, u_lay "HintHouseModel" hT11 72, u_lay "HintHouseModel" hT11 73, u_lay "HintHouseModel" hT11 74, u_lay "HintHouseModel" hT11 75, u_lay "HintHouseModel" hT11 76, u_lay "HintHouseModel" hT11 77, u_lay "HintHouseModel" hT11 78, u_lay "HintHouseModel" hT11 79, u_lay "HintHouseModel" hT11 80, u_lay "HintHouseModel" hT11 81, u_lay "HintHouseModel" hT11 82, u_lay "HintHouseModel" hT11 83, u_lay "HintHouseModel" hT11 84, u_lay "HintHouseModel" hT11 85, u_lay "HintHouseModel" hT11 86, u_lay "HintHouseModel" hT11 87, u_lay "HintHouseModel" hT11 88, u_lay "HintHouseModel" hT11 89, u_lay "HintHouseModel" hT11 90, u_lay "HintHouseModel" hT11 91, u_lay "HintHouseModel" hT11 92, u_lay "HintHouseModel" hT11 93, u_lay "HintHouseModel" hT11 94, u_lay "HintHouseModel" hT11 95, u_lay "HintHouseModel" hT11 96, u_lay "HintHouseModel" hT11 97, u_lay "HintHouseModel" hT11 98, u_lay "HintHouseModel" hT11 99, u_lay "HintHouseModel" hT11 100, u_lay "HintHouseModel" hT11 101, u_lay "HintHouseModel" hT11 102, u_lay "HintHouseModel" hT11 103, u_lay "HintHouseModel" hT11 104, u_lay "HintHouseModel" hT11 105, u_lay "HintHouseModel" hT11 106, u_lay "HintHouseModel" hT11 107, u_lay "HintHouseModel" hT11 108, u_lay "HintHouseModel" hT11 109, u_lay "HintHouseModel" hT11 110, u_lay "HintHouseModel" hT11 111, u_lay "HintHouseModel" hT11 112, u_lay "HintHouseModel" hT11 113, u_lay "HintHouseModel" hT11 114, u_lay "HintHouseModel" hT11 115, u_lay "HintHouseModel" hT11 116, u_lay "HintHouseModel" hT11 117, u_lay "HintHouseModel" hT11 118, u_lay "HintHouseModel" hT11 119, u_lay "HintHouseModel" hT11 120, u_lay "HintHouseModel" hT11 121, u_lay "HintHouseModel" hT11 122, u_lay "HintHouseModel" hT11 123, u_lay "HintHouseModel" hT11 124, u_lay "HintHouseModel" hT11 125, u_lay "HintHouseModel" hT11 126, u_lay "HintHouseModel" hT11 127, u_lay "HintHouseModel" hT11 128, u_lay "HintHouseModel" hT11 129, u_lay "HintHouseModel" hT11 130, u_lay "HintHouseModel" hT11 131, u_lay "HintHouseModel" hT11 132, u_lay "HintHouseModel" hT11 133, u_lay "HintHouseModel" hT11 134, u_lay "HintHouseModel" hT11 135, u_lay "HintHouseModel" hT11 136, u_lay "HintHouseModel" hT11 137, u_lay "HintHouseModel" hT11 138, u_lay "HintHouseModel" hT11 139, u_lay "HintHouseModel" hT11 140, u_lay "HintHouseModel" hT11 141, u_lay "HintHouseModel" hT11 142, u_lay "HintHouseModel" hT11 143, u_lay "HintHouseModel" hT11 144, u_lay "HintHouseModel" hT11 145] := rfl
  rw [e]
  exact List.forall_mem_cons.mpr ⟨lw_g (lw_at lw_m8 125 rfl) rfl, List.forall_mem_cons.mpr ⟨lw_g (lw_at lw_m8 127 rfl) rfl, List.forall_mem_cons.mpr ⟨lw_g (lw_at lw_m8 129 rfl) rfl, List.forall_mem_cons.mpr ⟨lw_g (lw_at lw_m8 131 rfl) rfl, List.forall_mem_cons.mpr ⟨lw_g (lw_at lw_m8 133 rfl) rfl, List.forall_mem_cons.mpr ⟨lw_g (lw_at lw_m8 135 rfl) rfl, List.forall_mem_cons.mpr ⟨lw_g (lw_at lw_m8 137 rfl) rfl, List.forall_mem_cons.mpr ⟨lw_g (lw_at lw_m8 139 rfl) rfl, List.forall_mem_cons.mpr ⟨lw_g (lw_at lw_m8 141 rfl) rfl, List.forall_mem_cons.mpr ⟨lw_g (lw_at lw_m8 143 rfl) rfl, List.forall_mem_cons.mpr ⟨lw_g (lw_at lw_m8 145 rfl) rfl, List.forall_mem_cons.mpr ⟨lw_g (lw_at lw_m8 147 rfl) rfl, List.forall_mem_cons.mpr ⟨lw_g (lw_at lw_m8 149 rfl) rfl, List.forall_mem_cons.mpr ⟨lw_g (lw_at lw_m8 151 rfl) rfl, List.forall_mem_cons.mpr ⟨lw_g (lw_at lw_m8 153 rfl) rfl, List.forall_mem_cons.mpr ⟨lw_g (lw_at lw_m8 155 rfl) rfl, List.forall_mem_cons.mpr ⟨lw_g (lw_at lw_m8 157 rfl) rfl, List.forall_mem_cons.mpr ⟨lw_g (lw_at lw_m8 159 rfl) rfl, List.forall_mem_cons.mpr ⟨lw_g (lw_at lw_m8 161 rfl) rfl, List.forall_mem_cons.mpr ⟨lw_g (lw_at lw_m8 163 rfl) rfl, List.forall_mem_cons.mpr ⟨lw_g (lw_at lw_m8 165 rfl) rfl, List.forall_mem_cons.mpr ⟨lw_g (lw_at lw_m8 167 rfl) rfl, List.forall_mem_cons.mpr ⟨lw_g (lw_at lw_m8 169 rfl) rfl, List.forall_mem_cons.mpr ⟨lw_g (lw_at lw_m8 171 rfl) rfl, List.forall_mem_cons.mpr ⟨lw_g (lw_at lw_m8 173 rfl) rfl, List.forall_mem_cons.mpr ⟨lw_g (lw_at lw_m8 175 rfl) rfl, List.forall_mem_cons.mpr ⟨lw_g (lw_at lw_m8 177 rfl) rfl, List.forall_mem_cons.mpr ⟨lw_g (lw_at lw_m8 179 rfl) rfl, List.forall_mem_cons.mpr ⟨lw_g (lw_at lw_m8 181 rfl) rfl, List.forall_mem_cons.mpr ⟨lw_g (lw_at lw_m8 183 rfl) rfl, List.forall_mem_cons.mpr ⟨lw_g (lw_at lw_m8 185 rfl) rfl, List.forall_mem_cons.mpr ⟨lw_g (lw_at lw_m8 187 rfl) rfl, List.forall_mem_cons.mpr ⟨lw_g (lw_at lw_m8 189 rfl) rfl, List.forall_mem_cons.mpr ⟨lw_g (lw_at lw_m8 191 rfl) rfl, List.forall_mem_cons.mpr ⟨lw_g (lw_at lw_m8 193 rfl) rfl, List.forall_mem_cons.mpr ⟨lw_g (lw_at lw_m8 195 rfl) rfl, List.forall_mem_cons.mpr ⟨lw_g (lw_at lw_m8 197 rfl) rfl, List.forall_mem_cons.mpr ⟨lw_g (lw_at lw_m8 199 rfl) rfl, List.forall_mem_cons.mpr ⟨lw_g (lw_at lw_m8 201 rfl) rfl, List.forall_mem_cons.mpr ⟨lw_g (lw_at lw_m8 203 rfl) rfl, List.forall_mem_cons.mpr ⟨lw_g (lw_at lw_m8 205 rfl) rfl, List.forall_mem_cons.mpr ⟨lw_g (lw_at lw_m8 207 rfl) rfl, List.forall_mem_cons.mpr ⟨lw_g (lw_at lw_m8 209 rfl) rfl, List.forall_mem_cons.mpr ⟨lw_g (lw_at lw_m8 211 rfl) rfl, List.forall_mem_cons.mpr ⟨lw_g (lw_at lw_m8 213 rfl) rfl, List.forall_mem_cons.mpr ⟨lw_g (lw_at lw_m8 215 rfl) rfl, List.forall_mem_cons.mpr ⟨lw_g (lw_at lw_m8 217 rfl) rfl, List.forall_mem_cons.mpr ⟨lw_g (lw_at lw_m8 219 rfl) rfl, List.forall_mem_cons.mpr ⟨lw_g (lw_at lw_m8 221 rfl) rfl, List.forall_mem_cons.mpr ⟨lw_g (lw_at lw_m8 223 rfl) rfl, List.forall_mem_cons.mpr ⟨lw_g (lw_at lw_m8 225 rfl) rfl, List.forall_mem_cons.mpr ⟨lw_g (lw_at lw_m8 227 rfl) rfl, List.forall_mem_cons.mpr ⟨lw_g (lw_at lw_m8 229 rfl) rfl, List.forall_mem_cons.mpr ⟨lw_g (lw_at lw_m8 231 rfl) rfl, List.forall_mem_cons.mpr ⟨lw_g (lw_at lw_m8 233 rfl) rfl, List.forall_mem_cons.mpr ⟨lw_g (lw_at lw_m8 235 rfl) rfl, List.forall_mem_cons.mpr ⟨lw_g (lw_at lw_m8 237 rfl) rfl, List.forall_mem_cons.mpr ⟨lw_g (lw_at lw_m8 239 rfl) rfl, List.forall_mem_cons.mpr ⟨lw_g (lw_at lw_m9 1 rfl) rfl, List.forall_mem_cons.mpr ⟨lw_g (lw_at lw_m9 3 rfl) rfl, List.forall_mem_cons.mpr ⟨lw_g (lw_at lw_m9 5 rfl) rfl, List.forall_mem_cons.mpr ⟨lw_g (lw_at lw_m9 7 rfl) rfl, List.forall_mem_cons.mpr ⟨lw_g (lw_at lw_m9 9 rfl) rfl, List.forall_mem_cons.mpr ⟨lw_g (lw_at lw_m9 11 rfl) rfl, List.forall_mem_cons.mpr ⟨lw_g (lw_at lw_m9 13 rfl) rfl, List.forall_mem_cons.mpr ⟨lw_g (lw_at lw_m9 15 rfl) rfl, List.forall_mem_cons.mpr ⟨lw_g (lw_at lw_m9 17 rfl) rfl, List.forall_mem_cons.mpr ⟨lw_g (lw_at lw_m9 19 rfl) rfl, List.forall_mem_cons.mpr ⟨lw_g (lw_at lw_m9 21 rfl) rfl, List.forall_mem_cons.mpr ⟨lw_g (lw_at lw_m9 23 rfl) rfl, List.forall_mem_cons.mpr ⟨lw_g (lw_at lw_m9 25 rfl) rfl, List.forall_mem_cons.mpr ⟨lw_g (lw_at lw_m9 27 rfl) rfl, List.forall_mem_cons.mpr ⟨lw_g (lw_at lw_m9 29 rfl) rfl, List.forall_mem_cons.mpr ⟨lw_g (lw_at lw_m9 31 rfl) rfl, List.forall_mem_cons.mpr ⟨lw_g (lw_at lw_m9 33 rfl) rfl, List.forall_mem_cons.mpr ⟨lw_g (lw_at lw_m9 35 rfl) rfl, List.forall_mem_cons.mpr ⟨lw_g (lw_at lw_m9 37 rfl) rfl, List.forall_mem_cons.mpr ⟨lw_g (lw_at lw_m9 39 rfl) rfl, List.forall_mem_cons.mpr ⟨lw_g (lw_at lw_m9 41 rfl) rfl, List.forall_mem_cons.mpr ⟨lw_g (lw_at lw_m9 43 rfl) rfl, List.forall_mem_cons.mpr ⟨lw_g (lw_at lw_m9 45 rfl) rfl, List.forall_mem_cons.mpr ⟨lw_g (lw_at lw_m9 47 rfl) rfl, List.forall_mem_cons.mpr ⟨lw_g (lw_at lw_m9 49 rfl) rfl, List.forall_mem_cons.mpr ⟨lw_g (lw_at lw_m9 51 rfl) rfl, List.forall_mem_cons.mpr ⟨lw_g (lw_at lw_m9 53 rfl) rfl, List.forall_mem_cons.mpr ⟨lw_g (lw_at lw_m9 55 rfl) rfl, List.forall_mem_cons.mpr ⟨lw_g (lw_at lw_m9 57 rfl) rfl, List.forall_mem_cons.mpr ⟨lw_g (lw_at lw_m9 59 rfl) rfl, List.forall_mem_cons.mpr ⟨lw_g (lw_at lw_m9 61 rfl) rfl, List.forall_mem_cons.mpr ⟨lw_g (lw_at lw_m9 63 rfl) rfl, List.forall_mem_cons.mpr ⟨lw_g (lw_at lw_m9 65 rfl) rfl, List.forall_mem_cons.mpr ⟨lw_g (lw_at lw_m9 67 rfl) rfl, List.forall_mem_cons.mpr ⟨lw_g (lw_at lw_m9 69 rfl) rfl, List.forall_mem_cons.mpr ⟨lw_g (lw_at lw_m9 71 rfl) rfl, List.forall_mem_cons.mpr ⟨lw_g (lw_at lw_m9 73 rfl) rfl, List.forall_mem_cons.mpr ⟨lw_g (lw_at lw_m9 75 rfl) rfl, List.forall_mem_cons.mpr ⟨lw_g (lw_at lw_m9 77 rfl) rfl, List.forall_mem_cons.mpr ⟨lw_g (lw_at lw_m9 79 rfl) rfl, List.forall_mem_cons.mpr ⟨lw_g (lw_at lw_m9 81 rfl) rfl, List.forall_mem_cons.mpr ⟨lw_g (lw_at lw_m9 83 rfl) rfl, List.forall_mem_cons.mpr ⟨lw_g (lw_at lw_m9 85 rfl) rfl, List.forall_mem_cons.mpr ⟨lw_g (lw_at lw_m9 87 rfl) rfl, List.forall_mem_cons.mpr ⟨lw_g (lw_at lw_m9 89 rfl) rfl, List.forall_mem_cons.mpr ⟨lw_g (lw_at lw_m9 91 rfl) rfl, List.forall_mem_cons.mpr ⟨lw_g (lw_at lw_m9 93 rfl) rfl, List.forall_mem_cons.mpr ⟨lw_g (lw_at lw_m9 95 rfl) rfl, List.forall_mem_cons.mpr ⟨lw_g (lw_at lw_m9 97 rfl) rfl, List.forall_mem_cons.mpr ⟨lw_g (lw_at lw_m9 99 rfl) rfl, List.forall_mem_cons.mpr ⟨lw_g (lw_at lw_m9 101 rfl) rfl, List.forall_mem_cons.mpr ⟨lw_g (lw_at lw_m9 103 rfl) rfl, List.forall_mem_cons.mpr ⟨lw_g (lw_at lw_m9 105 rfl) rfl, List.forall_mem_cons.mpr ⟨lw_g (lw_at lw_m9 107 rfl) rfl, List.forall_mem_cons.mpr ⟨lw_g (lw_at lw_m9 109 rfl) rfl, List.forall_mem_cons.mpr ⟨lw_g (lw_at lw_m9 111 rfl) rfl, List.forall_mem_cons.mpr ⟨lw_g (lw_at lw_m9 113 rfl) rfl, List.forall_mem_cons.mpr ⟨lw_g (lw_at lw_m9 115 rfl) rfl, List.forall_mem_cons.mpr ⟨lw_g (lw_at lw_m9 117 rfl) rfl, List.forall_mem_cons.mpr ⟨lw_g (lw_at lw_m9 119 rfl) rfl, List.forall_mem_cons.mpr ⟨lw_g (lw_at lw_m9 121 rfl) rfl, List.forall_mem_cons.mpr ⟨lw_g (lw_at lw_m9 123 rfl) rfl, List.forall_mem_cons.mpr ⟨lw_g (lw_at lw_m9 125 rfl) rfl, List.forall_mem_cons.mpr ⟨lw_g (lw_at lw_m9 127 rfl) rfl, List.forall_mem_cons.mpr ⟨lw_g (lw_at lw_m9 129 rfl) rfl, List.forall_mem_cons.mpr ⟨lw_g (lw_at lw_m9 131 rfl) rfl, List.forall_mem_cons.mpr ⟨lw_g (lw_at lw_m9 133 rfl) rfl, List.forall_mem_cons.mpr ⟨lw_g (lw_at lw_m9 135 rfl) rfl, List.forall_mem_cons.mpr ⟨lw_g (lw_at lw_m9 137 rfl) rfl, List.forall_mem_cons.mpr ⟨lw_g (lw_at lw_m9 139 rfl) rfl, List.forall_mem_cons.mpr ⟨lw_g (lw_at lw_m9 141 rfl) rfl, List.forall_mem_cons.mpr ⟨lw_g (lw_at lw_m9 143 rfl) rfl, List.forall_mem_cons.mpr ⟨lw_g (lw_at lw_m9 145 rfl) rfl, List.forall_mem_cons.mpr ⟨lw_g (lw_at lw_m9 147 rfl) rfl, List.forall_mem_cons.mpr ⟨lw_g (lw_at lw_m9 149 rfl) rfl, List.forall_mem_cons.mpr ⟨lw_g (lw_at lw_m9 151 rfl) rfl, List.forall_mem_cons.mpr ⟨lw_g (lw_at lw_m9 153 rfl) rfl, List.forall_mem_cons.mpr ⟨lw_g (lw_at lw_m9 155 rfl) rfl, List.forall_mem_cons.mpr ⟨lw_g (lw_at lw_m9 157 rfl) rfl, List.forall_mem_cons.mpr ⟨lw_g (lw_at lw_m9 159 rfl) rfl, List.forall_mem_cons.mpr ⟨lw_g (lw_at lw_m9 161 rfl) rfl, List.forall_mem_cons.mpr ⟨lw_g (lw_at lw_m9 163 rfl) rfl, List.forall_mem_cons.mpr ⟨lw_g (lw_at lw_m9 165 rfl) rfl, List.forall_mem_cons.mpr ⟨lw_g (lw_at lw_m9 167 rfl) rfl, List.forall_mem_cons.mpr ⟨lw_g (lw_at lw_m9 169 rfl) rfl, List.forall_mem_cons.mpr ⟨lw_g (lw_at lw_m9 171 rfl) rfl, List.forall_mem_cons.mpr ⟨lw_g (lw_at lw_m9 173 rfl) rfl, List.forall_mem_cons.mpr ⟨lw_g (lw_at lw_m9 175 rfl) rfl, fun _ h => absurd h List.not_mem_nil⟩⟩⟩⟩⟩⟩⟩⟩⟩⟩⟩⟩⟩⟩⟩⟩⟩⟩⟩⟩⟩⟩⟩⟩⟩⟩⟩⟩⟩⟩⟩⟩⟩⟩⟩⟩⟩⟩⟩⟩⟩⟩⟩⟩⟩⟩⟩⟩⟩⟩⟩⟩⟩⟩⟩⟩⟩⟩⟩⟩⟩⟩⟩⟩⟩⟩⟩⟩⟩⟩⟩⟩⟩⟩⟩⟩⟩⟩⟩⟩⟩⟩⟩⟩⟩⟩⟩⟩⟩⟩⟩⟩⟩⟩⟩⟩⟩⟩⟩⟩⟩⟩⟩⟩⟩⟩⟩⟩⟩⟩⟩⟩⟩⟩⟩⟩⟩⟩⟩⟩⟩⟩⟩⟩⟩⟩⟩⟩⟩⟩⟩⟩⟩⟩⟩⟩⟩⟩⟩⟩⟩⟩⟩⟩⟩⟩
theorem hty11 : ∀ k, k < 146 → parseFieldDescriptor (hT11 k).2.2.1 = some (hTy11 k) := by decide +kernel
def hhash (s : String) : Nat := s.toList.foldl (fun h c => h * 131 + c.toNat) 7
def hhT : List (List Nat) := [[17500390, 2292724126, 39576886177764, 5189086487638512, 302376833345, 298883299917, 2315221011, 2308219184, 5128560848222319, 39460893760203, 304186445076, 39341304362980, 5153710871826891, 675136124173108411, 305339699111, 39419641256570, 39225577305583, 299463187283, 673220496078478443], [17707651, 2321847900], [299191442848, 39881401481472, 2323956228, 2322052143, 39188159857589, 5184190129891874, 304762025540, 2292724643, 39383159390270, 306236857076, 684516186977942903, 5220146533149324, 88456098445895060612, 681206054704827011, 304186374721, 299735414180, 5189245834575256, 2297186776, 2306211212, 2294922161, 17620005, 5189090239805889, 5189090255301760, 303260300490, 5204250016717521, 17451150, 5139362471141305, 2292740363, 675211855965420864, 2315255336, 681842513735237997, 300634804505, 39265339257695], [673220886367652600, 2306040014, 39731222294686, 2290457563, 1037, 1038, 300339891552, 5204907610299137, 1532844880045394821277718, 303260455201, 89310180086110514729, 89310180086405427682, 300333440589, 39844002292243, 39611385623048, 299191442848, 132950, 17484408], [2292724126, 304186616934, 300634804505, 5199970919211115, 2315221011, 304186445076, 2297116413, 5204907610299137, 5215130896140616, 39188159857589, 304162075015, 134898, 132950, 2322035241, 304186374721, 17741966, 299431852214, 1513302573548284476072287, 39225572635548, 673150051992115922, 88182656812745135845, 673150051967385107, 447049438627523183162504020944125, 26050314004284318115362672403, 2313094232, 5200046219120816, 11690177170609389671345, 681206059428016423, 133609, 133610, 134919, 134920, 133347, 133348, 304483415892, 304483415893, 135173, 136221, 2306212799, 39808408248984, 39728297441820, 303275899956, 89661734772891245580], [17451150, 5139362471141305, 5220146533149324, 1537332741620899973985559, 684516186977942903, 683763580649950558], [2312904124, 2312904125, 1037, 1038, 684476215973882213, 684476215973882214, 2308220514], [17451019, 39845204883379, 89575646491481544719, 302091156014, 2292671984, 2283492148, 304159535319, 2321741668, 683752737978831468], [2292724126, 5189086487638512, 2321847900, 681196190416656180, 39383159390270, 303260455201, 2321741668, 683752737978831468], [1037, 1038, 134778, 39731222294686, 2290457563, 673220886367652600, 681791819771124994, 681791819771124995], [132954, 132955, 133085, 133086, 133216, 133217, 2306109691, 2308220514, 302082472651, 302082472652, 305321800199, 305321800172, 305321800173, 2299532976, 1014, 1015, 1016, 1017, 1018, 1019], [304492372767, 89672979725158833562, 2292724126, 675207074156576201, 677212164544720122, 39881401481472, 17740123, 17725588, 299146258454, 39573970457189, 304762025540, 2292724643, 39383159390270, 306236857076, 684516186977942903, 683839195842561559, 88456098445895060612, 681206054704827011, 89582863324785920100, 88272055797087302839, 5189245834575256, 302376914436, 5189090239805889, 5189090255301760, 303260300490, 2286100765, 39370745277445, 2294251439, 88509730996570148781, 5158110693782507, 39374859474192, 675712618375203688, 198997312730200634649690803, 300546938624, 133708, 133709, 300549151988, 39719154317402, 39719449230355, 2314655869, 2314742863, 39722962584197, 39999536347306, 89922597666552846064, 17451150, 5220146533149324, 134788, 134789, 133216, 133217, 5225009282243375, 134778, 688448322177093606, 673220886367652600, 2290457563, 304186374721, 17741966, 2315031714, 304186445076, 5153710871826891, 198827535243891752602470236, 39229677527639, 2315221011, 133609, 133610, 134919, 134920, 133347, 133348, 17707711, 17707712, 17707713, 17844999, 17845000, 17845001, 2306212799, 683152093960657327, 39728297441820, 303275899956, 89661734772891245580, 17451019, 39845204883379, 89575646491481544719, 302091156014, 2292671984, 2283492148, 304159535319, 2321741668, 683752737978831468, 89321419500343498688, 1532844880045394807650332, 5215130896140616, 17639007, 134898, 11587748896412252933738, 11587748896412252934780, 303015337958, 303015339000, 5200046241362802, 39346292894085, 5154364369119743, 5154364369120649, 5154364369120521, 5154364369118701, 88454046938470512925, 11563987478367433825056, 11563987478367433825057, 5163821586707504, 39462280695062, 88963264329994187570, 39341304362980, 1526698579100597540766425, 88963264329092632718, 5219725368524261, 1537208708752874987873555, 683784023328263472, 2303793233, 1537208708757737736967606, 302037201180, 88943382013915179986, 134395, 134396, 17600484, 302019438229, 679022541582585132, 303260455201, 679770367526987773, 679770367509107704, 302331701101, 89030112217384186227, 134526, 134527, 17617645, 302313938150, 679608647344531736, 302702686414, 134657, 134658, 17634806, 304483415919, 2299532976, 2330837382, 2323956876, 303278540923, 299463187283, 2285978528]]
theorem hh_all : (List.range 12).all (fun c => decide ((List.range (hnf c)).map (fun k => hhash (hTT c k).2.1) = hhT.getD c []) && decide (hhT.getD c []).Nodup) = true := by decide +kernel
theorem hnm_at : ∀ c, c < 12 → ∀ a, a < hnf c → ∀ b, b < hnf c → a ≠ b → (hTT c a).2.1 ≠ (hTT c b).2.1 := by
  intro c hc a ha b hb hab he
  have h := List.all_eq_true.mp hh_all c (List.mem_range.mpr hc)
  simp only [Bool.and_eq_true, decide_eq_true_eq] at h
  have hd := h.2
  rw [← h.1] at hd
  have hl : ((List.range (hnf c)).map (fun k => hhash (hTT c k).2.1)).length = hnf c := by rw [List.length_map, List.length_range]
  have ea : ((List.range (hnf c)).map (fun k => hhash (hTT c k).2.1))[a]? = ((List.range (hnf c)).map (fun k => hhash (hTT c k).2.1))[b]? := by
    rw [List.getElem?_map, List.getElem?_map, List.getElem?_range ha, List.getElem?_range hb]
    simp [he]
  exact hab ((List.getElem?_inj (by rw [hl]; exact ha) hd).mp ea)
theorem hcl_at : ∀ c, c < 12 → hcl[c]? = some (hRn c, hTT c, hnf c) := by
  intro c hc
  match c, hc with
  | 0, _ => rfl
  | 1, _ => rfl
  | 2, _ => rfl
  | 3, _ => rfl
  | 4, _ => rfl
  | 5, _ => rfl
  | 6, _ => rfl
  | 7, _ => rfl
  | 8, _ => rfl
  | 9, _ => rfl
  | 10, _ => rfl
  | 11, _ => rfl
  | c + 12, hc => exact absurd hc (by omega)
theorem hin_at : ∀ c, c < 12 → ∀ w ∈ u_ws (hRn c) (hTT c) (hnf c), w ∈ lw_all := by
  intro c hc
  match c, hc with
  | 0, _ => exact hin0
  | 1, _ => exact hin1
  | 2, _ => exact hin2
  | 3, _ => exact hin3
  | 4, _ => exact hin4
  | 5, _ => exact hin5
  | 6, _ => exact hin6
  | 7, _ => exact hin7
  | 8, _ => exact hin8
  | 9, _ => exact hin9
  | 10, _ => exact hin10
  | 11, _ => exact hin11
  | c + 12, hc => exact absurd hc (by omega)
theorem hty_at : ∀ c, c < 12 → ∀ k, k < hnf c → parseFieldDescriptor (hTT c k).2.2.1 = some (hTyT c k) := by
  intro c hc
  match c, hc with
  | 0, _ => exact hty0
  | 1, _ => exact hty1
  | 2, _ => exact hty2
  | 3, _ => exact hty3
  | 4, _ => exact hty4
  | 5, _ => exact hty5
  | 6, _ => exact hty6
  | 7, _ => exact hty7
  | 8, _ => exact hty8
  | 9, _ => exact hty9
  | 10, _ => exact hty10
  | 11, _ => exact hty11
  | c + 12, hc => exact absurd hc (by omega)
def hkOk (c k : Nat) : Bool := ((hTT c k).1 == hRn c) && (match hk c k with | 0 => decide (hTyT c k = .int) && !(hTT c k).2.2.2 | 1 => decide (hTyT c k = .boolean) && !(hTT c k).2.2.2 | 2 => decide (hTyT c k = .long) && !(hTT c k).2.2.2 | 3 => (hTyT c k).isReference && !(hTT c k).2.2.2 | 4 => (hTyT c k).isReference | _ => false)
theorem hk_all : (List.range 12).all (fun c => (List.range (hnf c)).all (fun k => hkOk c k)) = true := by decide +kernel
def hflT : List (List (Nat × Nat × Nat)) := [[(20, 0, 0), (29, 0, 1), (38, 0, 3), (47, 0, 4), (54, 0, 5), (61, 0, 9), (65, 0, 16), (69, 0, 17), (73, 0, 13), (97, 0, 6), (100, 0, 7), (111, 0, 2), (187, 0, 11), (193, 0, 12), (218, 0, 10), (238, 0, 8), (315, 0, 14), (318, 0, 15), (335, 0, 18)], [(9, 1, 0), (22, 1, 1)], [(12, 2, 0), (18, 2, 2), (22, 2, 3), (25, 2, 4), (28, 2, 5), (34, 2, 31), (38, 2, 32), (42, 2, 1), (50, 2, 23), (53, 2, 26), (56, 2, 28), (59, 2, 30), (106, 2, 16), (109, 2, 8), (116, 2, 17), (164, 2, 6), (167, 2, 7), (176, 2, 9), (179, 2, 10), (182, 2, 11), (185, 2, 12), (188, 2, 13), (191, 2, 14), (194, 2, 15), (201, 2, 18), (204, 2, 19), (237, 2, 21), (240, 2, 20), (253, 2, 22), (289, 2, 24), (294, 2, 25), (299, 2, 27), (304, 2, 29)], [(9, 3, 3), (15, 3, 4), (18, 3, 5), (21, 3, 6), (24, 3, 10), (27, 3, 11), (30, 3, 12), (33, 3, 13), (36, 3, 14), (39, 3, 15), (43, 3, 16), (47, 3, 17), (50, 3, 0), (53, 3, 1), (56, 3, 2), (59, 3, 8), (62, 3, 9), (101, 3, 7)], [(12, 4, 1), (23, 4, 2), (27, 4, 9), (31, 4, 10), (34, 4, 14), (37, 4, 17), (40, 4, 18), (43, 4, 19), (46, 4, 20), (49, 4, 21), (52, 4, 22), (55, 4, 23), (58, 4, 25), (61, 4, 26), (64, 4, 27), (67, 4, 36), (70, 4, 37), (73, 4, 0), (77, 4, 13), (84, 4, 4), (87, 4, 5), (90, 4, 24), (145, 4, 3), (158, 4, 7), (161, 4, 8), (164, 4, 11), (167, 4, 12), (170, 4, 15), (173, 4, 16), (180, 4, 38), (200, 4, 28), (203, 4, 29), (206, 4, 30), (209, 4, 31), (212, 4, 32), (215, 4, 33), (218, 4, 39), (222, 4, 40), (225, 4, 41), (228, 4, 42), (233, 4, 6), (293, 4, 34), (296, 4, 35)], [(7, 5, 0), (13, 5, 2), (21, 5, 4), (28, 5, 5), (32, 5, 1), (36, 5, 3)], [(7, 6, 0), (13, 6, 1), (16, 6, 2), (19, 6, 3), (22, 6, 4), (26, 6, 5), (29, 6, 6)], [(7, 7, 0), (13, 7, 1), (16, 7, 2), (19, 7, 3), (22, 7, 4), (26, 7, 5), (29, 7, 6), (32, 7, 7), (35, 7, 8)], [(12, 8, 2), (20, 8, 3), (26, 8, 4), (30, 8, 0), (34, 8, 1), (72, 8, 5), (152, 8, 6), (156, 8, 7)], [(9, 9, 0), (15, 9, 1), (18, 9, 2), (22, 9, 4), (25, 9, 6), (28, 9, 7), (31, 9, 3), (35, 9, 5)], [(11, 10, 0), (15, 10, 1), (18, 10, 2), (21, 10, 3), (24, 10, 4), (27, 10, 5), (30, 10, 6), (34, 10, 7), (63, 10, 8), (66, 10, 9), (69, 10, 10), (81, 10, 11), (84, 10, 12), (87, 10, 13), (108, 10, 14), (112, 10, 15), (115, 10, 16), (118, 10, 17), (121, 10, 18), (124, 10, 19)], [(7, 11, 0), (13, 11, 2), (16, 11, 6), (20, 11, 7), (24, 11, 8), (27, 11, 9), (30, 11, 33), (33, 11, 34), (36, 11, 35), (39, 11, 36), (42, 11, 37), (45, 11, 38), (48, 11, 39), (51, 11, 40), (54, 11, 41), (57, 11, 42), (61, 11, 43), (64, 11, 44), (67, 11, 45), (70, 11, 46), (73, 11, 47), (76, 11, 48), (79, 11, 49), (82, 11, 50), (85, 11, 51), (88, 11, 54), (91, 11, 55), (94, 11, 89), (97, 11, 90), (100, 11, 94), (103, 11, 95), (106, 11, 96), (109, 11, 97), (112, 11, 100), (115, 11, 101), (118, 11, 102), (121, 11, 103), (124, 11, 104), (127, 11, 112), (131, 11, 113), (134, 11, 114), (137, 11, 115), (140, 11, 116), (143, 11, 117), (146, 11, 118), (149, 11, 119), (152, 11, 120), (155, 11, 121), (158, 11, 122), (161, 11, 123), (164, 11, 124), (167, 11, 130), (170, 11, 131), (173, 11, 132), (176, 11, 133), (179, 11, 136), (182, 11, 137), (185, 11, 138), (188, 11, 143), (191, 11, 145), (206, 11, 3), (216, 11, 5), (254, 11, 20), (260, 11, 12), (271, 11, 11), (294, 11, 25), (302, 11, 10), (313, 11, 13), (316, 11, 14), (319, 11, 15), (322, 11, 16), (325, 11, 17), (328, 11, 18), (331, 11, 19), (342, 11, 26), (345, 11, 27), (348, 11, 28), (351, 11, 29), (354, 11, 30), (357, 11, 31), (360, 11, 32), (384, 11, 21), (387, 11, 22), (399, 11, 23), (405, 11, 24), (409, 11, 59), (412, 11, 61), (415, 11, 60), (418, 11, 56), (424, 11, 57), (427, 11, 92), (433, 11, 63), (436, 11, 64), (439, 11, 65), (442, 11, 66), (445, 11, 67), (448, 11, 68), (451, 11, 69), (454, 11, 70), (457, 11, 71), (460, 11, 72), (463, 11, 73), (466, 11, 74), (469, 11, 75), (476, 11, 76), (479, 11, 77), (482, 11, 78), (485, 11, 79), (493, 11, 91), (496, 11, 93), (499, 11, 99), (505, 11, 58), (514, 11, 52), (533, 11, 105), (536, 11, 106), (595, 11, 83), (605, 11, 80), (608, 11, 82), (615, 11, 81), (621, 11, 62), (655, 11, 98), (683, 11, 84), (700, 11, 85), (703, 11, 86), (706, 11, 53), (739, 11, 87), (747, 11, 88), (750, 11, 110), (753, 11, 111), (756, 11, 109), (759, 11, 4), (764, 11, 108), (767, 11, 107), (798, 11, 126), (801, 11, 127), (807, 11, 125), (823, 11, 128), (826, 11, 129), (829, 11, 134), (835, 11, 135), (846, 11, 140), (849, 11, 139), (881, 11, 141), (884, 11, 142), (896, 11, 144), (910, 11, 1)]]
def hflP : List (List Nat) := [[917, 918, 920, 921, 922, 926, 933, 934, 930, 923, 924, 919, 928, 929, 927, 925, 931, 932, 935], [253, 256], [357, 362, 364, 366, 368, 409, 410, 360, 395, 400, 404, 408, 388, 373, 389, 371, 372, 375, 378, 380, 381, 383, 385, 387, 390, 391, 393, 392, 394, 396, 398, 402, 406], [287, 289, 291, 293, 304, 306, 309, 311, 313, 315, 316, 317, 278, 281, 284, 297, 300, 295], [615, 617, 629, 630, 638, 641, 642, 643, 644, 645, 646, 647, 649, 650, 651, 660, 661, 614, 635, 621, 622, 648, 619, 627, 628, 631, 633, 639, 640, 662, 652, 653, 654, 655, 656, 657, 663, 664, 665, 666, 626, 658, 659], [580, 586, 592, 595, 583, 589], [496, 499, 502, 506, 510, 512, 514], [539, 541, 543, 545, 547, 549, 551, 553, 557], [822, 824, 825, 820, 821, 826, 827, 829], [771, 775, 779, 788, 797, 800, 784, 792], [856, 857, 858, 859, 860, 861, 862, 863, 864, 865, 866, 867, 868, 869, 870, 871, 872, 873, 874, 875], [1880, 1882, 1886, 1887, 1888, 1889, 1913, 1914, 1915, 1916, 1917, 1918, 1919, 1920, 1921, 1922, 1923, 1924, 1925, 1926, 1927, 1928, 1929, 1930, 1931, 1934, 1935, 1969, 1970, 1974, 1975, 1976, 1977, 1980, 1981, 1982, 1983, 1984, 1992, 1993, 1994, 1995, 1996, 1997, 1998, 1999, 2000, 2001, 2002, 2003, 2004, 2010, 2011, 2012, 2013, 2016, 2017, 2018, 2023, 2025, 1883, 1885, 1900, 1892, 1891, 1905, 1890, 1893, 1894, 1895, 1896, 1897, 1898, 1899, 1906, 1907, 1908, 1909, 1910, 1911, 1912, 1901, 1902, 1903, 1904, 1939, 1941, 1940, 1936, 1937, 1972, 1943, 1944, 1945, 1946, 1947, 1948, 1949, 1950, 1951, 1952, 1953, 1954, 1955, 1956, 1957, 1958, 1959, 1971, 1973, 1979, 1938, 1932, 1985, 1986, 1963, 1960, 1962, 1961, 1942, 1978, 1964, 1965, 1966, 1933, 1967, 1968, 1990, 1991, 1989, 1884, 1988, 1987, 2006, 2007, 2005, 2008, 2009, 2014, 2015, 2020, 2019, 2021, 2022, 2024, 1881]]
def hfnT : List (List (Nat × Nat × Nat)) := [[(83, 1, 1), (86, 1, 0), (90, 2, 0), (104, 4, 6), (115, 2, 8), (126, 2, 1), (131, 2, 2), (135, 2, 3), (138, 2, 4), (141, 2, 5), (168, 3, 0), (171, 3, 1), (174, 3, 2), (177, 3, 9), (180, 3, 8), (190, 4, 13), (196, 4, 12), (215, 4, 5), (233, 9, 6), (243, 9, 3), (244, 9, 0), (247, 9, 1), (250, 9, 2), (256, 9, 5), (257, 8, 2), (260, 5, 5), (266, 7, 7), (271, 8, 6), (272, 7, 8), (275, 8, 7), (276, 5, 1), (279, 5, 3), (282, 5, 0), (285, 5, 2), (288, 5, 4), (292, 6, 6), (297, 6, 2), (298, 6, 3), (299, 6, 0), (302, 6, 1)], [], [(134, 1, 1), (217, 3, 9), (224, 3, 11)], [], [(93, 5, 2), (96, 2, 11), (100, 5, 3), (103, 2, 26), (106, 5, 1), (107, 5, 0), (110, 2, 0), (114, 2, 25), (126, 5, 4), (129, 2, 10), (134, 5, 5), (142, 6, 6), (151, 2, 6), (231, 2, 14), (252, 6, 2), (255, 6, 3), (262, 6, 0), (265, 6, 1), (278, 6, 4), (282, 6, 5), (331, 2, 12), (349, 2, 13), (386, 2, 9), (395, 7, 3), (401, 7, 0), (404, 7, 2), (407, 7, 1), (449, 9, 5), (457, 9, 4), (490, 9, 3), (496, 7, 4), (520, 7, 5), (525, 7, 6), (550, 9, 2), (553, 7, 7), (561, 7, 8)], [], [], [], [(46, 2, 28), (52, 2, 27), (59, 2, 30), (62, 2, 29), (65, 4, 1), (75, 4, 5), (78, 4, 12), (81, 4, 13), (98, 3, 1), (104, 9, 6), (115, 9, 7), (118, 3, 9), (127, 3, 11), (143, 5, 5), (147, 7, 7), (153, 7, 8), (157, 3, 8), (163, 3, 2), (166, 9, 3), (167, 3, 0), (170, 9, 5), (171, 9, 0), (174, 3, 4), (175, 9, 1), (178, 3, 5), (179, 9, 2), (183, 3, 6), (186, 9, 4), (189, 3, 3), (190, 3, 10), (193, 3, 14), (202, 3, 12), (205, 3, 13), (215, 4, 2), (226, 6, 2), (227, 4, 3), (231, 3, 7), (234, 6, 3)], [], [(38, 9, 5), (47, 9, 4), (54, 9, 2), (57, 9, 0), (60, 9, 1)], []]
def hfnP : List (List Nat) := [[255, 254, 359, 625, 374, 361, 363, 365, 367, 369, 280, 283, 286, 302, 299, 637, 634, 624, 799, 786, 774, 778, 782, 795, 823, 598, 555, 828, 559, 830, 585, 591, 582, 588, 594, 516, 505, 509, 498, 501], [], [257, 303, 308], [], [587, 379, 590, 399, 584, 581, 358, 397, 593, 377, 596, 515, 370, 386, 504, 508, 497, 500, 511, 513, 382, 384, 376, 546, 540, 544, 542, 796, 791, 787, 548, 550, 552, 783, 556, 560], [], [], [], [403, 401, 407, 405, 616, 623, 632, 636, 282, 798, 801, 301, 307, 597, 554, 558, 298, 285, 785, 279, 794, 773, 290, 777, 292, 781, 294, 790, 288, 305, 314, 310, 312, 618, 503, 620, 296, 507], [], [793, 789, 780, 772, 776], []]
def hflW (own : Nat) (e : Nat × Nat × Nat) : Cond := .fieldLink (hRn own) e.1 (hRn e.2.1) (hTT e.2.1 e.2.2).2.1 (hTT e.2.1 e.2.2).2.2.1
def hfnW (own : Nat) (e : Nat × Nat × Nat) : Cond := .fieldLinkNest (hRn own) e.1 (hRn e.2.1) (hTT e.2.1 e.2.2).2.1 (hTT e.2.1 e.2.2).2.2.1 "HintHouse"
theorem hfl_0 : ∀ e ∈ hflT.getD 0 [], hflW 0 e ∈ lw_all := List.forall_mem_cons.mpr ⟨lw_g (lw_at lw_m3 216 rfl) rfl, List.forall_mem_cons.mpr ⟨lw_g (lw_at lw_m3 217 rfl) rfl, List.forall_mem_cons.mpr ⟨lw_g (lw_at lw_m3 219 rfl) rfl, List.forall_mem_cons.mpr ⟨lw_g (lw_at lw_m3 220 rfl) rfl, List.forall_mem_cons.mpr ⟨lw_g (lw_at lw_m3 221 rfl) rfl, List.forall_mem_cons.mpr ⟨lw_g (lw_at lw_m3 225 rfl) rfl, List.forall_mem_cons.mpr ⟨lw_g (lw_at lw_m3 232 rfl) rfl, List.forall_mem_cons.mpr ⟨lw_g (lw_at lw_m3 233 rfl) rfl, List.forall_mem_cons.mpr ⟨lw_g (lw_at lw_m3 229 rfl) rfl, List.forall_mem_cons.mpr ⟨lw_g (lw_at lw_m3 222 rfl) rfl, List.forall_mem_cons.mpr ⟨lw_g (lw_at lw_m3 223 rfl) rfl, List.forall_mem_cons.mpr ⟨lw_g (lw_at lw_m3 218 rfl) rfl, List.forall_mem_cons.mpr ⟨lw_g (lw_at lw_m3 227 rfl) rfl, List.forall_mem_cons.mpr ⟨lw_g (lw_at lw_m3 228 rfl) rfl, List.forall_mem_cons.mpr ⟨lw_g (lw_at lw_m3 226 rfl) rfl, List.forall_mem_cons.mpr ⟨lw_g (lw_at lw_m3 224 rfl) rfl, List.forall_mem_cons.mpr ⟨lw_g (lw_at lw_m3 230 rfl) rfl, List.forall_mem_cons.mpr ⟨lw_g (lw_at lw_m3 231 rfl) rfl, List.forall_mem_cons.mpr ⟨lw_g (lw_at lw_m3 234 rfl) rfl, fun _ h => absurd h List.not_mem_nil⟩⟩⟩⟩⟩⟩⟩⟩⟩⟩⟩⟩⟩⟩⟩⟩⟩⟩⟩
theorem hfn_0 : ∀ e ∈ hfnT.getD 0 [], hfnW 0 e ∈ lw_tbl := List.forall_mem_cons.mpr ⟨lw_at lw_m1 34 rfl, List.forall_mem_cons.mpr ⟨lw_at lw_m1 33 rfl, List.forall_mem_cons.mpr ⟨lw_at lw_m1 138 rfl, List.forall_mem_cons.mpr ⟨lw_at lw_m2 164 rfl, List.forall_mem_cons.mpr ⟨lw_at lw_m1 153 rfl, List.forall_mem_cons.mpr ⟨lw_at lw_m1 140 rfl, List.forall_mem_cons.mpr ⟨lw_at lw_m1 142 rfl, List.forall_mem_cons.mpr ⟨lw_at lw_m1 144 rfl, List.forall_mem_cons.mpr ⟨lw_at lw_m1 146 rfl, List.forall_mem_cons.mpr ⟨lw_at lw_m1 148 rfl, List.forall_mem_cons.mpr ⟨lw_at lw_m1 59 rfl, List.forall_mem_cons.mpr ⟨lw_at lw_m1 62 rfl, List.forall_mem_cons.mpr ⟨lw_at lw_m1 65 rfl, List.forall_mem_cons.mpr ⟨lw_at lw_m1 81 rfl, List.forall_mem_cons.mpr ⟨lw_at lw_m1 78 rfl, List.forall_mem_cons.mpr ⟨lw_at lw_m2 176 rfl, List.forall_mem_cons.mpr ⟨lw_at lw_m2 173 rfl, List.forall_mem_cons.mpr ⟨lw_at lw_m2 163 rfl, List.forall_mem_cons.mpr ⟨lw_at lw_m3 98 rfl, List.forall_mem_cons.mpr ⟨lw_at lw_m3 85 rfl, List.forall_mem_cons.mpr ⟨lw_at lw_m3 73 rfl, List.forall_mem_cons.mpr ⟨lw_at lw_m3 77 rfl, List.forall_mem_cons.mpr ⟨lw_at lw_m3 81 rfl, List.forall_mem_cons.mpr ⟨lw_at lw_m3 94 rfl, List.forall_mem_cons.mpr ⟨lw_at lw_m3 122 rfl, List.forall_mem_cons.mpr ⟨lw_at lw_m2 137 rfl, List.forall_mem_cons.mpr ⟨lw_at lw_m2 94 rfl, List.forall_mem_cons.mpr ⟨lw_at lw_m3 127 rfl, List.forall_mem_cons.mpr ⟨lw_at lw_m2 98 rfl, List.forall_mem_cons.mpr ⟨lw_at lw_m3 129 rfl, List.forall_mem_cons.mpr ⟨lw_at lw_m2 124 rfl, List.forall_mem_cons.mpr ⟨lw_at lw_m2 130 rfl, List.forall_mem_cons.mpr ⟨lw_at lw_m2 121 rfl, List.forall_mem_cons.mpr ⟨lw_at lw_m2 127 rfl, List.forall_mem_cons.mpr ⟨lw_at lw_m2 133 rfl, List.forall_mem_cons.mpr ⟨lw_at lw_m2 55 rfl, List.forall_mem_cons.mpr ⟨lw_at lw_m2 44 rfl, List.forall_mem_cons.mpr ⟨lw_at lw_m2 48 rfl, List.forall_mem_cons.mpr ⟨lw_at lw_m2 37 rfl, List.forall_mem_cons.mpr ⟨lw_at lw_m2 40 rfl, fun _ h => absurd h List.not_mem_nil⟩⟩⟩⟩⟩⟩⟩⟩⟩⟩⟩⟩⟩⟩⟩⟩⟩⟩⟩⟩⟩⟩⟩⟩⟩⟩⟩⟩⟩⟩⟩⟩⟩⟩⟩⟩⟩⟩⟩⟩
theorem hfl_1 : ∀ e ∈ hflT.getD 1 [], hflW 1 e ∈ lw_all := List.forall_mem_cons.mpr ⟨lw_g (lw_at lw_m1 32 rfl) rfl, List.forall_mem_cons.mpr ⟨lw_g (lw_at lw_m1 35 rfl) rfl, fun _ h => absurd h List.not_mem_nil⟩⟩
theorem hfn_1 : ∀ e ∈ hfnT.getD 1 [], hfnW 1 e ∈ lw_tbl := fun _ h => absurd h List.not_mem_nil
theorem hfl_2 : ∀ e ∈ hflT.getD 2 [], hflW 2 e ∈ lw_all := List.forall_mem_cons.mpr ⟨lw_g (lw_at lw_m1 136 rfl) rfl, List.forall_mem_cons.mpr ⟨lw_g (lw_at lw_m1 141 rfl) rfl, List.forall_mem_cons.mpr ⟨lw_g (lw_at lw_m1 143 rfl) rfl, List.forall_mem_cons.mpr ⟨lw_g (lw_at lw_m1 145 rfl) rfl, List.forall_mem_cons.mpr ⟨lw_g (lw_at lw_m1 147 rfl) rfl, List.forall_mem_cons.mpr ⟨lw_g (lw_at lw_m1 188 rfl) rfl, List.forall_mem_cons.mpr ⟨lw_g (lw_at lw_m1 189 rfl) rfl, List.forall_mem_cons.mpr ⟨lw_g (lw_at lw_m1 139 rfl) rfl, List.forall_mem_cons.mpr ⟨lw_g (lw_at lw_m1 174 rfl) rfl, List.forall_mem_cons.mpr ⟨lw_g (lw_at lw_m1 179 rfl) rfl, List.forall_mem_cons.mpr ⟨lw_g (lw_at lw_m1 183 rfl) rfl, List.forall_mem_cons.mpr ⟨lw_g (lw_at lw_m1 187 rfl) rfl, List.forall_mem_cons.mpr ⟨lw_g (lw_at lw_m1 167 rfl) rfl, List.forall_mem_cons.mpr ⟨lw_g (lw_at lw_m1 152 rfl) rfl, List.forall_mem_cons.mpr ⟨lw_g (lw_at lw_m1 168 rfl) rfl, List.forall_mem_cons.mpr ⟨lw_g (lw_at lw_m1 150 rfl) rfl, List.forall_mem_cons.mpr ⟨lw_g (lw_at lw_m1 151 rfl) rfl, List.forall_mem_cons.mpr ⟨lw_g (lw_at lw_m1 154 rfl) rfl, List.forall_mem_cons.mpr ⟨lw_g (lw_at lw_m1 157 rfl) rfl, List.forall_mem_cons.mpr ⟨lw_g (lw_at lw_m1 159 rfl) rfl, List.forall_mem_cons.mpr ⟨lw_g (lw_at lw_m1 160 rfl) rfl, List.forall_mem_cons.mpr ⟨lw_g (lw_at lw_m1 162 rfl) rfl, List.forall_mem_cons.mpr ⟨lw_g (lw_at lw_m1 164 rfl) rfl, List.forall_mem_cons.mpr ⟨lw_g (lw_at lw_m1 166 rfl) rfl, List.forall_mem_cons.mpr ⟨lw_g (lw_at lw_m1 169 rfl) rfl, List.forall_mem_cons.mpr ⟨lw_g (lw_at lw_m1 170 rfl) rfl, List.forall_mem_cons.mpr ⟨lw_g (lw_at lw_m1 172 rfl) rfl, List.forall_mem_cons.mpr ⟨lw_g (lw_at lw_m1 171 rfl) rfl, List.forall_mem_cons.mpr ⟨lw_g (lw_at lw_m1 173 rfl) rfl, List.forall_mem_cons.mpr ⟨lw_g (lw_at lw_m1 175 rfl) rfl, List.forall_mem_cons.mpr ⟨lw_g (lw_at lw_m1 177 rfl) rfl, List.forall_mem_cons.mpr ⟨lw_g (lw_at lw_m1 181 rfl) rfl, List.forall_mem_cons.mpr ⟨lw_g (lw_at lw_m1 185 rfl) rfl, fun _ h => absurd h List.not_mem_nil⟩⟩⟩⟩⟩⟩⟩⟩⟩⟩⟩⟩⟩⟩⟩⟩⟩⟩⟩⟩⟩⟩⟩⟩⟩⟩⟩⟩⟩⟩⟩⟩⟩
theorem hfn_2 : ∀ e ∈ hfnT.getD 2 [], hfnW 2 e ∈ lw_tbl := List.forall_mem_cons.mpr ⟨lw_at lw_m1 36 rfl, List.forall_mem_cons.mpr ⟨lw_at lw_m1 82 rfl, List.forall_mem_cons.mpr ⟨lw_at lw_m1 87 rfl, fun _ h => absurd h List.not_mem_nil⟩⟩⟩
theorem hfl_3 : ∀ e ∈ hflT.getD 3 [], hflW 3 e ∈ lw_all := List.forall_mem_cons.mpr ⟨lw_g (lw_at lw_m1 66 rfl) rfl, List.forall_mem_cons.mpr ⟨lw_g (lw_at lw_m1 68 rfl) rfl, List.forall_mem_cons.mpr ⟨lw_g (lw_at lw_m1 70 rfl) rfl, List.forall_mem_cons.mpr ⟨lw_g (lw_at lw_m1 72 rfl) rfl, List.forall_mem_cons.mpr ⟨lw_g (lw_at lw_m1 83 rfl) rfl, List.forall_mem_cons.mpr ⟨lw_g (lw_at lw_m1 85 rfl) rfl, List.forall_mem_cons.mpr ⟨lw_g (lw_at lw_m1 88 rfl) rfl, List.forall_mem_cons.mpr ⟨lw_g (lw_at lw_m1 90 rfl) rfl, List.forall_mem_cons.mpr ⟨lw_g (lw_at lw_m1 92 rfl) rfl, List.forall_mem_cons.mpr ⟨lw_g (lw_at lw_m1 94 rfl) rfl, List.forall_mem_cons.mpr ⟨lw_g (lw_at lw_m1 95 rfl) rfl, List.forall_mem_cons.mpr ⟨lw_g (lw_at lw_m1 96 rfl) rfl, List.forall_mem_cons.mpr ⟨lw_g (lw_at lw_m1 57 rfl) rfl, List.forall_mem_cons.mpr ⟨lw_g (lw_at lw_m1 60 rfl) rfl, List.forall_mem_cons.mpr ⟨lw_g (lw_at lw_m1 63 rfl) rfl, List.forall_mem_cons.mpr ⟨lw_g (lw_at lw_m1 76 rfl) rfl, List.forall_mem_cons.mpr ⟨lw_g (lw_at lw_m1 79 rfl) rfl, List.forall_mem_cons.mpr ⟨lw_g (lw_at lw_m1 74 rfl) rfl, fun _ h => absurd h List.not_mem_nil⟩⟩⟩⟩⟩⟩⟩⟩⟩⟩⟩⟩⟩⟩⟩⟩⟩⟩
theorem hfn_3 : ∀ e ∈ hfnT.getD 3 [], hfnW 3 e ∈ lw_tbl := fun _ h => absurd h List.not_mem_nil
theorem hfl_4 : ∀ e ∈ hflT.getD 4 [], hflW 4 e ∈ lw_all := List.forall_mem_cons.mpr ⟨lw_g (lw_at lw_m2 154 rfl) rfl, List.forall_mem_cons.mpr ⟨lw_g (lw_at lw_m2 156 rfl) rfl, List.forall_mem_cons.mpr ⟨lw_g (lw_at lw_m2 168 rfl) rfl, List.forall_mem_cons.mpr ⟨lw_g (lw_at lw_m2 169 rfl) rfl, List.forall_mem_cons.mpr ⟨lw_g (lw_at lw_m2 177 rfl) rfl, List.forall_mem_cons.mpr ⟨lw_g (lw_at lw_m2 180 rfl) rfl, List.forall_mem_cons.mpr ⟨lw_g (lw_at lw_m2 181 rfl) rfl, List.forall_mem_cons.mpr ⟨lw_g (lw_at lw_m2 182 rfl) rfl, List.forall_mem_cons.mpr ⟨lw_g (lw_at lw_m2 183 rfl) rfl, List.forall_mem_cons.mpr ⟨lw_g (lw_at lw_m2 184 rfl) rfl, List.forall_mem_cons.mpr ⟨lw_g (lw_at lw_m2 185 rfl) rfl, List.forall_mem_cons.mpr ⟨lw_g (lw_at lw_m2 186 rfl) rfl, List.forall_mem_cons.mpr ⟨lw_g (lw_at lw_m2 188 rfl) rfl, List.forall_mem_cons.mpr ⟨lw_g (lw_at lw_m2 189 rfl) rfl, List.forall_mem_cons.mpr ⟨lw_g (lw_at lw_m2 190 rfl) rfl, List.forall_mem_cons.mpr ⟨lw_g (lw_at lw_m2 199 rfl) rfl, List.forall_mem_cons.mpr ⟨lw_g (lw_at lw_m2 200 rfl) rfl, List.forall_mem_cons.mpr ⟨lw_g (lw_at lw_m2 153 rfl) rfl, List.forall_mem_cons.mpr ⟨lw_g (lw_at lw_m2 174 rfl) rfl, List.forall_mem_cons.mpr ⟨lw_g (lw_at lw_m2 160 rfl) rfl, List.forall_mem_cons.mpr ⟨lw_g (lw_at lw_m2 161 rfl) rfl, List.forall_mem_cons.mpr ⟨lw_g (lw_at lw_m2 187 rfl) rfl, List.forall_mem_cons.mpr ⟨lw_g (lw_at lw_m2 158 rfl) rfl, List.forall_mem_cons.mpr ⟨lw_g (lw_at lw_m2 166 rfl) rfl, List.forall_mem_cons.mpr ⟨lw_g (lw_at lw_m2 167 rfl) rfl, List.forall_mem_cons.mpr ⟨lw_g (lw_at lw_m2 170 rfl) rfl, List.forall_mem_cons.mpr ⟨lw_g (lw_at lw_m2 172 rfl) rfl, List.forall_mem_cons.mpr ⟨lw_g (lw_at lw_m2 178 rfl) rfl, List.forall_mem_cons.mpr ⟨lw_g (lw_at lw_m2 179 rfl) rfl, List.forall_mem_cons.mpr ⟨lw_g (lw_at lw_m2 201 rfl) rfl, List.forall_mem_cons.mpr ⟨lw_g (lw_at lw_m2 191 rfl) rfl, List.forall_mem_cons.mpr ⟨lw_g (lw_at lw_m2 192 rfl) rfl, List.forall_mem_cons.mpr ⟨lw_g (lw_at lw_m2 193 rfl) rfl, List.forall_mem_cons.mpr ⟨lw_g (lw_at lw_m2 194 rfl) rfl, List.forall_mem_cons.mpr ⟨lw_g (lw_at lw_m2 195 rfl) rfl, List.forall_mem_cons.mpr ⟨lw_g (lw_at lw_m2 196 rfl) rfl, List.forall_mem_cons.mpr ⟨lw_g (lw_at lw_m2 202 rfl) rfl, List.forall_mem_cons.mpr ⟨lw_g (lw_at lw_m2 203 rfl) rfl, List.forall_mem_cons.mpr ⟨lw_g (lw_at lw_m2 204 rfl) rfl, List.forall_mem_cons.mpr ⟨lw_g (lw_at lw_m2 205 rfl) rfl, List.forall_mem_cons.mpr ⟨lw_g (lw_at lw_m2 165 rfl) rfl, List.forall_mem_cons.mpr ⟨lw_g (lw_at lw_m2 197 rfl) rfl, List.forall_mem_cons.mpr ⟨lw_g (lw_at lw_m2 198 rfl) rfl, fun _ h => absurd h List.not_mem_nil⟩⟩⟩⟩⟩⟩⟩⟩⟩⟩⟩⟩⟩⟩⟩⟩⟩⟩⟩⟩⟩⟩⟩⟩⟩⟩⟩⟩⟩⟩⟩⟩⟩⟩⟩⟩⟩⟩⟩⟩⟩⟩⟩
theorem hfn_4 : ∀ e ∈ hfnT.getD 4 [], hfnW 4 e ∈ lw_tbl := List.forall_mem_cons.mpr ⟨lw_at lw_m2 126 rfl, List.forall_mem_cons.mpr ⟨lw_at lw_m1 158 rfl, List.forall_mem_cons.mpr ⟨lw_at lw_m2 129 rfl, List.forall_mem_cons.mpr ⟨lw_at lw_m1 178 rfl, List.forall_mem_cons.mpr ⟨lw_at lw_m2 123 rfl, List.forall_mem_cons.mpr ⟨lw_at lw_m2 120 rfl, List.forall_mem_cons.mpr ⟨lw_at lw_m1 137 rfl, List.forall_mem_cons.mpr ⟨lw_at lw_m1 176 rfl, List.forall_mem_cons.mpr ⟨lw_at lw_m2 132 rfl, List.forall_mem_cons.mpr ⟨lw_at lw_m1 156 rfl, List.forall_mem_cons.mpr ⟨lw_at lw_m2 135 rfl, List.forall_mem_cons.mpr ⟨lw_at lw_m2 54 rfl, List.forall_mem_cons.mpr ⟨lw_at lw_m1 149 rfl, List.forall_mem_cons.mpr ⟨lw_at lw_m1 165 rfl, List.forall_mem_cons.mpr ⟨lw_at lw_m2 43 rfl, List.forall_mem_cons.mpr ⟨lw_at lw_m2 47 rfl, List.forall_mem_cons.mpr ⟨lw_at lw_m2 36 rfl, List.forall_mem_cons.mpr ⟨lw_at lw_m2 39 rfl, List.forall_mem_cons.mpr ⟨lw_at lw_m2 50 rfl, List.forall_mem_cons.mpr ⟨lw_at lw_m2 52 rfl, List.forall_mem_cons.mpr ⟨lw_at lw_m1 161 rfl, List.forall_mem_cons.mpr ⟨lw_at lw_m1 163 rfl, List.forall_mem_cons.mpr ⟨lw_at lw_m1 155 rfl, List.forall_mem_cons.mpr ⟨lw_at lw_m2 85 rfl, List.forall_mem_cons.mpr ⟨lw_at lw_m2 79 rfl, List.forall_mem_cons.mpr ⟨lw_at lw_m2 83 rfl, List.forall_mem_cons.mpr ⟨lw_at lw_m2 81 rfl, List.forall_mem_cons.mpr ⟨lw_at lw_m3 95 rfl, List.forall_mem_cons.mpr ⟨lw_at lw_m3 90 rfl, List.forall_mem_cons.mpr ⟨lw_at lw_m3 86 rfl, List.forall_mem_cons.mpr ⟨lw_at lw_m2 87 rfl, List.forall_mem_cons.mpr ⟨lw_at lw_m2 89 rfl, List.forall_mem_cons.mpr ⟨lw_at lw_m2 91 rfl, List.forall_mem_cons.mpr ⟨lw_at lw_m3 82 rfl, List.forall_mem_cons.mpr ⟨lw_at lw_m2 95 rfl, List.forall_mem_cons.mpr ⟨lw_at lw_m2 99 rfl, fun _ h => absurd h List.not_mem_nil⟩⟩⟩⟩⟩⟩⟩⟩⟩⟩⟩⟩⟩⟩⟩⟩⟩⟩⟩⟩⟩⟩⟩⟩⟩⟩⟩⟩⟩⟩⟩⟩⟩⟩⟩⟩
theorem hfl_5 : ∀ e ∈ hflT.getD 5 [], hflW 5 e ∈ lw_all := List.forall_mem_cons.mpr ⟨lw_g (lw_at lw_m2 119 rfl) rfl, List.forall_mem_cons.mpr ⟨lw_g (lw_at lw_m2 125 rfl) rfl, List.forall_mem_cons.mpr ⟨lw_g (lw_at lw_m2 131 rfl) rfl, List.forall_mem_cons.mpr ⟨lw_g (lw_at lw_m2 134 rfl) rfl, List.forall_mem_cons.mpr ⟨lw_g (lw_at lw_m2 122 rfl) rfl, List.forall_mem_cons.mpr ⟨lw_g (lw_at lw_m2 128 rfl) rfl, fun _ h => absurd h List.not_mem_nil⟩⟩⟩⟩⟩⟩
theorem hfn_5 : ∀ e ∈ hfnT.getD 5 [], hfnW 5 e ∈ lw_tbl := fun _ h => absurd h List.not_mem_nil
theorem hfl_6 : ∀ e ∈ hflT.getD 6 [], hflW 6 e ∈ lw_all := List.forall_mem_cons.mpr ⟨lw_g (lw_at lw_m2 35 rfl) rfl, List.forall_mem_cons.mpr ⟨lw_g (lw_at lw_m2 38 rfl) rfl, List.forall_mem_cons.mpr ⟨lw_g (lw_at lw_m2 41 rfl) rfl, List.forall_mem_cons.mpr ⟨lw_g (lw_at lw_m2 45 rfl) rfl, List.forall_mem_cons.mpr ⟨lw_g (lw_at lw_m2 49 rfl) rfl, List.forall_mem_cons.mpr ⟨lw_g (lw_at lw_m2 51 rfl) rfl, List.forall_mem_cons.mpr ⟨lw_g (lw_at lw_m2 53 rfl) rfl, fun _ h => absurd h List.not_mem_nil⟩⟩⟩⟩⟩⟩⟩
theorem hfn_6 : ∀ e ∈ hfnT.getD 6 [], hfnW 6 e ∈ lw_tbl := fun _ h => absurd h List.not_mem_nil
theorem hfl_7 : ∀ e ∈ hflT.getD 7 [], hflW 7 e ∈ lw_all := List.forall_mem_cons.mpr ⟨lw_g (lw_at lw_m2 78 rfl) rfl, List.forall_mem_cons.mpr ⟨lw_g (lw_at lw_m2 80 rfl) rfl, List.forall_mem_cons.mpr ⟨lw_g (lw_at lw_m2 82 rfl) rfl, List.forall_mem_cons.mpr ⟨lw_g (lw_at lw_m2 84 rfl) rfl, List.forall_mem_cons.mpr ⟨lw_g (lw_at lw_m2 86 rfl) rfl, List.forall_mem_cons.mpr ⟨lw_g (lw_at lw_m2 88 rfl) rfl, List.forall_mem_cons.mpr ⟨lw_g (lw_at lw_m2 90 rfl) rfl, List.forall_mem_cons.mpr ⟨lw_g (lw_at lw_m2 92 rfl) rfl, List.forall_mem_cons.mpr ⟨lw_g (lw_at lw_m2 96 rfl) rfl, fun _ h => absurd h List.not_mem_nil⟩⟩⟩⟩⟩⟩⟩⟩⟩
theorem hfn_7 : ∀ e ∈ hfnT.getD 7 [], hfnW 7 e ∈ lw_tbl := fun _ h => absurd h List.not_mem_nil
theorem hfl_8 : ∀ e ∈ hflT.getD 8 [], hflW 8 e ∈ lw_all := List.forall_mem_cons.mpr ⟨lw_g (lw_at lw_m3 121 rfl) rfl, List.forall_mem_cons.mpr ⟨lw_g (lw_at lw_m3 123 rfl) rfl, List.forall_mem_cons.mpr ⟨lw_g (lw_at lw_m3 124 rfl) rfl, List.forall_mem_cons.mpr ⟨lw_g (lw_at lw_m3 119 rfl) rfl, List.forall_mem_cons.mpr ⟨lw_g (lw_at lw_m3 120 rfl) rfl, List.forall_mem_cons.mpr ⟨lw_g (lw_at lw_m3 125 rfl) rfl, List.forall_mem_cons.mpr ⟨lw_g (lw_at lw_m3 126 rfl) rfl, List.forall_mem_cons.mpr ⟨lw_g (lw_at lw_m3 128 rfl) rfl, fun _ h => absurd h List.not_mem_nil⟩⟩⟩⟩⟩⟩⟩⟩
theorem hfn_8 : ∀ e ∈ hfnT.getD 8 [], hfnW 8 e ∈ lw_tbl := List.forall_mem_cons.mpr ⟨lw_at lw_m1 182 rfl, List.forall_mem_cons.mpr ⟨lw_at lw_m1 180 rfl, List.forall_mem_cons.mpr ⟨lw_at lw_m1 186 rfl, List.forall_mem_cons.mpr ⟨lw_at lw_m1 184 rfl, List.forall_mem_cons.mpr ⟨lw_at lw_m2 155 rfl, List.forall_mem_cons.mpr ⟨lw_at lw_m2 162 rfl, List.forall_mem_cons.mpr ⟨lw_at lw_m2 171 rfl, List.forall_mem_cons.mpr ⟨lw_at lw_m2 175 rfl, List.forall_mem_cons.mpr ⟨lw_at lw_m1 61 rfl, List.forall_mem_cons.mpr ⟨lw_at lw_m3 97 rfl, List.forall_mem_cons.mpr ⟨lw_at lw_m3 100 rfl, List.forall_mem_cons.mpr ⟨lw_at lw_m1 80 rfl, List.forall_mem_cons.mpr ⟨lw_at lw_m1 86 rfl, List.forall_mem_cons.mpr ⟨lw_at lw_m2 136 rfl, List.forall_mem_cons.mpr ⟨lw_at lw_m2 93 rfl, List.forall_mem_cons.mpr ⟨lw_at lw_m2 97 rfl, List.forall_mem_cons.mpr ⟨lw_at lw_m1 77 rfl, List.forall_mem_cons.mpr ⟨lw_at lw_m1 64 rfl, List.forall_mem_cons.mpr ⟨lw_at lw_m3 84 rfl, List.forall_mem_cons.mpr ⟨lw_at lw_m1 58 rfl, List.forall_mem_cons.mpr ⟨lw_at lw_m3 93 rfl, List.forall_mem_cons.mpr ⟨lw_at lw_m3 72 rfl, List.forall_mem_cons.mpr ⟨lw_at lw_m1 69 rfl, List.forall_mem_cons.mpr ⟨lw_at lw_m3 76 rfl, List.forall_mem_cons.mpr ⟨lw_at lw_m1 71 rfl, List.forall_mem_cons.mpr ⟨lw_at lw_m3 80 rfl, List.forall_mem_cons.mpr ⟨lw_at lw_m1 73 rfl, List.forall_mem_cons.mpr ⟨lw_at lw_m3 89 rfl, List.forall_mem_cons.mpr ⟨lw_at lw_m1 67 rfl, List.forall_mem_cons.mpr ⟨lw_at lw_m1 84 rfl, List.forall_mem_cons.mpr ⟨lw_at lw_m1 93 rfl, List.forall_mem_cons.mpr ⟨lw_at lw_m1 89 rfl, List.forall_mem_cons.mpr ⟨lw_at lw_m1 91 rfl, List.forall_mem_cons.mpr ⟨lw_at lw_m2 157 rfl, List.forall_mem_cons.mpr ⟨lw_at lw_m2 42 rfl, List.forall_mem_cons.mpr ⟨lw_at lw_m2 159 rfl, List.forall_mem_cons.mpr ⟨lw_at lw_m1 75 rfl, List.forall_mem_cons.mpr ⟨lw_at lw_m2 46 rfl, fun _ h => absurd h List.not_mem_nil⟩⟩⟩⟩⟩⟩⟩⟩⟩⟩⟩⟩⟩⟩⟩⟩⟩⟩⟩⟩⟩⟩⟩⟩⟩⟩⟩⟩⟩⟩⟩⟩⟩⟩⟩⟩⟩⟩
theorem hfl_9 : ∀ e ∈ hflT.getD 9 [], hflW 9 e ∈ lw_all := List.forall_mem_cons.mpr ⟨lw_g (lw_at lw_m3 70 rfl) rfl, List.forall_mem_cons.mpr ⟨lw_g (lw_at lw_m3 74 rfl) rfl, List.forall_mem_cons.mpr ⟨lw_g (lw_at lw_m3 78 rfl) rfl, List.forall_mem_cons.mpr ⟨lw_g (lw_at lw_m3 87 rfl) rfl, List.forall_mem_cons.mpr ⟨lw_g (lw_at lw_m3 96 rfl) rfl, List.forall_mem_cons.mpr ⟨lw_g (lw_at lw_m3 99 rfl) rfl, List.forall_mem_cons.mpr ⟨lw_g (lw_at lw_m3 83 rfl) rfl, List.forall_mem_cons.mpr ⟨lw_g (lw_at lw_m3 91 rfl) rfl, fun _ h => absurd h List.not_mem_nil⟩⟩⟩⟩⟩⟩⟩⟩
theorem hfn_9 : ∀ e ∈ hfnT.getD 9 [], hfnW 9 e ∈ lw_tbl := fun _ h => absurd h List.not_mem_nil
theorem hfl_10 : ∀ e ∈ hflT.getD 10 [], hflW 10 e ∈ lw_all := List.forall_mem_cons.mpr ⟨lw_g (lw_at lw_m3 155 rfl) rfl, List.forall_mem_cons.mpr ⟨lw_g (lw_at lw_m3 156 rfl) rfl, List.forall_mem_cons.mpr ⟨lw_g (lw_at lw_m3 157 rfl) rfl, List.forall_mem_cons.mpr ⟨lw_g (lw_at lw_m3 158 rfl) rfl, List.forall_mem_cons.mpr ⟨lw_g (lw_at lw_m3 159 rfl) rfl, List.forall_mem_cons.mpr ⟨lw_g (lw_at lw_m3 160 rfl) rfl, List.forall_mem_cons.mpr ⟨lw_g (lw_at lw_m3 161 rfl) rfl, List.forall_mem_cons.mpr ⟨lw_g (lw_at lw_m3 162 rfl) rfl, List.forall_mem_cons.mpr ⟨lw_g (lw_at lw_m3 163 rfl) rfl, List.forall_mem_cons.mpr ⟨lw_g (lw_at lw_m3 164 rfl) rfl, List.forall_mem_cons.mpr ⟨lw_g (lw_at lw_m3 165 rfl) rfl, List.forall_mem_cons.mpr ⟨lw_g (lw_at lw_m3 166 rfl) rfl, List.forall_mem_cons.mpr ⟨lw_g (lw_at lw_m3 167 rfl) rfl, List.forall_mem_cons.mpr ⟨lw_g (lw_at lw_m3 168 rfl) rfl, List.forall_mem_cons.mpr ⟨lw_g (lw_at lw_m3 169 rfl) rfl, List.forall_mem_cons.mpr ⟨lw_g (lw_at lw_m3 170 rfl) rfl, List.forall_mem_cons.mpr ⟨lw_g (lw_at lw_m3 171 rfl) rfl, List.forall_mem_cons.mpr ⟨lw_g (lw_at lw_m3 172 rfl) rfl, List.forall_mem_cons.mpr ⟨lw_g (lw_at lw_m3 173 rfl) rfl, List.forall_mem_cons.mpr ⟨lw_g (lw_at lw_m3 174 rfl) rfl, fun _ h => absurd h List.not_mem_nil⟩⟩⟩⟩⟩⟩⟩⟩⟩⟩⟩⟩⟩⟩⟩⟩⟩⟩⟩⟩
theorem hfn_10 : ∀ e ∈ hfnT.getD 10 [], hfnW 10 e ∈ lw_tbl := List.forall_mem_cons.mpr ⟨lw_at lw_m3 92 rfl, List.forall_mem_cons.mpr ⟨lw_at lw_m3 88 rfl, List.forall_mem_cons.mpr ⟨lw_at lw_m3 79 rfl, List.forall_mem_cons.mpr ⟨lw_at lw_m3 71 rfl, List.forall_mem_cons.mpr ⟨lw_at lw_m3 75 rfl, fun _ h => absurd h List.not_mem_nil⟩⟩⟩⟩⟩
theorem hfl_11 : ∀ e ∈ hflT.getD 11 [], hflW 11 e ∈ lw_all := List.forall_mem_cons.mpr ⟨lw_g (lw_at lw_m7 219 rfl) rfl, List.forall_mem_cons.mpr ⟨lw_g (lw_at lw_m7 221 rfl) rfl, List.forall_mem_cons.mpr ⟨lw_g (lw_at lw_m7 225 rfl) rfl, List.forall_mem_cons.mpr ⟨lw_g (lw_at lw_m7 226 rfl) rfl, List.forall_mem_cons.mpr ⟨lw_g (lw_at lw_m7 227 rfl) rfl, List.forall_mem_cons.mpr ⟨lw_g (lw_at lw_m7 228 rfl) rfl, List.forall_mem_cons.mpr ⟨lw_g (lw_at lw_m8 12 rfl) rfl, List.forall_mem_cons.mpr ⟨lw_g (lw_at lw_m8 13 rfl) rfl, List.forall_mem_cons.mpr ⟨lw_g (lw_at lw_m8 14 rfl) rfl, List.forall_mem_cons.mpr ⟨lw_g (lw_at lw_m8 15 rfl) rfl, List.forall_mem_cons.mpr ⟨lw_g (lw_at lw_m8 16 rfl) rfl, List.forall_mem_cons.mpr ⟨lw_g (lw_at lw_m8 17 rfl) rfl, List.forall_mem_cons.mpr ⟨lw_g (lw_at lw_m8 18 rfl) rfl, List.forall_mem_cons.mpr ⟨lw_g (lw_at lw_m8 19 rfl) rfl, List.forall_mem_cons.mpr ⟨lw_g (lw_at lw_m8 20 rfl) rfl, List.forall_mem_cons.mpr ⟨lw_g (lw_at lw_m8 21 rfl) rfl, List.forall_mem_cons.mpr ⟨lw_g (lw_at lw_m8 22 rfl) rfl, List.forall_mem_cons.mpr ⟨lw_g (lw_at lw_m8 23 rfl) rfl, List.forall_mem_cons.mpr ⟨lw_g (lw_at lw_m8 24 rfl) rfl, List.forall_mem_cons.mpr ⟨lw_g (lw_at lw_m8 25 rfl) rfl, List.forall_mem_cons.mpr ⟨lw_g (lw_at lw_m8 26 rfl) rfl, List.forall_mem_cons.mpr ⟨lw_g (lw_at lw_m8 27 rfl) rfl, List.forall_mem_cons.mpr ⟨lw_g (lw_at lw_m8 28 rfl) rfl, List.forall_mem_cons.mpr ⟨lw_g (lw_at lw_m8 29 rfl) rfl, List.forall_mem_cons.mpr ⟨lw_g (lw_at lw_m8 30 rfl) rfl, List.forall_mem_cons.mpr ⟨lw_g (lw_at lw_m8 33 rfl) rfl, List.forall_mem_cons.mpr ⟨lw_g (lw_at lw_m8 34 rfl) rfl, List.forall_mem_cons.mpr ⟨lw_g (lw_at lw_m8 68 rfl) rfl, List.forall_mem_cons.mpr ⟨lw_g (lw_at lw_m8 69 rfl) rfl, List.forall_mem_cons.mpr ⟨lw_g (lw_at lw_m8 73 rfl) rfl, List.forall_mem_cons.mpr ⟨lw_g (lw_at lw_m8 74 rfl) rfl, List.forall_mem_cons.mpr ⟨lw_g (lw_at lw_m8 75 rfl) rfl, List.forall_mem_cons.mpr ⟨lw_g (lw_at lw_m8 76 rfl) rfl, List.forall_mem_cons.mpr ⟨lw_g (lw_at lw_m8 79 rfl) rfl, List.forall_mem_cons.mpr ⟨lw_g (lw_at lw_m8 80 rfl) rfl, List.forall_mem_cons.mpr ⟨lw_g (lw_at lw_m8 81 rfl) rfl, List.forall_mem_cons.mpr ⟨lw_g (lw_at lw_m8 82 rfl) rfl, List.forall_mem_cons.mpr ⟨lw_g (lw_at lw_m8 83 rfl) rfl, List.forall_mem_cons.mpr ⟨lw_g (lw_at lw_m8 91 rfl) rfl, List.forall_mem_cons.mpr ⟨lw_g (lw_at lw_m8 92 rfl) rfl, List.forall_mem_cons.mpr ⟨lw_g (lw_at lw_m8 93 rfl) rfl, List.forall_mem_cons.mpr ⟨lw_g (lw_at lw_m8 94 rfl) rfl, List.forall_mem_cons.mpr ⟨lw_g (lw_at lw_m8 95 rfl) rfl, List.forall_mem_cons.mpr ⟨lw_g (lw_at lw_m8 96 rfl) rfl, List.forall_mem_cons.mpr ⟨lw_g (lw_at lw_m8 97 rfl) rfl, List.forall_mem_cons.mpr ⟨lw_g (lw_at lw_m8 98 rfl) rfl, List.forall_mem_cons.mpr ⟨lw_g (lw_at lw_m8 99 rfl) rfl, List.forall_mem_cons.mpr ⟨lw_g (lw_at lw_m8 100 rfl) rfl, List.forall_mem_cons.mpr ⟨lw_g (lw_at lw_m8 101 rfl) rfl, List.forall_mem_cons.mpr ⟨lw_g (lw_at lw_m8 102 rfl) rfl, List.forall_mem_cons.mpr ⟨lw_g (lw_at lw_m8 103 rfl) rfl, List.forall_mem_cons.mpr ⟨lw_g (lw_at lw_m8 109 rfl) rfl, List.forall_mem_cons.mpr ⟨lw_g (lw_at lw_m8 110 rfl) rfl, List.forall_mem_cons.mpr ⟨lw_g (lw_at lw_m8 111 rfl) rfl, List.forall_mem_cons.mpr ⟨lw_g (lw_at lw_m8 112 rfl) rfl, List.forall_mem_cons.mpr ⟨lw_g (lw_at lw_m8 115 rfl) rfl, List.forall_mem_cons.mpr ⟨lw_g (lw_at lw_m8 116 rfl) rfl, List.forall_mem_cons.mpr ⟨lw_g (lw_at lw_m8 117 rfl) rfl, List.forall_mem_cons.mpr ⟨lw_g (lw_at lw_m8 122 rfl) rfl, List.forall_mem_cons.mpr ⟨lw_g (lw_at lw_m8 124 rfl) rfl, List.forall_mem_cons.mpr ⟨lw_g (lw_at lw_m7 222 rfl) rfl, List.forall_mem_cons.mpr ⟨lw_g (lw_at lw_m7 224 rfl) rfl, List.forall_mem_cons.mpr ⟨lw_g (lw_at lw_m7 239 rfl) rfl, List.forall_mem_cons.mpr ⟨lw_g (lw_at lw_m7 231 rfl) rfl, List.forall_mem_cons.mpr ⟨lw_g (lw_at lw_m7 230 rfl) rfl, List.forall_mem_cons.mpr ⟨lw_g (lw_at lw_m8 4 rfl) rfl, List.forall_mem_cons.mpr ⟨lw_g (lw_at lw_m7 229 rfl) rfl, List.forall_mem_cons.mpr ⟨lw_g (lw_at lw_m7 232 rfl) rfl, List.forall_mem_cons.mpr ⟨lw_g (lw_at lw_m7 233 rfl) rfl, List.forall_mem_cons.mpr ⟨lw_g (lw_at lw_m7 234 rfl) rfl, List.forall_mem_cons.mpr ⟨lw_g (lw_at lw_m7 235 rfl) rfl, List.forall_mem_cons.mpr ⟨lw_g (lw_at lw_m7 236 rfl) rfl, List.forall_mem_cons.mpr ⟨lw_g (lw_at lw_m7 237 rfl) rfl, List.forall_mem_cons.mpr ⟨lw_g (lw_at lw_m7 238 rfl) rfl, List.forall_mem_cons.mpr ⟨lw_g (lw_at lw_m8 5 rfl) rfl, List.forall_mem_cons.mpr ⟨lw_g (lw_at lw_m8 6 rfl) rfl, List.forall_mem_cons.mpr ⟨lw_g (lw_at lw_m8 7 rfl) rfl, List.forall_mem_cons.mpr ⟨lw_g (lw_at lw_m8 8 rfl) rfl, List.forall_mem_cons.mpr ⟨lw_g (lw_at lw_m8 9 rfl) rfl, List.forall_mem_cons.mpr ⟨lw_g (lw_at lw_m8 10 rfl) rfl, List.forall_mem_cons.mpr ⟨lw_g (lw_at lw_m8 11 rfl) rfl, List.forall_mem_cons.mpr ⟨lw_g (lw_at lw_m8 0 rfl) rfl, List.forall_mem_cons.mpr ⟨lw_g (lw_at lw_m8 1 rfl) rfl, List.forall_mem_cons.mpr ⟨lw_g (lw_at lw_m8 2 rfl) rfl, List.forall_mem_cons.mpr ⟨lw_g (lw_at lw_m8 3 rfl) rfl, List.forall_mem_cons.mpr ⟨lw_g (lw_at lw_m8 38 rfl) rfl, List.forall_mem_cons.mpr ⟨lw_g (lw_at lw_m8 40 rfl) rfl, List.forall_mem_cons.mpr ⟨lw_g (lw_at lw_m8 39 rfl) rfl, List.forall_mem_cons.mpr ⟨lw_g (lw_at lw_m8 35 rfl) rfl, List.forall_mem_cons.mpr ⟨lw_g (lw_at lw_m8 36 rfl) rfl, List.forall_mem_cons.mpr ⟨lw_g (lw_at lw_m8 71 rfl) rfl, List.forall_mem_cons.mpr ⟨lw_g (lw_at lw_m8 42 rfl) rfl, List.forall_mem_cons.mpr ⟨lw_g (lw_at lw_m8 43 rfl) rfl, List.forall_mem_cons.mpr ⟨lw_g (lw_at lw_m8 44 rfl) rfl, List.forall_mem_cons.mpr ⟨lw_g (lw_at lw_m8 45 rfl) rfl, List.forall_mem_cons.mpr ⟨lw_g (lw_at lw_m8 46 rfl) rfl, List.forall_mem_cons.mpr ⟨lw_g (lw_at lw_m8 47 rfl) rfl, List.forall_mem_cons.mpr ⟨lw_g (lw_at lw_m8 48 rfl) rfl, List.forall_mem_cons.mpr ⟨lw_g (lw_at lw_m8 49 rfl) rfl, List.forall_mem_cons.mpr ⟨lw_g (lw_at lw_m8 50 rfl) rfl, List.forall_mem_cons.mpr ⟨lw_g (lw_at lw_m8 51 rfl) rfl, List.forall_mem_cons.mpr ⟨lw_g (lw_at lw_m8 52 rfl) rfl, List.forall_mem_cons.mpr ⟨lw_g (lw_at lw_m8 53 rfl) rfl, List.forall_mem_cons.mpr ⟨lw_g (lw_at lw_m8 54 rfl) rfl, List.forall_mem_cons.mpr ⟨lw_g (lw_at lw_m8 55 rfl) rfl, List.forall_mem_cons.mpr ⟨lw_g (lw_at lw_m8 56 rfl) rfl, List.forall_mem_cons.mpr ⟨lw_g (lw_at lw_m8 57 rfl) rfl, List.forall_mem_cons.mpr ⟨lw_g (lw_at lw_m8 58 rfl) rfl, List.forall_mem_cons.mpr ⟨lw_g (lw_at lw_m8 70 rfl) rfl, List.forall_mem_cons.mpr ⟨lw_g (lw_at lw_m8 72 rfl) rfl, List.forall_mem_cons.mpr ⟨lw_g (lw_at lw_m8 78 rfl) rfl, List.forall_mem_cons.mpr ⟨lw_g (lw_at lw_m8 37 rfl) rfl, List.forall_mem_cons.mpr ⟨lw_g (lw_at lw_m8 31 rfl) rfl, List.forall_mem_cons.mpr ⟨lw_g (lw_at lw_m8 84 rfl) rfl, List.forall_mem_cons.mpr ⟨lw_g (lw_at lw_m8 85 rfl) rfl, List.forall_mem_cons.mpr ⟨lw_g (lw_at lw_m8 62 rfl) rfl, List.forall_mem_cons.mpr ⟨lw_g (lw_at lw_m8 59 rfl) rfl, List.forall_mem_cons.mpr ⟨lw_g (lw_at lw_m8 61 rfl) rfl, List.forall_mem_cons.mpr ⟨lw_g (lw_at lw_m8 60 rfl) rfl, List.forall_mem_cons.mpr ⟨lw_g (lw_at lw_m8 41 rfl) rfl, List.forall_mem_cons.mpr ⟨lw_g (lw_at lw_m8 77 rfl) rfl, List.forall_mem_cons.mpr ⟨lw_g (lw_at lw_m8 63 rfl) rfl, List.forall_mem_cons.mpr ⟨lw_g (lw_at lw_m8 64 rfl) rfl, List.forall_mem_cons.mpr ⟨lw_g (lw_at lw_m8 65 rfl) rfl, List.forall_mem_cons.mpr ⟨lw_g (lw_at lw_m8 32 rfl) rfl, List.forall_mem_cons.mpr ⟨lw_g (lw_at lw_m8 66 rfl) rfl, List.forall_mem_cons.mpr ⟨lw_g (lw_at lw_m8 67 rfl) rfl, List.forall_mem_cons.mpr ⟨lw_g (lw_at lw_m8 89 rfl) rfl, List.forall_mem_cons.mpr ⟨lw_g (lw_at lw_m8 90 rfl) rfl, List.forall_mem_cons.mpr ⟨lw_g (lw_at lw_m8 88 rfl) rfl, List.forall_mem_cons.mpr ⟨lw_g (lw_at lw_m7 223 rfl) rfl, List.forall_mem_cons.mpr ⟨lw_g (lw_at lw_m8 87 rfl) rfl, List.forall_mem_cons.mpr ⟨lw_g (lw_at lw_m8 86 rfl) rfl, List.forall_mem_cons.mpr ⟨lw_g (lw_at lw_m8 105 rfl) rfl, List.forall_mem_cons.mpr ⟨lw_g (lw_at lw_m8 106 rfl) rfl, List.forall_mem_cons.mpr ⟨lw_g (lw_at lw_m8 104 rfl) rfl, List.forall_mem_cons.mpr ⟨lw_g (lw_at lw_m8 107 rfl) rfl, List.forall_mem_cons.mpr ⟨lw_g (lw_at lw_m8 108 rfl) rfl, List.forall_mem_cons.mpr ⟨lw_g (lw_at lw_m8 113 rfl) rfl, List.forall_mem_cons.mpr ⟨lw_g (lw_at lw_m8 114 rfl) rfl, List.forall_mem_cons.mpr ⟨lw_g (lw_at lw_m8 119 rfl) rfl, List.forall_mem_cons.mpr ⟨lw_g (lw_at lw_m8 118 rfl) rfl, List.forall_mem_cons.mpr ⟨lw_g (lw_at lw_m8 120 rfl) rfl, List.forall_mem_cons.mpr ⟨lw_g (lw_at lw_m8 121 rfl) rfl, List.forall_mem_cons.mpr ⟨lw_g (lw_at lw_m8 123 rfl) rfl, List.forall_mem_cons.mpr ⟨lw_g (lw_at lw_m7 220 rfl) rfl, fun _ h => absurd h List.not_mem_nil⟩⟩⟩⟩⟩⟩⟩⟩⟩⟩⟩⟩⟩⟩⟩⟩⟩⟩⟩⟩⟩⟩⟩⟩⟩⟩⟩⟩⟩⟩⟩⟩⟩⟩⟩⟩⟩⟩⟩⟩⟩⟩⟩⟩⟩⟩⟩⟩⟩⟩⟩⟩⟩⟩⟩⟩⟩⟩⟩⟩⟩⟩⟩⟩⟩⟩⟩⟩⟩⟩⟩⟩⟩⟩⟩⟩⟩⟩⟩⟩⟩⟩⟩⟩⟩⟩⟩⟩⟩⟩⟩⟩⟩⟩⟩⟩⟩⟩⟩⟩⟩⟩⟩⟩⟩⟩⟩⟩⟩⟩⟩⟩⟩⟩⟩⟩⟩⟩⟩⟩⟩⟩⟩⟩⟩⟩⟩⟩⟩⟩⟩⟩⟩⟩⟩⟩⟩⟩⟩⟩⟩⟩⟩⟩⟩⟩
theorem hfn_11 : ∀ e ∈ hfnT.getD 11 [], hfnW 11 e ∈ lw_tbl := fun _ h => absurd h List.not_mem_nil
theorem hfl_mem : ∀ own, own < 12 → ∀ e ∈ hflT.getD own [], hflW own e ∈ lw_all := by
  intro c hc
  match c, hc with
  | 0, _ => exact hfl_0
  | 1, _ => exact hfl_1
  | 2, _ => exact hfl_2
  | 3, _ => exact hfl_3
  | 4, _ => exact hfl_4
  | 5, _ => exact hfl_5
  | 6, _ => exact hfl_6
  | 7, _ => exact hfl_7
  | 8, _ => exact hfl_8
  | 9, _ => exact hfl_9
  | 10, _ => exact hfl_10
  | 11, _ => exact hfl_11
  | c + 12, hc => exact absurd hc (by omega)
theorem hfn_mem : ∀ own, own < 12 → ∀ e ∈ hfnT.getD own [], hfnW own e ∈ lw_tbl := by
  intro c hc
  match c, hc with
  | 0, _ => exact hfn_0
  | 1, _ => exact hfn_1
  | 2, _ => exact hfn_2
  | 3, _ => exact hfn_3
  | 4, _ => exact hfn_4
  | 5, _ => exact hfn_5
  | 6, _ => exact hfn_6
  | 7, _ => exact hfn_7
  | 8, _ => exact hfn_8
  | 9, _ => exact hfn_9
  | 10, _ => exact hfn_10
  | 11, _ => exact hfn_11
  | c + 12, hc => exact absurd hc (by omega)
/-- the words of nest mates: links of fields and of methods -/
def hfnAll : List Cond := (List.range 12).flatMap (fun c => (hfnT.getD c []).map (hfnW c))
def hmnAll : List Cond := [.methodLinkNest "HintHouse" 19 ⟨"HintHouse$Bytes", "<init>", "()V"⟩ "HintHouse", .methodLinkNest "HintHouse" 28 ⟨"HintHouse$Font", "<init>", "()V"⟩ "HintHouse", .methodLinkNest "HintHouse" 53 ⟨"HintHouse$Glyph", "<init>", "()V"⟩ "HintHouse", .methodLinkNest "HintHouse" 60 ⟨"HintHouse$Inside", "<init>", "()V"⟩ "HintHouse", .methodLinkNest "HintHouse$Font" 11 ⟨"HintHouse$Bytes", "<init>", "()V"⟩ "HintHouse", .methodLinkNest "HintHouse$Font" 33 ⟨"HintHouse$Glyph", "<init>", "()V"⟩ "HintHouse", .methodLinkNest "HintHouse$Font" 112 ⟨"HintHouse", "within", "(JJJ)Z"⟩ "HintHouse", .methodLinkNest "HintHouse$Glyph" 77 ⟨"HintHouse", "within", "(JJJ)Z"⟩ "HintHouse", .methodLinkNest "HintHouse$Inside" 131 ⟨"HintHouse", "signOf", "(J)I"⟩ "HintHouse", .methodLinkNest "HintHouse$Machine" 11 ⟨"HintHouse$Store", "<init>", "()V"⟩ "HintHouse", .methodLinkNest "HintHouse$Machine" 154 ⟨"HintHouse", "over", "(JJ)J"⟩ "HintHouse", .methodLinkNest "HintHouse$Machine" 246 ⟨"HintHouse", "within", "(JJJ)Z"⟩ "HintHouse", .methodLinkNest "HintHouse$Maker" 11 ⟨"HintHouse$Store", "<init>", "()V"⟩ "HintHouse", .methodLinkNest "HintHouse$Maker" 38 ⟨"HintHouse$Outline", "<init>", "()V"⟩ "HintHouse", .methodLinkNest "HintHouse$Maker" 39 ⟨"HintHouse$Glyph", "<init>", "()V"⟩ "HintHouse", .methodLinkNest "HintHouse$Maker" 198 ⟨"HintHouse", "over", "(JJ)J"⟩ "HintHouse", .methodLinkNest "HintHouse$Maker" 208 ⟨"HintHouse", "snapped", "(I)I"⟩ "HintHouse", .methodLinkNest "HintHouse$Outline" 38 ⟨"HintHouse", "within", "(JJJ)Z"⟩ "HintHouse", .methodLinkNest "HintHouse$Store" 27 ⟨"HintHouse$Settings", "<init>", "()V"⟩ "HintHouse"]
theorem hmn_mem : ∀ w ∈ hmnAll, w ∈ lw_tbl := List.forall_mem_cons.mpr ⟨lw_at lw_m1 28 rfl, List.forall_mem_cons.mpr ⟨lw_at lw_m1 45 rfl, List.forall_mem_cons.mpr ⟨lw_at lw_m3 148 rfl, List.forall_mem_cons.mpr ⟨lw_at lw_m3 151 rfl, List.forall_mem_cons.mpr ⟨lw_at lw_m1 50 rfl, List.forall_mem_cons.mpr ⟨lw_at lw_m1 53 rfl, List.forall_mem_cons.mpr ⟨lw_at lw_m4 77 rfl, List.forall_mem_cons.mpr ⟨lw_at lw_m4 187 rfl, List.forall_mem_cons.mpr ⟨lw_at lw_m7 152 rfl, List.forall_mem_cons.mpr ⟨lw_at lw_m2 25 rfl, List.forall_mem_cons.mpr ⟨lw_at lw_m5 108 rfl, List.forall_mem_cons.mpr ⟨lw_at lw_m5 233 rfl, List.forall_mem_cons.mpr ⟨lw_at lw_m3 60 rfl, List.forall_mem_cons.mpr ⟨lw_at lw_m3 66 rfl, List.forall_mem_cons.mpr ⟨lw_at lw_m3 118 rfl, List.forall_mem_cons.mpr ⟨lw_at lw_m7 69 rfl, List.forall_mem_cons.mpr ⟨lw_at lw_m7 70 rfl, List.forall_mem_cons.mpr ⟨lw_at lw_m7 83 rfl, List.forall_mem_cons.mpr ⟨lw_at lw_m2 74 rfl, fun _ h => absurd h List.not_mem_nil⟩⟩⟩⟩⟩⟩⟩⟩⟩⟩⟩⟩⟩⟩⟩⟩⟩⟩⟩
theorem hfnA_mem : ∀ w ∈ hfnAll, w ∈ lw_tbl := by
  intro w h
  obtain ⟨c, hc, hw⟩ := List.mem_flatMap.mp h
  obtain ⟨e, he, rfl⟩ := List.mem_map.mp hw
  exact hfn_mem c (List.mem_range.mp hc) e he
def hcsT : List (List (Nat × Int32)) := [[(342, -1000000), (343, -1000200)], [], [(267, 65535)], [], [], [], [], [], [(138, 1000000)], [], [], [(234, 1751474532), (239, 1668112752), (240, 1735162214), (241, 1751672161), (242, 1752003704), (243, 1819239265), (244, 1835104368), (291, 1668707360), (292, 1718642541), (293, 1886545264), (312, -1313820742), (404, 65535), (408, 1801810542), (908, -1000000), (909, -1000200)]]
def hcLT : List (List (Nat × Int64)) := [[(1, 2), (9, 32), (77, 8), (118, 9), (124, -3), (129, -1), (144, -2), (146, 1114111), (199, 4), (201, 48), (305, -5000), (307, 5000), (313, 128), (321, -20000), (323, 20000), (331, -4096), (333, 4096)], [(26, 4294967295)], [(72, 1668112752), (74, 1735162214), (76, 1751474532), (78, 1751672161), (80, 1752003704), (82, 1819239265), (84, 1835104368), (141, 65536), (143, 16), (145, 3), (156, 8), (162, 1594834165), (170, 4294967295), (172, 16384), (174, 2981146554), (197, 200), (199, 2), (256, 40), (268, 12), (270, -1), (287, 1801810542), (292, 1668707360), (297, 1718642541), (302, 1886545264)], [(75, 12)], [(149, 64), (250, 16384), (272, 1024), (285, 30000), (287, 2), (299, 32768), (344, 255), (393, 65535), (518, 127), (523, 6), (537, 63), (559, 35)], [], [], [], [(196, 16384)], [], [(106, 2), (151, 4), (161, 65536)], [(202, 32), (204, -64), (226, 4294967295), (228, 4), (230, 12), (232, 16), (300, 65536), (308, 1594834165), (310, 16384), (334, 200), (336, 2), (338, 64), (340, 256), (380, 8), (382, 6), (402, 40), (524, 1024), (539, 30000), (593, 65535), (653, 255), (694, 127), (731, 63), (742, 35), (762, 48), (791, -1000000), (793, 1000000), (819, -4096), (821, 4096), (871, -5000), (873, 5000), (879, 128), (887, -20000), (889, 20000), (894, 1114111), (916, -3), (918, -1), (920, -2), (922, 5)]]
theorem hcs_0 : ∀ e ∈ hcsT.getD 0 [], Cond.constant (hRn 0) e.1 e.2 ∈ lw_all := List.forall_mem_cons.mpr ⟨lw_g (lw_at lw_m7 211 rfl) rfl, List.forall_mem_cons.mpr ⟨lw_g (lw_at lw_m7 212 rfl) rfl, fun _ h => absurd h List.not_mem_nil⟩⟩
theorem hcL_0 : ∀ e ∈ hcLT.getD 0 [], Cond.constantLong (hRn 0) e.1 e.2 ∈ lw_all := List.forall_mem_cons.mpr ⟨lw_g (lw_at lw_m5 111 rfl) rfl, List.forall_mem_cons.mpr ⟨lw_g (lw_at lw_m7 73 rfl) rfl, List.forall_mem_cons.mpr ⟨lw_g (lw_at lw_m4 38 rfl) rfl, List.forall_mem_cons.mpr ⟨lw_g (lw_at lw_m5 16 rfl) rfl, List.forall_mem_cons.mpr ⟨lw_g (lw_at lw_m5 25 rfl) rfl, List.forall_mem_cons.mpr ⟨lw_g (lw_at lw_m5 26 rfl) rfl, List.forall_mem_cons.mpr ⟨lw_g (lw_at lw_m5 27 rfl) rfl, List.forall_mem_cons.mpr ⟨lw_g (lw_at lw_m5 32 rfl) rfl, List.forall_mem_cons.mpr ⟨lw_g (lw_at lw_m5 92 rfl) rfl, List.forall_mem_cons.mpr ⟨lw_g (lw_at lw_m5 93 rfl) rfl, List.forall_mem_cons.mpr ⟨lw_g (lw_at lw_m7 131 rfl) rfl, List.forall_mem_cons.mpr ⟨lw_g (lw_at lw_m7 132 rfl) rfl, List.forall_mem_cons.mpr ⟨lw_g (lw_at lw_m7 181 rfl) rfl, List.forall_mem_cons.mpr ⟨lw_g (lw_at lw_m7 190 rfl) rfl, List.forall_mem_cons.mpr ⟨lw_g (lw_at lw_m7 191 rfl) rfl, List.forall_mem_cons.mpr ⟨lw_g (lw_at lw_m7 196 rfl) rfl, List.forall_mem_cons.mpr ⟨lw_g (lw_at lw_m7 197 rfl) rfl, fun _ h => absurd h List.not_mem_nil⟩⟩⟩⟩⟩⟩⟩⟩⟩⟩⟩⟩⟩⟩⟩⟩⟩
theorem hcs_1 : ∀ e ∈ hcsT.getD 1 [], Cond.constant (hRn 1) e.1 e.2 ∈ lw_all := fun _ h => absurd h List.not_mem_nil
theorem hcL_1 : ∀ e ∈ hcLT.getD 1 [], Cond.constantLong (hRn 1) e.1 e.2 ∈ lw_all := List.forall_mem_cons.mpr ⟨lw_g (lw_at lw_m4 99 rfl) rfl, fun _ h => absurd h List.not_mem_nil⟩
theorem hcs_2 : ∀ e ∈ hcsT.getD 2 [], Cond.constant (hRn 2) e.1 e.2 ∈ lw_all := List.forall_mem_cons.mpr ⟨lw_g (lw_at lw_m4 233 rfl) rfl, fun _ h => absurd h List.not_mem_nil⟩
theorem hcL_2 : ∀ e ∈ hcLT.getD 2 [], Cond.constantLong (hRn 2) e.1 e.2 ∈ lw_all := List.forall_mem_cons.mpr ⟨lw_g (lw_at lw_m4 100 rfl) rfl, List.forall_mem_cons.mpr ⟨lw_g (lw_at lw_m4 105 rfl) rfl, List.forall_mem_cons.mpr ⟨lw_g (lw_at lw_m4 93 rfl) rfl, List.forall_mem_cons.mpr ⟨lw_g (lw_at lw_m4 106 rfl) rfl, List.forall_mem_cons.mpr ⟨lw_g (lw_at lw_m4 107 rfl) rfl, List.forall_mem_cons.mpr ⟨lw_g (lw_at lw_m4 108 rfl) rfl, List.forall_mem_cons.mpr ⟨lw_g (lw_at lw_m4 109 rfl) rfl, List.forall_mem_cons.mpr ⟨lw_g (lw_at lw_m4 74 rfl) rfl, List.forall_mem_cons.mpr ⟨lw_g (lw_at lw_m4 76 rfl) rfl, List.forall_mem_cons.mpr ⟨lw_g (lw_at lw_m4 82 rfl) rfl, List.forall_mem_cons.mpr ⟨lw_g (lw_at lw_m4 94 rfl) rfl, List.forall_mem_cons.mpr ⟨lw_g (lw_at lw_m4 122 rfl) rfl, List.forall_mem_cons.mpr ⟨lw_g (lw_at lw_m4 123 rfl) rfl, List.forall_mem_cons.mpr ⟨lw_g (lw_at lw_m4 124 rfl) rfl, List.forall_mem_cons.mpr ⟨lw_g (lw_at lw_m4 125 rfl) rfl, List.forall_mem_cons.mpr ⟨lw_g (lw_at lw_m4 130 rfl) rfl, List.forall_mem_cons.mpr ⟨lw_g (lw_at lw_m4 131 rfl) rfl, List.forall_mem_cons.mpr ⟨lw_g (lw_at lw_m4 220 rfl) rfl, List.forall_mem_cons.mpr ⟨lw_g (lw_at lw_m4 238 rfl) rfl, List.forall_mem_cons.mpr ⟨lw_g (lw_at lw_m4 239 rfl) rfl, List.forall_mem_cons.mpr ⟨lw_g (lw_at lw_m5 4 rfl) rfl, List.forall_mem_cons.mpr ⟨lw_g (lw_at lw_m5 9 rfl) rfl, List.forall_mem_cons.mpr ⟨lw_g (lw_at lw_m5 10 rfl) rfl, List.forall_mem_cons.mpr ⟨lw_g (lw_at lw_m5 11 rfl) rfl, fun _ h => absurd h List.not_mem_nil⟩⟩⟩⟩⟩⟩⟩⟩⟩⟩⟩⟩⟩⟩⟩⟩⟩⟩⟩⟩⟩⟩⟩⟩
theorem hcs_3 : ∀ e ∈ hcsT.getD 3 [], Cond.constant (hRn 3) e.1 e.2 ∈ lw_all := fun _ h => absurd h List.not_mem_nil
theorem hcL_3 : ∀ e ∈ hcLT.getD 3 [], Cond.constantLong (hRn 3) e.1 e.2 ∈ lw_all := List.forall_mem_cons.mpr ⟨lw_g (lw_at lw_m4 186 rfl) rfl, fun _ h => absurd h List.not_mem_nil⟩
theorem hcs_4 : ∀ e ∈ hcsT.getD 4 [], Cond.constant (hRn 4) e.1 e.2 ∈ lw_all := fun _ h => absurd h List.not_mem_nil
theorem hcL_4 : ∀ e ∈ hcLT.getD 4 [], Cond.constantLong (hRn 4) e.1 e.2 ∈ lw_all := List.forall_mem_cons.mpr ⟨lw_g (lw_at lw_m5 107 rfl) rfl, List.forall_mem_cons.mpr ⟨lw_g (lw_at lw_m6 3 rfl) rfl, List.forall_mem_cons.mpr ⟨lw_g (lw_at lw_m6 29 rfl) rfl, List.forall_mem_cons.mpr ⟨lw_g (lw_at lw_m6 61 rfl) rfl, List.forall_mem_cons.mpr ⟨lw_g (lw_at lw_m6 62 rfl) rfl, List.forall_mem_cons.mpr ⟨lw_g (lw_at lw_m6 66 rfl) rfl, List.forall_mem_cons.mpr ⟨lw_g (lw_at lw_m6 124 rfl) rfl, List.forall_mem_cons.mpr ⟨lw_g (lw_at lw_m6 99 rfl) rfl, List.forall_mem_cons.mpr ⟨lw_g (lw_at lw_m6 216 rfl) rfl, List.forall_mem_cons.mpr ⟨lw_g (lw_at lw_m6 217 rfl) rfl, List.forall_mem_cons.mpr ⟨lw_g (lw_at lw_m6 226 rfl) rfl, List.forall_mem_cons.mpr ⟨lw_g (lw_at lw_m7 7 rfl) rfl, fun _ h => absurd h List.not_mem_nil⟩⟩⟩⟩⟩⟩⟩⟩⟩⟩⟩⟩
theorem hcs_5 : ∀ e ∈ hcsT.getD 5 [], Cond.constant (hRn 5) e.1 e.2 ∈ lw_all := fun _ h => absurd h List.not_mem_nil
theorem hcL_5 : ∀ e ∈ hcLT.getD 5 [], Cond.constantLong (hRn 5) e.1 e.2 ∈ lw_all := fun _ h => absurd h List.not_mem_nil
theorem hcs_6 : ∀ e ∈ hcsT.getD 6 [], Cond.constant (hRn 6) e.1 e.2 ∈ lw_all := fun _ h => absurd h List.not_mem_nil
theorem hcL_6 : ∀ e ∈ hcLT.getD 6 [], Cond.constantLong (hRn 6) e.1 e.2 ∈ lw_all := fun _ h => absurd h List.not_mem_nil
theorem hcs_7 : ∀ e ∈ hcsT.getD 7 [], Cond.constant (hRn 7) e.1 e.2 ∈ lw_all := fun _ h => absurd h List.not_mem_nil
theorem hcL_7 : ∀ e ∈ hcLT.getD 7 [], Cond.constantLong (hRn 7) e.1 e.2 ∈ lw_all := fun _ h => absurd h List.not_mem_nil
theorem hcs_8 : ∀ e ∈ hcsT.getD 8 [], Cond.constant (hRn 8) e.1 e.2 ∈ lw_all := List.forall_mem_cons.mpr ⟨lw_g (lw_at lw_m7 78 rfl) rfl, fun _ h => absurd h List.not_mem_nil⟩
theorem hcL_8 : ∀ e ∈ hcLT.getD 8 [], Cond.constantLong (hRn 8) e.1 e.2 ∈ lw_all := List.forall_mem_cons.mpr ⟨lw_g (lw_at lw_m7 68 rfl) rfl, fun _ h => absurd h List.not_mem_nil⟩
theorem hcs_9 : ∀ e ∈ hcsT.getD 9 [], Cond.constant (hRn 9) e.1 e.2 ∈ lw_all := fun _ h => absurd h List.not_mem_nil
theorem hcL_9 : ∀ e ∈ hcLT.getD 9 [], Cond.constantLong (hRn 9) e.1 e.2 ∈ lw_all := fun _ h => absurd h List.not_mem_nil
theorem hcs_10 : ∀ e ∈ hcsT.getD 10 [], Cond.constant (hRn 10) e.1 e.2 ∈ lw_all := fun _ h => absurd h List.not_mem_nil
theorem hcL_10 : ∀ e ∈ hcLT.getD 10 [], Cond.constantLong (hRn 10) e.1 e.2 ∈ lw_all := List.forall_mem_cons.mpr ⟨lw_g (lw_at lw_m7 147 rfl) rfl, List.forall_mem_cons.mpr ⟨lw_g (lw_at lw_m7 164 rfl) rfl, List.forall_mem_cons.mpr ⟨lw_g (lw_at lw_m7 176 rfl) rfl, fun _ h => absurd h List.not_mem_nil⟩⟩⟩
theorem hcs_11 : ∀ e ∈ hcsT.getD 11 [], Cond.constant (hRn 11) e.1 e.2 ∈ lw_all := List.forall_mem_cons.mpr ⟨lw_g (lw_at lw_m11 179 rfl) rfl, List.forall_mem_cons.mpr ⟨lw_g (lw_at lw_m11 184 rfl) rfl, List.forall_mem_cons.mpr ⟨lw_g (lw_at lw_m11 12 rfl) rfl, List.forall_mem_cons.mpr ⟨lw_g (lw_at lw_m11 185 rfl) rfl, List.forall_mem_cons.mpr ⟨lw_g (lw_at lw_m11 26 rfl) rfl, List.forall_mem_cons.mpr ⟨lw_g (lw_at lw_m11 17 rfl) rfl, List.forall_mem_cons.mpr ⟨lw_g (lw_at lw_m11 186 rfl) rfl, List.forall_mem_cons.mpr ⟨lw_g (lw_at lw_m9 191 rfl) rfl, List.forall_mem_cons.mpr ⟨lw_g (lw_at lw_m9 226 rfl) rfl, List.forall_mem_cons.mpr ⟨lw_g (lw_at lw_m9 227 rfl) rfl, List.forall_mem_cons.mpr ⟨lw_g (lw_at lw_m11 192 rfl) rfl, List.forall_mem_cons.mpr ⟨lw_g (lw_at lw_m11 147 rfl) rfl, List.forall_mem_cons.mpr ⟨lw_g (lw_at lw_m11 152 rfl) rfl, List.forall_mem_cons.mpr ⟨lw_g (lw_at lw_m11 153 rfl) rfl, List.forall_mem_cons.mpr ⟨lw_g (lw_at lw_m11 154 rfl) rfl, fun _ h => absurd h List.not_mem_nil⟩⟩⟩⟩⟩⟩⟩⟩⟩⟩⟩⟩⟩⟩⟩
theorem hcL_11 : ∀ e ∈ hcLT.getD 11 [], Cond.constantLong (hRn 11) e.1 e.2 ∈ lw_all := List.forall_mem_cons.mpr ⟨lw_g (lw_at lw_m11 63 rfl) rfl, List.forall_mem_cons.mpr ⟨lw_g (lw_at lw_m10 208 rfl) rfl, List.forall_mem_cons.mpr ⟨lw_g (lw_at lw_m11 178 rfl) rfl, List.forall_mem_cons.mpr ⟨lw_g (lw_at lw_m9 182 rfl) rfl, List.forall_mem_cons.mpr ⟨lw_g (lw_at lw_m11 35 rfl) rfl, List.forall_mem_cons.mpr ⟨lw_g (lw_at lw_m11 177 rfl) rfl, List.forall_mem_cons.mpr ⟨lw_g (lw_at lw_m11 176 rfl) rfl, List.forall_mem_cons.mpr ⟨lw_g (lw_at lw_m11 191 rfl) rfl, List.forall_mem_cons.mpr ⟨lw_g (lw_at lw_m10 39 rfl) rfl, List.forall_mem_cons.mpr ⟨lw_g (lw_at lw_m11 197 rfl) rfl, List.forall_mem_cons.mpr ⟨lw_g (lw_at lw_m10 106 rfl) rfl, List.forall_mem_cons.mpr ⟨lw_g (lw_at lw_m9 216 rfl) rfl, List.forall_mem_cons.mpr ⟨lw_g (lw_at lw_m11 198 rfl) rfl, List.forall_mem_cons.mpr ⟨lw_g (lw_at lw_m11 159 rfl) rfl, List.forall_mem_cons.mpr ⟨lw_g (lw_at lw_m10 203 rfl) rfl, List.forall_mem_cons.mpr ⟨lw_g (lw_at lw_m11 219 rfl) rfl, List.forall_mem_cons.mpr ⟨lw_g (lw_at lw_m10 69 rfl) rfl, List.forall_mem_cons.mpr ⟨lw_g (lw_at lw_m10 102 rfl) rfl, List.forall_mem_cons.mpr ⟨lw_g (lw_at lw_m10 115 rfl) rfl, List.forall_mem_cons.mpr ⟨lw_g (lw_at lw_m10 223 rfl) rfl, List.forall_mem_cons.mpr ⟨lw_g (lw_at lw_m10 198 rfl) rfl, List.forall_mem_cons.mpr ⟨lw_g (lw_at lw_m10 209 rfl) rfl, List.forall_mem_cons.mpr ⟨lw_g (lw_at lw_m10 218 rfl) rfl, List.forall_mem_cons.mpr ⟨lw_g (lw_at lw_m9 183 rfl) rfl, List.forall_mem_cons.mpr ⟨lw_g (lw_at lw_m11 64 rfl) rfl, List.forall_mem_cons.mpr ⟨lw_g (lw_at lw_m11 65 rfl) rfl, List.forall_mem_cons.mpr ⟨lw_g (lw_at lw_m11 74 rfl) rfl, List.forall_mem_cons.mpr ⟨lw_g (lw_at lw_m11 75 rfl) rfl, List.forall_mem_cons.mpr ⟨lw_g (lw_at lw_m11 80 rfl) rfl, List.forall_mem_cons.mpr ⟨lw_g (lw_at lw_m11 81 rfl) rfl, List.forall_mem_cons.mpr ⟨lw_g (lw_at lw_m11 115 rfl) rfl, List.forall_mem_cons.mpr ⟨lw_g (lw_at lw_m11 120 rfl) rfl, List.forall_mem_cons.mpr ⟨lw_g (lw_at lw_m11 121 rfl) rfl, List.forall_mem_cons.mpr ⟨lw_g (lw_at lw_m11 134 rfl) rfl, List.forall_mem_cons.mpr ⟨lw_g (lw_at lw_m11 236 rfl) rfl, List.forall_mem_cons.mpr ⟨lw_g (lw_at lw_m11 237 rfl) rfl, List.forall_mem_cons.mpr ⟨lw_g (lw_at lw_m11 238 rfl) rfl, List.forall_mem_cons.mpr ⟨lw_g (lw_at lw_m12 23 rfl) rfl, fun _ h => absurd h List.not_mem_nil⟩⟩⟩⟩⟩⟩⟩⟩⟩⟩⟩⟩⟩⟩⟩⟩⟩⟩⟩⟩⟩⟩⟩⟩⟩⟩⟩⟩⟩⟩⟩⟩⟩⟩⟩⟩⟩⟩
theorem hcs_mem : ∀ own, own < 12 → ∀ e ∈ hcsT.getD own [], Cond.constant (hRn own) e.1 e.2 ∈ lw_all := by
  intro c hc
  match c, hc with
  | 0, _ => exact hcs_0
  | 1, _ => exact hcs_1
  | 2, _ => exact hcs_2
  | 3, _ => exact hcs_3
  | 4, _ => exact hcs_4
  | 5, _ => exact hcs_5
  | 6, _ => exact hcs_6
  | 7, _ => exact hcs_7
  | 8, _ => exact hcs_8
  | 9, _ => exact hcs_9
  | 10, _ => exact hcs_10
  | 11, _ => exact hcs_11
  | c + 12, hc => exact absurd hc (by omega)
theorem hcL_mem : ∀ own, own < 12 → ∀ e ∈ hcLT.getD own [], Cond.constantLong (hRn own) e.1 e.2 ∈ lw_all := by
  intro c hc
  match c, hc with
  | 0, _ => exact hcL_0
  | 1, _ => exact hcL_1
  | 2, _ => exact hcL_2
  | 3, _ => exact hcL_3
  | 4, _ => exact hcL_4
  | 5, _ => exact hcL_5
  | 6, _ => exact hcL_6
  | 7, _ => exact hcL_7
  | 8, _ => exact hcL_8
  | 9, _ => exact hcL_9
  | 10, _ => exact hcL_10
  | 11, _ => exact hcL_11
  | c + 12, hc => exact absurd hc (by omega)
