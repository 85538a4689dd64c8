/-! the names of the classes, and the tables' words -/
set_option maxRecDepth 100000
def RJ0 : String := "java/lang/Math"
def RJ1 : String := "java/lang/String"
def RJ2 : String := "java/lang/StringLatin1"
def RJ3 : String := "jdk/internal/util/Preconditions"
def RJ4 : String := "java/lang/StringUTF16"
def RJ5 : String := "java/lang/Character"
def RJ6 : String := "java/lang/Object"
def RX0 : String := "WebHost"
def TX0 : u_T := fun k => match k with
  | 0 => ("WebHost", "tray", "[B", true)
  | 1 => ("WebHost", "trayed", "I", false)
  | 2 => ("WebHost", "store", "LWebHost$Store;", true)
  | 3 => ("WebHost", "device", "LWebHost$Device;", true)
  | 4 => ("WebHost", "hops", "LWebHost$Hops;", true)
  | 5 => ("WebHost", "packets", "LWebHost$Packets;", true)
  | 6 => ("WebHost", "fragments", "LWebHost$Fragments;", true)
  | 7 => ("WebHost", "wire", "LWebHost$Wire;", true)
  | 8 => ("WebHost", "requests", "LWebHost$Requests;", true)
  | 9 => ("WebHost", "places", "[LWebHost$Connection;", true)
  | 10 => ("WebHost", "segment", "LWebHost$Segment;", true)
  | 11 => ("WebHost", "booted", "Z", false)
  | 12 => ("WebHost", "ip", "I", false)
  | _ => ("WebHost", "arrived", "I", false)
def tyX0 : Nat → FieldType := fun k => match k with
  | 0 => .array .byte
  | 1 => .int
  | 2 => .object "WebHost$Store"
  | 3 => .object "WebHost$Device"
  | 4 => .object "WebHost$Hops"
  | 5 => .object "WebHost$Packets"
  | 6 => .object "WebHost$Fragments"
  | 7 => .object "WebHost$Wire"
  | 8 => .object "WebHost$Requests"
  | 9 => .array (.object "WebHost$Connection")
  | 10 => .object "WebHost$Segment"
  | 11 => .boolean
  | 12 => .int
  | _ => .int
abbrev wsX00 : List Cond := u_ws RX0 TX0 14
theorem nmX0 : ∀ a, a < 14 → ∀ b, b < 14 → a ≠ b → (TX0 a).2.1 ≠ (TX0 b).2.1 := by decide +kernel
theorem tyX0_ok : ∀ k, k < 14 → parseFieldDescriptor (TX0 k).2.2.1 = some (tyX0 k) := by decide +kernel
def RX1 : String := "WebHost$Store"
def TX1 : u_T := fun k => match k with
  | 0 => ("WebHost$Store", "bytes", "[B", false)
  | 1 => ("WebHost$Store", "files", "I", false)
  | 2 => ("WebHost$Store", "entries", "[B", true)
  | _ => ("WebHost$Store", "row", "[B", false)
def tyX1 : Nat → FieldType := fun k => match k with
  | 0 => .array .byte
  | 1 => .int
  | 2 => .array .byte
  | _ => .array .byte
abbrev wsX10 : List Cond := u_ws RX1 TX1 4
theorem nmX1 : ∀ a, a < 4 → ∀ b, b < 4 → a ≠ b → (TX1 a).2.1 ≠ (TX1 b).2.1 := by decide +kernel
theorem tyX1_ok : ∀ k, k < 4 → parseFieldDescriptor (TX1 k).2.2.1 = some (tyX1 k) := by decide +kernel
def RX10 : String := "WebHost$Segment"
def TX10 : u_T := fun k => match k with
  | 0 => ("WebHost$Segment", "from", "I", false)
  | 1 => ("WebHost$Segment", "port", "I", false)
  | 2 => ("WebHost$Segment", "to", "I", false)
  | 3 => ("WebHost$Segment", "seq", "I", false)
  | 4 => ("WebHost$Segment", "ack", "I", false)
  | 5 => ("WebHost$Segment", "flags", "I", false)
  | 6 => ("WebHost$Segment", "window", "I", false)
  | 7 => ("WebHost$Segment", "bytes", "[B", false)
  | 8 => ("WebHost$Segment", "at", "I", false)
  | 9 => ("WebHost$Segment", "length", "I", false)
  | _ => ("WebHost$Segment", "mss", "I", false)
def tyX10 : Nat → FieldType := fun k => match k with
  | 0 => .int
  | 1 => .int
  | 2 => .int
  | 3 => .int
  | 4 => .int
  | 5 => .int
  | 6 => .int
  | 7 => .array .byte
  | 8 => .int
  | 9 => .int
  | _ => .int
abbrev wsX100 : List Cond := u_ws RX10 TX10 11
theorem nmX10 : ∀ a, a < 11 → ∀ b, b < 11 → a ≠ b → (TX10 a).2.1 ≠ (TX10 b).2.1 := by decide +kernel
theorem tyX10_ok : ∀ k, k < 11 → parseFieldDescriptor (TX10 k).2.2.1 = some (tyX10 k) := by decide +kernel
def RX11 : String := "WebHost$Connection"
def TX11 : u_T := fun k => match k with
  | 0 => ("WebHost$Connection", "wire", "LWebHost$Wire;", true)
  | 1 => ("WebHost$Connection", "requests", "LWebHost$Requests;", true)
  | 2 => ("WebHost$Connection", "state", "I", false)
  | 3 => ("WebHost$Connection", "ip", "I", false)
  | 4 => ("WebHost$Connection", "port", "I", false)
  | 5 => ("WebHost$Connection", "iss", "I", false)
  | 6 => ("WebHost$Connection", "next", "I", false)
  | 7 => ("WebHost$Connection", "windowSeq", "I", false)
  | 8 => ("WebHost$Connection", "windowAck", "I", false)
  | 9 => ("WebHost$Connection", "una", "I", false)
  | 10 => ("WebHost$Connection", "at", "I", false)
  | 11 => ("WebHost$Connection", "max", "I", false)
  | 12 => ("WebHost$Connection", "window", "I", false)
  | 13 => ("WebHost$Connection", "mss", "I", false)
  | 14 => ("WebHost$Connection", "cwnd", "I", false)
  | 15 => ("WebHost$Connection", "ssthresh", "I", false)
  | 16 => ("WebHost$Connection", "rto", "I", false)
  | 17 => ("WebHost$Connection", "tries", "I", false)
  | 18 => ("WebHost$Connection", "duplicates", "I", false)
  | 19 => ("WebHost$Connection", "inRecovery", "Z", false)
  | 20 => ("WebHost$Connection", "inbox", "LWebHost$Inbox;", true)
  | 21 => ("WebHost$Connection", "told", "I", false)
  | 22 => ("WebHost$Connection", "owed", "Z", false)
  | 23 => ("WebHost$Connection", "finCame", "Z", false)
  | 24 => ("WebHost$Connection", "finNumber", "I", false)
  | 25 => ("WebHost$Connection", "answer", "LWebHost$Answer;", true)
  | 26 => ("WebHost$Connection", "base", "I", false)
  | 27 => ("WebHost$Connection", "down", "Z", false)
  | 28 => ("WebHost$Connection", "finSent", "Z", false)
  | 29 => ("WebHost$Connection", "timerOn", "Z", false)
  | 30 => ("WebHost$Connection", "timer", "I", false)
  | 31 => ("WebHost$Connection", "life", "I", false)
  | 32 => ("WebHost$Connection", "active", "I", false)
  | 33 => ("WebHost$Connection", "lifeOn", "Z", false)
  | 34 => ("WebHost$Connection", "timing", "Z", false)
  | 35 => ("WebHost$Connection", "measured", "Z", false)
  | 36 => ("WebHost$Connection", "timedNumber", "I", false)
  | 37 => ("WebHost$Connection", "timedSince", "I", false)
  | 38 => ("WebHost$Connection", "srtt", "I", false)
  | _ => ("WebHost$Connection", "spread", "I", false)
def tyX11 : Nat → FieldType := fun k => match k with
  | 0 => .object "WebHost$Wire"
  | 1 => .object "WebHost$Requests"
  | 2 => .int
  | 3 => .int
  | 4 => .int
  | 5 => .int
  | 6 => .int
  | 7 => .int
  | 8 => .int
  | 9 => .int
  | 10 => .int
  | 11 => .int
  | 12 => .int
  | 13 => .int
  | 14 => .int
  | 15 => .int
  | 16 => .int
  | 17 => .int
  | 18 => .int
  | 19 => .boolean
  | 20 => .object "WebHost$Inbox"
  | 21 => .int
  | 22 => .boolean
  | 23 => .boolean
  | 24 => .int
  | 25 => .object "WebHost$Answer"
  | 26 => .int
  | 27 => .boolean
  | 28 => .boolean
  | 29 => .boolean
  | 30 => .int
  | 31 => .int
  | 32 => .int
  | 33 => .boolean
  | 34 => .boolean
  | 35 => .boolean
  | 36 => .int
  | 37 => .int
  | 38 => .int
  | _ => .int
abbrev wsX110 : List Cond := u_ws RX11 TX11 40
theorem nmX11 : ∀ a, a < 40 → ∀ b, b < 40 → a ≠ b → (TX11 a).2.1 ≠ (TX11 b).2.1 := by decide +kernel
theorem tyX11_ok : ∀ k, k < 40 → parseFieldDescriptor (TX11 k).2.2.1 = some (tyX11 k) := by decide +kernel
def RX12 : String := "WebHost$Inbox"
def TX12 : u_T := fun k => match k with
  | 0 => ("WebHost$Inbox", "bytes", "[B", true)
  | 1 => ("WebHost$Inbox", "there", "[Z", true)
  | 2 => ("WebHost$Inbox", "held", "I", false)
  | _ => ("WebHost$Inbox", "skip", "I", false)
def tyX12 : Nat → FieldType := fun k => match k with
  | 0 => .array .byte
  | 1 => .array .boolean
  | 2 => .int
  | _ => .int
abbrev wsX120 : List Cond := u_ws RX12 TX12 4
theorem nmX12 : ∀ a, a < 4 → ∀ b, b < 4 → a ≠ b → (TX12 a).2.1 ≠ (TX12 b).2.1 := by decide +kernel
theorem tyX12_ok : ∀ k, k < 4 → parseFieldDescriptor (TX12 k).2.2.1 = some (tyX12 k) := by decide +kernel
def RX13 : String := "WebHost$Answer"
def TX13 : u_T := fun k => match k with
  | 0 => ("WebHost$Answer", "bytes", "[B", false)
  | _ => ("WebHost$Answer", "length", "I", false)
def tyX13 : Nat → FieldType := fun k => match k with
  | 0 => .array .byte
  | _ => .int
abbrev wsX130 : List Cond := u_ws RX13 TX13 2
theorem nmX13 : ∀ a, a < 2 → ∀ b, b < 2 → a ≠ b → (TX13 a).2.1 ≠ (TX13 b).2.1 := by decide +kernel
theorem tyX13_ok : ∀ k, k < 2 → parseFieldDescriptor (TX13 k).2.2.1 = some (tyX13 k) := by decide +kernel
def RX14 : String := "WebHostModel"
def TX14 : u_T := fun k => match k with
  | 0 => ("WebHostModel", "tray", "[B", true)
  | 1 => ("WebHostModel", "trayed", "I", false)
  | 2 => ("WebHostModel", "image", "[B", true)
  | 3 => ("WebHostModel", "imageSize", "I", false)
  | 4 => ("WebHostModel", "booted", "Z", false)
  | 5 => ("WebHostModel", "ip", "I", false)
  | 6 => ("WebHostModel", "bits", "I", false)
  | 7 => ("WebHostModel", "gateway", "I", false)
  | 8 => ("WebHostModel", "high", "I", false)
  | 9 => ("WebHostModel", "low", "I", false)
  | 10 => ("WebHostModel", "now", "I", false)
  | 11 => ("WebHostModel", "fileCount", "I", false)
  | 12 => ("WebHostModel", "began", "I", false)
  | 13 => ("WebHostModel", "names", "[B", true)
  | 14 => ("WebHostModel", "filePlaces", "[I", true)
  | 15 => ("WebHostModel", "fileLengths", "[I", true)
  | 16 => ("WebHostModel", "fileChecks", "[I", true)
  | 17 => ("WebHostModel", "counts", "[I", true)
  | 18 => ("WebHostModel", "strays", "I", false)
  | 19 => ("WebHostModel", "frame", "[B", true)
  | 20 => ("WebHostModel", "kept", "[B", true)
  | 21 => ("WebHostModel", "keptLengths", "[I", true)
  | 22 => ("WebHostModel", "keptTimes", "[I", true)
  | 23 => ("WebHostModel", "sent", "I", false)
  | 24 => ("WebHostModel", "identification", "I", false)
  | 25 => ("WebHostModel", "order", "I", false)
  | 26 => ("WebHostModel", "cache", "[LWebHostModel$Entry;", true)
  | 27 => ("WebHostModel", "packets", "[LWebHostModel$Packet;", true)
  | 28 => ("WebHostModel", "datagrams", "[LWebHostModel$Datagram;", true)
  | 29 => ("WebHostModel", "whole", "[B", true)
  | 30 => ("WebHostModel", "sender", "I", false)
  | 31 => ("WebHostModel", "connections", "[LWebHostModel$Connection;", true)
  | 32 => ("WebHostModel", "fromPort", "I", false)
  | 33 => ("WebHostModel", "toPort", "I", false)
  | 34 => ("WebHostModel", "number", "I", false)
  | 35 => ("WebHostModel", "acknowledged", "I", false)
  | 36 => ("WebHostModel", "flags", "I", false)
  | 37 => ("WebHostModel", "window", "I", false)
  | 38 => ("WebHostModel", "dataAt", "I", false)
  | 39 => ("WebHostModel", "dataLength", "I", false)
  | 40 => ("WebHostModel", "headEnd", "I", false)
  | 41 => ("WebHostModel", "head", "[B", true)
  | 42 => ("WebHostModel", "headLength", "I", false)
  | 43 => ("WebHostModel", "status", "I", false)
  | 44 => ("WebHostModel", "isHead", "Z", false)
  | 45 => ("WebHostModel", "oldVersion", "Z", false)
  | 46 => ("WebHostModel", "close", "Z", false)
  | 47 => ("WebHostModel", "keep", "Z", false)
  | 48 => ("WebHostModel", "hosts", "I", false)
  | 49 => ("WebHostModel", "lengths", "I", false)
  | 50 => ("WebHostModel", "marks", "I", false)
  | 51 => ("WebHostModel", "bodyLeft", "I", false)
  | 52 => ("WebHostModel", "badLength", "Z", false)
  | 53 => ("WebHostModel", "greatLength", "Z", false)
  | 54 => ("WebHostModel", "encoded", "Z", false)
  | 55 => ("WebHostModel", "sameMark", "Z", false)
  | 56 => ("WebHostModel", "targetAt", "I", false)
  | 57 => ("WebHostModel", "targetEnd", "I", false)
  | 58 => ("WebHostModel", "path", "[B", true)
  | 59 => ("WebHostModel", "pathLength", "I", false)
  | 60 => ("WebHostModel", "other", "Z", false)
  | 61 => ("WebHostModel", "markAt", "I", false)
  | _ => ("WebHostModel", "markEnd", "I", false)
def tyX14 : Nat → FieldType := fun k => match k with
  | 0 => .array .byte
  | 1 => .int
  | 2 => .array .byte
  | 3 => .int
  | 4 => .boolean
  | 5 => .int
  | 6 => .int
  | 7 => .int
  | 8 => .int
  | 9 => .int
  | 10 => .int
  | 11 => .int
  | 12 => .int
  | 13 => .array .byte
  | 14 => .array .int
  | 15 => .array .int
  | 16 => .array .int
  | 17 => .array .int
  | 18 => .int
  | 19 => .array .byte
  | 20 => .array .byte
  | 21 => .array .int
  | 22 => .array .int
  | 23 => .int
  | 24 => .int
  | 25 => .int
  | 26 => .array (.object "WebHostModel$Entry")
  | 27 => .array (.object "WebHostModel$Packet")
  | 28 => .array (.object "WebHostModel$Datagram")
  | 29 => .array .byte
  | 30 => .int
  | 31 => .array (.object "WebHostModel$Connection")
  | 32 => .int
  | 33 => .int
  | 34 => .int
  | 35 => .int
  | 36 => .int
  | 37 => .int
  | 38 => .int
  | 39 => .int
  | 40 => .int
  | 41 => .array .byte
  | 42 => .int
  | 43 => .int
  | 44 => .boolean
  | 45 => .boolean
  | 46 => .boolean
  | 47 => .boolean
  | 48 => .int
  | 49 => .int
  | 50 => .int
  | 51 => .int
  | 52 => .boolean
  | 53 => .boolean
  | 54 => .boolean
  | 55 => .boolean
  | 56 => .int
  | 57 => .int
  | 58 => .array .byte
  | 59 => .int
  | 60 => .boolean
  | 61 => .int
  | _ => .int
abbrev wsX140 : List Cond := u_ws RX14 TX14 63
theorem nmX14 : ∀ a, a < 63 → ∀ b, b < 63 → a ≠ b → (TX14 a).2.1 ≠ (TX14 b).2.1 := by decide +kernel
theorem tyX14_ok : ∀ k, k < 63 → parseFieldDescriptor (TX14 k).2.2.1 = some (tyX14 k) := by decide +kernel
def RX15 : String := "WebHostModel$Connection"
def TX15 : u_T := fun k => match k with
  | 0 => ("WebHostModel$Connection", "state", "I", false)
  | 1 => ("WebHostModel$Connection", "number", "I", false)
  | 2 => ("WebHostModel$Connection", "port", "I", false)
  | 3 => ("WebHostModel$Connection", "iss", "I", false)
  | 4 => ("WebHostModel$Connection", "una", "I", false)
  | 5 => ("WebHostModel$Connection", "at", "I", false)
  | 6 => ("WebHostModel$Connection", "max", "I", false)
  | 7 => ("WebHostModel$Connection", "window", "I", false)
  | 8 => ("WebHostModel$Connection", "wl1", "I", false)
  | 9 => ("WebHostModel$Connection", "wl2", "I", false)
  | 10 => ("WebHostModel$Connection", "mss", "I", false)
  | 11 => ("WebHostModel$Connection", "cwnd", "I", false)
  | 12 => ("WebHostModel$Connection", "ssthresh", "I", false)
  | 13 => ("WebHostModel$Connection", "rto", "I", false)
  | 14 => ("WebHostModel$Connection", "srtt", "I", false)
  | 15 => ("WebHostModel$Connection", "var", "I", false)
  | 16 => ("WebHostModel$Connection", "measured", "Z", false)
  | 17 => ("WebHostModel$Connection", "timing", "Z", false)
  | 18 => ("WebHostModel$Connection", "recovery", "Z", false)
  | 19 => ("WebHostModel$Connection", "timedNumber", "I", false)
  | 20 => ("WebHostModel$Connection", "timedAt", "I", false)
  | 21 => ("WebHostModel$Connection", "timerOn", "Z", false)
  | 22 => ("WebHostModel$Connection", "timer", "I", false)
  | 23 => ("WebHostModel$Connection", "tries", "I", false)
  | 24 => ("WebHostModel$Connection", "duplicates", "I", false)
  | 25 => ("WebHostModel$Connection", "head", "[B", true)
  | 26 => ("WebHostModel$Connection", "headLength", "I", false)
  | 27 => ("WebHostModel$Connection", "bodyPlace", "I", false)
  | 28 => ("WebHostModel$Connection", "bodyLength", "I", false)
  | 29 => ("WebHostModel$Connection", "begin", "I", false)
  | 30 => ("WebHostModel$Connection", "closing", "Z", false)
  | 31 => ("WebHostModel$Connection", "finished", "Z", false)
  | 32 => ("WebHostModel$Connection", "row", "[B", true)
  | 33 => ("WebHostModel$Connection", "there", "[Z", true)
  | 34 => ("WebHostModel$Connection", "irs", "I", false)
  | 35 => ("WebHostModel$Connection", "read", "I", false)
  | 36 => ("WebHostModel$Connection", "next", "I", false)
  | 37 => ("WebHostModel$Connection", "told", "I", false)
  | 38 => ("WebHostModel$Connection", "leave", "I", false)
  | 39 => ("WebHostModel$Connection", "owed", "Z", false)
  | 40 => ("WebHostModel$Connection", "finKnown", "Z", false)
  | 41 => ("WebHostModel$Connection", "finTaken", "Z", false)
  | 42 => ("WebHostModel$Connection", "finNumber", "I", false)
  | 43 => ("WebHostModel$Connection", "established", "I", false)
  | 44 => ("WebHostModel$Connection", "latest", "I", false)
  | _ => ("WebHostModel$Connection", "since", "I", false)
def tyX15 : Nat → FieldType := fun k => match k with
  | 0 => .int
  | 1 => .int
  | 2 => .int
  | 3 => .int
  | 4 => .int
  | 5 => .int
  | 6 => .int
  | 7 => .int
  | 8 => .int
  | 9 => .int
  | 10 => .int
  | 11 => .int
  | 12 => .int
  | 13 => .int
  | 14 => .int
  | 15 => .int
  | 16 => .boolean
  | 17 => .boolean
  | 18 => .boolean
  | 19 => .int
  | 20 => .int
  | 21 => .boolean
  | 22 => .int
  | 23 => .int
  | 24 => .int
  | 25 => .array .byte
  | 26 => .int
  | 27 => .int
  | 28 => .int
  | 29 => .int
  | 30 => .boolean
  | 31 => .boolean
  | 32 => .array .byte
  | 33 => .array .boolean
  | 34 => .int
  | 35 => .int
  | 36 => .int
  | 37 => .int
  | 38 => .int
  | 39 => .boolean
  | 40 => .boolean
  | 41 => .boolean
  | 42 => .int
  | 43 => .int
  | 44 => .int
  | _ => .int
abbrev wsX150 : List Cond := u_ws RX15 TX15 46
theorem nmX15 : ∀ a, a < 46 → ∀ b, b < 46 → a ≠ b → (TX15 a).2.1 ≠ (TX15 b).2.1 := by decide +kernel
theorem tyX15_ok : ∀ k, k < 46 → parseFieldDescriptor (TX15 k).2.2.1 = some (tyX15 k) := by decide +kernel
def RX16 : String := "WebHostModel$Entry"
def TX16 : u_T := fun k => match k with
  | 0 => ("WebHostModel$Entry", "used", "Z", false)
  | 1 => ("WebHostModel$Entry", "number", "I", false)
  | 2 => ("WebHostModel$Entry", "high", "I", false)
  | 3 => ("WebHostModel$Entry", "low", "I", false)
  | _ => ("WebHostModel$Entry", "time", "I", false)
def tyX16 : Nat → FieldType := fun k => match k with
  | 0 => .boolean
  | 1 => .int
  | 2 => .int
  | 3 => .int
  | _ => .int
abbrev wsX160 : List Cond := u_ws RX16 TX16 5
theorem nmX16 : ∀ a, a < 5 → ∀ b, b < 5 → a ≠ b → (TX16 a).2.1 ≠ (TX16 b).2.1 := by decide +kernel
theorem tyX16_ok : ∀ k, k < 5 → parseFieldDescriptor (TX16 k).2.2.1 = some (tyX16 k) := by decide +kernel
def RX17 : String := "WebHostModel$Packet"
def TX17 : u_T := fun k => match k with
  | 0 => ("WebHostModel$Packet", "used", "Z", false)
  | 1 => ("WebHostModel$Packet", "hop", "I", false)
  | 2 => ("WebHostModel$Packet", "length", "I", false)
  | 3 => ("WebHostModel$Packet", "asked", "I", false)
  | 4 => ("WebHostModel$Packet", "asks", "I", false)
  | 5 => ("WebHostModel$Packet", "order", "I", false)
  | _ => ("WebHostModel$Packet", "bytes", "[B", true)
def tyX17 : Nat → FieldType := fun k => match k with
  | 0 => .boolean
  | 1 => .int
  | 2 => .int
  | 3 => .int
  | 4 => .int
  | 5 => .int
  | _ => .array .byte
abbrev wsX170 : List Cond := u_ws RX17 TX17 7
theorem nmX17 : ∀ a, a < 7 → ∀ b, b < 7 → a ≠ b → (TX17 a).2.1 ≠ (TX17 b).2.1 := by decide +kernel
theorem tyX17_ok : ∀ k, k < 7 → parseFieldDescriptor (TX17 k).2.2.1 = some (tyX17 k) := by decide +kernel
def RX18 : String := "WebHostModel$Datagram"
def TX18 : u_T := fun k => match k with
  | 0 => ("WebHostModel$Datagram", "used", "Z", false)
  | 1 => ("WebHostModel$Datagram", "sender", "I", false)
  | 2 => ("WebHostModel$Datagram", "identification", "I", false)
  | 3 => ("WebHostModel$Datagram", "protocol", "I", false)
  | 4 => ("WebHostModel$Datagram", "end", "I", false)
  | 5 => ("WebHostModel$Datagram", "begun", "I", false)
  | 6 => ("WebHostModel$Datagram", "order", "I", false)
  | 7 => ("WebHostModel$Datagram", "bytes", "[B", true)
  | _ => ("WebHostModel$Datagram", "there", "[Z", true)
def tyX18 : Nat → FieldType := fun k => match k with
  | 0 => .boolean
  | 1 => .int
  | 2 => .int
  | 3 => .int
  | 4 => .int
  | 5 => .int
  | 6 => .int
  | 7 => .array .byte
  | _ => .array .boolean
abbrev wsX180 : List Cond := u_ws RX18 TX18 9
theorem nmX18 : ∀ a, a < 9 → ∀ b, b < 9 → a ≠ b → (TX18 a).2.1 ≠ (TX18 b).2.1 := by decide +kernel
theorem tyX18_ok : ∀ k, k < 9 → parseFieldDescriptor (TX18 k).2.2.1 = some (tyX18 k) := by decide +kernel
def RX19 : String := "WebHost$Net"
def RX2 : String := "WebHost$Device"
def TX2 : u_T := fun k => match k with
  | 0 => ("WebHost$Device", "ring", "[[B", true)
  | 1 => ("WebHost$Device", "lengths", "[I", true)
  | 2 => ("WebHost$Device", "times", "[I", true)
  | 3 => ("WebHost$Device", "sent", "I", false)
  | 4 => ("WebHost$Device", "now", "I", false)
  | _ => ("WebHost$Device", "own", "[B", true)
def tyX2 : Nat → FieldType := fun k => match k with
  | 0 => .array (.array .byte)
  | 1 => .array .int
  | 2 => .array .int
  | 3 => .int
  | 4 => .int
  | _ => .array .byte
abbrev wsX20 : List Cond := u_ws RX2 TX2 6
theorem nmX2 : ∀ a, a < 6 → ∀ b, b < 6 → a ≠ b → (TX2 a).2.1 ≠ (TX2 b).2.1 := by decide +kernel
theorem tyX2_ok : ∀ k, k < 6 → parseFieldDescriptor (TX2 k).2.2.1 = some (tyX2 k) := by decide +kernel
def RX3 : String := "WebHost$Hops"
def TX3 : u_T := fun k => match k with
  | 0 => ("WebHost$Hops", "device", "LWebHost$Device;", true)
  | 1 => ("WebHost$Hops", "ip", "I", false)
  | 2 => ("WebHost$Hops", "mask", "I", false)
  | 3 => ("WebHost$Hops", "gateway", "I", false)
  | 4 => ("WebHost$Hops", "numbers", "[I", true)
  | 5 => ("WebHost$Hops", "times", "[I", true)
  | 6 => ("WebHost$Hops", "addresses", "[B", true)
  | 7 => ("WebHost$Hops", "size", "I", false)
  | 8 => ("WebHost$Hops", "row", "[LWebHost$Waiting;", true)
  | 9 => ("WebHost$Hops", "waiting", "I", false)
  | 10 => ("WebHost$Hops", "packet", "[B", true)
  | 11 => ("WebHost$Hops", "all", "[B", true)
  | _ => ("WebHost$Hops", "none", "[B", true)
def tyX3 : Nat → FieldType := fun k => match k with
  | 0 => .object "WebHost$Device"
  | 1 => .int
  | 2 => .int
  | 3 => .int
  | 4 => .array .int
  | 5 => .array .int
  | 6 => .array .byte
  | 7 => .int
  | 8 => .array (.object "WebHost$Waiting")
  | 9 => .int
  | 10 => .array .byte
  | 11 => .array .byte
  | _ => .array .byte
abbrev wsX30 : List Cond := u_ws RX3 TX3 13
theorem nmX3 : ∀ a, a < 13 → ∀ b, b < 13 → a ≠ b → (TX3 a).2.1 ≠ (TX3 b).2.1 := by decide +kernel
theorem tyX3_ok : ∀ k, k < 13 → parseFieldDescriptor (TX3 k).2.2.1 = some (tyX3 k) := by decide +kernel
def RX4 : String := "WebHost$Waiting"
def TX4 : u_T := fun k => match k with
  | 0 => ("WebHost$Waiting", "hop", "I", false)
  | 1 => ("WebHost$Waiting", "since", "I", false)
  | 2 => ("WebHost$Waiting", "asks", "I", false)
  | 3 => ("WebHost$Waiting", "packet", "[B", true)
  | _ => ("WebHost$Waiting", "length", "I", false)
def tyX4 : Nat → FieldType := fun k => match k with
  | 0 => .int
  | 1 => .int
  | 2 => .int
  | 3 => .array .byte
  | _ => .int
abbrev wsX40 : List Cond := u_ws RX4 TX4 5
theorem nmX4 : ∀ a, a < 5 → ∀ b, b < 5 → a ≠ b → (TX4 a).2.1 ≠ (TX4 b).2.1 := by decide +kernel
theorem tyX4_ok : ∀ k, k < 5 → parseFieldDescriptor (TX4 k).2.2.1 = some (tyX4 k) := by decide +kernel
def RX5 : String := "WebHost$Packets"
def TX5 : u_T := fun k => match k with
  | 0 => ("WebHost$Packets", "hops", "LWebHost$Hops;", true)
  | 1 => ("WebHost$Packets", "ip", "I", false)
  | 2 => ("WebHost$Packets", "identification", "I", false)
  | _ => ("WebHost$Packets", "packet", "[B", true)
def tyX5 : Nat → FieldType := fun k => match k with
  | 0 => .object "WebHost$Hops"
  | 1 => .int
  | 2 => .int
  | _ => .array .byte
abbrev wsX50 : List Cond := u_ws RX5 TX5 4
theorem nmX5 : ∀ a, a < 4 → ∀ b, b < 4 → a ≠ b → (TX5 a).2.1 ≠ (TX5 b).2.1 := by decide +kernel
theorem tyX5_ok : ∀ k, k < 4 → parseFieldDescriptor (TX5 k).2.2.1 = some (tyX5 k) := by decide +kernel
def RX6 : String := "WebHost$Fragments"
def TX6 : u_T := fun k => match k with
  | 0 => ("WebHost$Fragments", "row", "[LWebHost$Making;", true)
  | 1 => ("WebHost$Fragments", "size", "I", false)
  | _ => ("WebHost$Fragments", "made", "I", false)
def tyX6 : Nat → FieldType := fun k => match k with
  | 0 => .array (.object "WebHost$Making")
  | 1 => .int
  | _ => .int
abbrev wsX60 : List Cond := u_ws RX6 TX6 3
theorem nmX6 : ∀ a, a < 3 → ∀ b, b < 3 → a ≠ b → (TX6 a).2.1 ≠ (TX6 b).2.1 := by decide +kernel
theorem tyX6_ok : ∀ k, k < 3 → parseFieldDescriptor (TX6 k).2.2.1 = some (tyX6 k) := by decide +kernel
def RX7 : String := "WebHost$Making"
def TX7 : u_T := fun k => match k with
  | 0 => ("WebHost$Making", "from", "I", false)
  | 1 => ("WebHost$Making", "identification", "I", false)
  | 2 => ("WebHost$Making", "protocol", "I", false)
  | 3 => ("WebHost$Making", "since", "I", false)
  | 4 => ("WebHost$Making", "bytes", "[B", true)
  | 5 => ("WebHost$Making", "there", "[Z", true)
  | 6 => ("WebHost$Making", "reach", "I", false)
  | _ => ("WebHost$Making", "end", "I", false)
def tyX7 : Nat → FieldType := fun k => match k with
  | 0 => .int
  | 1 => .int
  | 2 => .int
  | 3 => .int
  | 4 => .array .byte
  | 5 => .array .boolean
  | 6 => .int
  | _ => .int
abbrev wsX70 : List Cond := u_ws RX7 TX7 8
theorem nmX7 : ∀ a, a < 8 → ∀ b, b < 8 → a ≠ b → (TX7 a).2.1 ≠ (TX7 b).2.1 := by decide +kernel
theorem tyX7_ok : ∀ k, k < 8 → parseFieldDescriptor (TX7 k).2.2.1 = some (tyX7 k) := by decide +kernel
def RX8 : String := "WebHost$Wire"
def TX8 : u_T := fun k => match k with
  | 0 => ("WebHost$Wire", "packets", "LWebHost$Packets;", true)
  | 1 => ("WebHost$Wire", "device", "LWebHost$Device;", true)
  | 2 => ("WebHost$Wire", "ip", "I", false)
  | 3 => ("WebHost$Wire", "resets", "I", false)
  | 4 => ("WebHost$Wire", "again", "I", false)
  | 5 => ("WebHost$Wire", "answers", "I", false)
  | 6 => ("WebHost$Wire", "begun", "I", false)
  | 7 => ("WebHost$Wire", "acknowledged", "I", false)
  | _ => ("WebHost$Wire", "bytes", "I", false)
def tyX8 : Nat → FieldType := fun k => match k with
  | 0 => .object "WebHost$Packets"
  | 1 => .object "WebHost$Device"
  | 2 => .int
  | 3 => .int
  | 4 => .int
  | 5 => .int
  | 6 => .int
  | 7 => .int
  | _ => .int
abbrev wsX80 : List Cond := u_ws RX8 TX8 9
theorem nmX8 : ∀ a, a < 9 → ∀ b, b < 9 → a ≠ b → (TX8 a).2.1 ≠ (TX8 b).2.1 := by decide +kernel
theorem tyX8_ok : ∀ k, k < 9 → parseFieldDescriptor (TX8 k).2.2.1 = some (tyX8 k) := by decide +kernel
def RX9 : String := "WebHost$Requests"
def TX9 : u_T := fun k => match k with
  | 0 => ("WebHost$Requests", "store", "LWebHost$Store;", true)
  | 1 => ("WebHost$Requests", "head", "[B", true)
  | 2 => ("WebHost$Requests", "end", "I", false)
  | 3 => ("WebHost$Requests", "methodEnd", "I", false)
  | 4 => ("WebHost$Requests", "targetEnd", "I", false)
  | 5 => ("WebHost$Requests", "isHead", "Z", false)
  | 6 => ("WebHost$Requests", "isNew", "Z", false)
  | 7 => ("WebHost$Requests", "hosts", "I", false)
  | 8 => ("WebHost$Requests", "lengths", "I", false)
  | 9 => ("WebHost$Requests", "bodyLength", "I", false)
  | 10 => ("WebHost$Requests", "marks", "I", false)
  | 11 => ("WebHost$Requests", "markAt", "I", false)
  | 12 => ("WebHost$Requests", "markEnd", "I", false)
  | 13 => ("WebHost$Requests", "isLengthRight", "Z", false)
  | 14 => ("WebHost$Requests", "hasCoding", "Z", false)
  | 15 => ("WebHost$Requests", "hasClose", "Z", false)
  | 16 => ("WebHost$Requests", "hasKeep", "Z", false)
  | 17 => ("WebHost$Requests", "path", "[B", true)
  | _ => ("WebHost$Requests", "pathLength", "I", false)
def tyX9 : Nat → FieldType := fun k => match k with
  | 0 => .object "WebHost$Store"
  | 1 => .array .byte
  | 2 => .int
  | 3 => .int
  | 4 => .int
  | 5 => .boolean
  | 6 => .boolean
  | 7 => .int
  | 8 => .int
  | 9 => .int
  | 10 => .int
  | 11 => .int
  | 12 => .int
  | 13 => .boolean
  | 14 => .boolean
  | 15 => .boolean
  | 16 => .boolean
  | 17 => .array .byte
  | _ => .int
abbrev wsX90 : List Cond := u_ws RX9 TX9 19
theorem nmX9 : ∀ a, a < 19 → ∀ b, b < 19 → a ≠ b → (TX9 a).2.1 ≠ (TX9 b).2.1 := by decide +kernel
theorem tyX9_ok : ∀ k, k < 19 → parseFieldDescriptor (TX9 k).2.2.1 = some (tyX9 k) := by decide +kernel
theorem q156 : (Jvm.Cond.initialized "WebHostLaw") ∈ lw_all := lw_g (lw_at lw_m1 0 rfl) rfl
theorem q157 : (Jvm.Cond.initialized "WebHost") ∈ lw_all := lw_g (lw_at lw_m1 1 rfl) rfl
theorem q158 : (Jvm.Cond.initialized "WebHost$Store") ∈ lw_all := lw_g (lw_at lw_m1 2 rfl) rfl
theorem q159 : (Jvm.Cond.initialized "WebHost$Device") ∈ lw_all := lw_g (lw_at lw_m1 3 rfl) rfl
theorem q160 : (Jvm.Cond.initialized "WebHost$Hops") ∈ lw_all := lw_g (lw_at lw_m1 4 rfl) rfl
theorem q161 : (Jvm.Cond.initialized "WebHost$Waiting") ∈ lw_all := lw_g (lw_at lw_m1 5 rfl) rfl
theorem q162 : (Jvm.Cond.initialized "WebHost$Packets") ∈ lw_all := lw_g (lw_at lw_m1 6 rfl) rfl
theorem q163 : (Jvm.Cond.initialized "WebHost$Fragments") ∈ lw_all := lw_g (lw_at lw_m1 7 rfl) rfl
theorem q164 : (Jvm.Cond.initialized "WebHost$Making") ∈ lw_all := lw_g (lw_at lw_m1 8 rfl) rfl
theorem q165 : (Jvm.Cond.initialized "WebHost$Wire") ∈ lw_all := lw_g (lw_at lw_m1 9 rfl) rfl
theorem q166 : (Jvm.Cond.initialized "WebHost$Requests") ∈ lw_all := lw_g (lw_at lw_m1 10 rfl) rfl
theorem q167 : (Jvm.Cond.initialized "WebHost$Segment") ∈ lw_all := lw_g (lw_at lw_m1 11 rfl) rfl
theorem q168 : (Jvm.Cond.initialized "WebHost$Connection") ∈ lw_all := lw_g (lw_at lw_m1 12 rfl) rfl
theorem q169 : (Jvm.Cond.initialized "WebHost$Inbox") ∈ lw_all := lw_g (lw_at lw_m1 13 rfl) rfl
theorem q170 : (Jvm.Cond.initialized "WebHost$Answer") ∈ lw_all := lw_g (lw_at lw_m1 14 rfl) rfl
theorem q171 : (Jvm.Cond.initialized "WebHostModel") ∈ lw_all := lw_g (lw_at lw_m1 15 rfl) rfl
theorem q172 : (Jvm.Cond.initialized "WebHostModel$Connection") ∈ lw_all := lw_g (lw_at lw_m1 16 rfl) rfl
theorem q173 : (Jvm.Cond.initialized "WebHostModel$Entry") ∈ lw_all := lw_g (lw_at lw_m1 17 rfl) rfl
theorem q174 : (Jvm.Cond.initialized "WebHostModel$Packet") ∈ lw_all := lw_g (lw_at lw_m1 18 rfl) rfl
theorem q175 : (Jvm.Cond.initialized "WebHostModel$Datagram") ∈ lw_all := lw_g (lw_at lw_m1 19 rfl) rfl
theorem q176 : (Jvm.Cond.initialized "WebHost$Net") ∈ lw_all := lw_g (lw_at lw_m1 20 rfl) rfl
theorem q177 : (Jvm.Cond.initialized "java/lang/Math") ∈ lw_all := lw_g (lw_at lw_m1 21 rfl) rfl
theorem q178 : (Jvm.Cond.initialized "java/lang/String") ∈ lw_all := lw_g (lw_at lw_m1 22 rfl) rfl
theorem q179 : (Jvm.Cond.initialized "java/lang/StringLatin1") ∈ lw_all := lw_g (lw_at lw_m1 23 rfl) rfl
theorem q180 : (Jvm.Cond.initialized "jdk/internal/util/Preconditions") ∈ lw_all := lw_g (lw_at lw_m1 24 rfl) rfl
theorem q181 : (Jvm.Cond.initialized "java/lang/StringUTF16") ∈ lw_all := lw_g (lw_at lw_m1 25 rfl) rfl
theorem q182 : (Jvm.Cond.initialized "java/lang/Character") ∈ lw_all := lw_g (lw_at lw_m1 26 rfl) rfl
theorem q183 : (Jvm.Cond.classLink "WebHostLaw" (7 : Nat) "WebHost") ∈ lw_all := lw_g (lw_at lw_m1 27 rfl) rfl
theorem q184 : (Jvm.Cond.instantiable "WebHost" (14 : Nat)) ∈ lw_all := lw_g (lw_at lw_m1 28 rfl) rfl
theorem q185 : (Jvm.Cond.methodLink "WebHostLaw" (9 : Nat) ({ cls := "WebHost", name := "<init>", desc := "()V" } : Jvm.MethodName)) ∈ lw_all := lw_g (lw_at lw_m1 29 rfl) rfl
theorem q186 : (Jvm.Cond.instanceMethod ({ cls := "WebHost", name := "<init>", desc := "()V" } : Jvm.MethodName)) ∈ lw_all := lw_g (lw_at lw_m1 30 rfl) rfl
theorem q187 : (Jvm.Cond.code ({ cls := "WebHost", name := "<init>", desc := "()V" } : Jvm.MethodName) prog_1_method_1_code (2 : Nat) (Option.none : Option Jvm.ClassFile.FieldType)) ∈ lw_all := lw_g (lw_at lw_m1 31 rfl) rfl
theorem q188 : (Jvm.Cond.methodLink "WebHost" (1 : Nat) ({ cls := "java/lang/Object", name := "<init>", desc := "()V" } : Jvm.MethodName)) ∈ lw_all := lw_g (lw_at lw_m1 32 rfl) rfl
theorem q189 : (Jvm.Cond.instanceMethod ({ cls := "java/lang/Object", name := "<init>", desc := "()V" } : Jvm.MethodName)) ∈ lw_all := lw_g (lw_at lw_m1 33 rfl) rfl
theorem q190 : (Jvm.Cond.code ({ cls := "java/lang/Object", name := "<init>", desc := "()V" } : Jvm.MethodName) object_method_1_code (1 : Nat) (Option.none : Option Jvm.ClassFile.FieldType)) ∈ lw_all := lw_g (lw_at lw_m1 34 rfl) rfl
theorem q191 : (Jvm.Cond.constant "WebHost" (7 : Nat) (65540 : Int32)) ∈ lw_all := lw_g (lw_at lw_m1 35 rfl) rfl
theorem q192 : (Jvm.Cond.classLink "WebHost" (14 : Nat) "WebHost$Store") ∈ lw_all := lw_g (lw_at lw_m1 36 rfl) rfl
theorem q193 : (Jvm.Cond.instantiable "WebHost$Store" (4 : Nat)) ∈ lw_all := lw_g (lw_at lw_m1 37 rfl) rfl
theorem q194 : (Jvm.Cond.methodLinkNest "WebHost" (16 : Nat) ({ cls := "WebHost$Store", name := "<init>", desc := "()V" } : Jvm.MethodName) "WebHost") ∈ lw_tbl := lw_at lw_m1 38 rfl
theorem q195 : (Jvm.Cond.instanceMethod ({ cls := "WebHost$Store", name := "<init>", desc := "()V" } : Jvm.MethodName)) ∈ lw_all := lw_g (lw_at lw_m1 39 rfl) rfl
theorem q196 : (Jvm.Cond.code ({ cls := "WebHost$Store", name := "<init>", desc := "()V" } : Jvm.MethodName) prog_13_method_1_code (1 : Nat) (Option.none : Option Jvm.ClassFile.FieldType)) ∈ lw_all := lw_g (lw_at lw_m1 40 rfl) rfl
theorem q197 : (Jvm.Cond.methodLink "WebHost$Store" (1 : Nat) ({ cls := "java/lang/Object", name := "<init>", desc := "()V" } : Jvm.MethodName)) ∈ lw_all := lw_g (lw_at lw_m1 41 rfl) rfl
theorem q198 : (Jvm.Cond.fieldLink "WebHost$Store" (7 : Nat) "WebHost$Store" "bytes" "[B") ∈ lw_all := lw_g (lw_at lw_m1 42 rfl) rfl
theorem q199 : (Jvm.Cond.fieldLink "WebHost" (98 : Nat) "WebHost$Store" "bytes" "[B") ∈ lw_all := lw_g (lw_at lw_m1 43 rfl) rfl
theorem q200 : (Jvm.Cond.fieldLink "WebHost$Requests" (343 : Nat) "WebHost$Store" "bytes" "[B") ∈ lw_all := lw_g (lw_at lw_m1 44 rfl) rfl
theorem q201 : (Jvm.Cond.fieldLink "WebHost$Store" (49 : Nat) "WebHost$Store" "files" "I") ∈ lw_all := lw_g (lw_at lw_m1 45 rfl) rfl
theorem q202 : (Jvm.Cond.fieldLink "WebHost$Store" (13 : Nat) "WebHost$Store" "entries" "[B") ∈ lw_all := lw_g (lw_at lw_m1 46 rfl) rfl
theorem q203 : (Jvm.Cond.fieldLink "WebHost$Store" (16 : Nat) "WebHost$Store" "row" "[B") ∈ lw_all := lw_g (lw_at lw_m1 47 rfl) rfl
theorem q204 : (Jvm.Cond.lays "WebHost$Store" "WebHost$Store" "bytes" "[B") ∈ lw_all := lw_g (lw_at lw_m1 48 rfl) rfl
theorem q205 : (Jvm.Cond.soleField "WebHost$Store" "bytes") ∈ lw_all := lw_g (lw_at lw_m1 49 rfl) rfl
theorem q206 : (Jvm.Cond.lays "WebHost$Store" "WebHost$Store" "files" "I") ∈ lw_all := lw_g (lw_at lw_m1 50 rfl) rfl
theorem q207 : (Jvm.Cond.soleField "WebHost$Store" "files") ∈ lw_all := lw_g (lw_at lw_m1 51 rfl) rfl
theorem q208 : (Jvm.Cond.laysFinal "WebHost$Store" "WebHost$Store" "entries" "[B") ∈ lw_all := lw_g (lw_at lw_m1 52 rfl) rfl
theorem q209 : (Jvm.Cond.soleField "WebHost$Store" "entries") ∈ lw_all := lw_g (lw_at lw_m1 53 rfl) rfl
theorem q210 : (Jvm.Cond.lays "WebHost$Store" "WebHost$Store" "row" "[B") ∈ lw_all := lw_g (lw_at lw_m1 54 rfl) rfl
theorem q211 : (Jvm.Cond.soleField "WebHost$Store" "row") ∈ lw_all := lw_g (lw_at lw_m1 55 rfl) rfl
theorem q212 : (Jvm.Cond.superclass "WebHost$Store" "java/lang/Object") ∈ lw_all := lw_g (lw_at lw_m1 56 rfl) rfl
theorem q213 : (Jvm.Cond.arrayClass Jvm.ClassFile.FieldType.byte) ∈ lw_all := lw_g (lw_at lw_m1 57 rfl) rfl
theorem q214 : (Jvm.Cond.classLink "WebHost" (21 : Nat) "WebHost$Device") ∈ lw_all := lw_g (lw_at lw_m1 58 rfl) rfl
theorem q215 : (Jvm.Cond.instantiable "WebHost$Device" (6 : Nat)) ∈ lw_all := lw_g (lw_at lw_m1 59 rfl) rfl
theorem q216 : (Jvm.Cond.methodLink "WebHost" (23 : Nat) ({ cls := "WebHost$Device", name := "<init>", desc := "()V" } : Jvm.MethodName)) ∈ lw_all := lw_g (lw_at lw_m1 60 rfl) rfl
theorem q217 : (Jvm.Cond.instanceMethod ({ cls := "WebHost$Device", name := "<init>", desc := "()V" } : Jvm.MethodName)) ∈ lw_all := lw_g (lw_at lw_m1 61 rfl) rfl
theorem q218 : (Jvm.Cond.code ({ cls := "WebHost$Device", name := "<init>", desc := "()V" } : Jvm.MethodName) prog_4_method_1_code (2 : Nat) (Option.none : Option Jvm.ClassFile.FieldType)) ∈ lw_all := lw_g (lw_at lw_m1 62 rfl) rfl
theorem q219 : (Jvm.Cond.methodLink "WebHost$Device" (3 : Nat) ({ cls := "java/lang/Object", name := "<init>", desc := "()V" } : Jvm.MethodName)) ∈ lw_all := lw_g (lw_at lw_m1 63 rfl) rfl
theorem q220 : (Jvm.Cond.classLink "WebHost$Device" (9 : Nat) "[B") ∈ lw_all := lw_g (lw_at lw_m1 64 rfl) rfl
theorem q221 : (Jvm.Cond.arrayOver (Jvm.ClassFile.FieldType.array Jvm.ClassFile.FieldType.byte)) ∈ lw_tbl := lw_at lw_m1 65 rfl
theorem q222 : (Jvm.Cond.fieldLink "WebHost$Device" (11 : Nat) "WebHost$Device" "ring" "[[B") ∈ lw_all := lw_g (lw_at lw_m1 66 rfl) rfl
theorem q223 : (Jvm.Cond.fieldLink "WebHost$Device" (17 : Nat) "WebHost$Device" "lengths" "[I") ∈ lw_all := lw_g (lw_at lw_m1 67 rfl) rfl
theorem q224 : (Jvm.Cond.fieldLink "WebHost$Device" (21 : Nat) "WebHost$Device" "times" "[I") ∈ lw_all := lw_g (lw_at lw_m1 68 rfl) rfl
theorem q225 : (Jvm.Cond.fieldLink "WebHost$Device" (27 : Nat) "WebHost$Device" "sent" "I") ∈ lw_all := lw_g (lw_at lw_m1 69 rfl) rfl
theorem q226 : (Jvm.Cond.fieldLink "WebHost" (177 : Nat) "WebHost$Device" "sent" "I") ∈ lw_all := lw_g (lw_at lw_m1 70 rfl) rfl
theorem q227 : (Jvm.Cond.fieldLink "WebHost$Device" (31 : Nat) "WebHost$Device" "now" "I") ∈ lw_all := lw_g (lw_at lw_m1 71 rfl) rfl
theorem q228 : (Jvm.Cond.fieldLink "WebHost$Wire" (41 : Nat) "WebHost$Device" "now" "I") ∈ lw_all := lw_g (lw_at lw_m1 72 rfl) rfl
theorem q229 : (Jvm.Cond.fieldLink "WebHost$Hops" (60 : Nat) "WebHost$Device" "now" "I") ∈ lw_all := lw_g (lw_at lw_m1 73 rfl) rfl
theorem q230 : (Jvm.Cond.fieldLink "WebHost" (139 : Nat) "WebHost$Device" "now" "I") ∈ lw_all := lw_g (lw_at lw_m1 74 rfl) rfl
theorem q231 : (Jvm.Cond.fieldLink "WebHost$Device" (24 : Nat) "WebHost$Device" "own" "[B") ∈ lw_all := lw_g (lw_at lw_m1 75 rfl) rfl
theorem q232 : (Jvm.Cond.fieldLink "WebHost$Hops" (118 : Nat) "WebHost$Device" "own" "[B") ∈ lw_all := lw_g (lw_at lw_m1 76 rfl) rfl
theorem q233 : (Jvm.Cond.laysFinal "WebHost$Device" "WebHost$Device" "ring" "[[B") ∈ lw_all := lw_g (lw_at lw_m1 77 rfl) rfl
theorem q234 : (Jvm.Cond.soleField "WebHost$Device" "ring") ∈ lw_all := lw_g (lw_at lw_m1 78 rfl) rfl
theorem q235 : (Jvm.Cond.laysFinal "WebHost$Device" "WebHost$Device" "lengths" "[I") ∈ lw_all := lw_g (lw_at lw_m1 79 rfl) rfl
theorem q236 : (Jvm.Cond.soleField "WebHost$Device" "lengths") ∈ lw_all := lw_g (lw_at lw_m1 80 rfl) rfl
theorem q237 : (Jvm.Cond.laysFinal "WebHost$Device" "WebHost$Device" "times" "[I") ∈ lw_all := lw_g (lw_at lw_m1 81 rfl) rfl
theorem q238 : (Jvm.Cond.soleField "WebHost$Device" "times") ∈ lw_all := lw_g (lw_at lw_m1 82 rfl) rfl
theorem q239 : (Jvm.Cond.lays "WebHost$Device" "WebHost$Device" "sent" "I") ∈ lw_all := lw_g (lw_at lw_m1 83 rfl) rfl
theorem q240 : (Jvm.Cond.soleField "WebHost$Device" "sent") ∈ lw_all := lw_g (lw_at lw_m1 84 rfl) rfl
theorem q241 : (Jvm.Cond.lays "WebHost$Device" "WebHost$Device" "now" "I") ∈ lw_all := lw_g (lw_at lw_m1 85 rfl) rfl
theorem q242 : (Jvm.Cond.soleField "WebHost$Device" "now") ∈ lw_all := lw_g (lw_at lw_m1 86 rfl) rfl
theorem q243 : (Jvm.Cond.laysFinal "WebHost$Device" "WebHost$Device" "own" "[B") ∈ lw_all := lw_g (lw_at lw_m1 87 rfl) rfl
theorem q244 : (Jvm.Cond.soleField "WebHost$Device" "own") ∈ lw_all := lw_g (lw_at lw_m1 88 rfl) rfl
theorem q245 : (Jvm.Cond.superclass "WebHost$Device" "java/lang/Object") ∈ lw_all := lw_g (lw_at lw_m1 89 rfl) rfl
theorem q246 : (Jvm.Cond.arrayClass Jvm.ClassFile.FieldType.int) ∈ lw_all := lw_g (lw_at lw_m1 90 rfl) rfl
theorem q247 : (Jvm.Cond.classLink "WebHost" (28 : Nat) "WebHost$Hops") ∈ lw_all := lw_g (lw_at lw_m1 91 rfl) rfl
theorem q248 : (Jvm.Cond.instantiable "WebHost$Hops" (13 : Nat)) ∈ lw_all := lw_g (lw_at lw_m1 92 rfl) rfl
theorem q249 : (Jvm.Cond.methodLink "WebHost" (30 : Nat) ({ cls := "WebHost$Hops", name := "<init>", desc := "(LWebHost$Device;)V" } : Jvm.MethodName)) ∈ lw_all := lw_g (lw_at lw_m1 93 rfl) rfl
theorem q250 : (Jvm.Cond.instanceMethod ({ cls := "WebHost$Hops", name := "<init>", desc := "(LWebHost$Device;)V" } : Jvm.MethodName)) ∈ lw_all := lw_g (lw_at lw_m1 94 rfl) rfl
theorem q251 : (Jvm.Cond.code ({ cls := "WebHost$Hops", name := "<init>", desc := "(LWebHost$Device;)V" } : Jvm.MethodName) prog_6_method_1_code (3 : Nat) (Option.none : Option Jvm.ClassFile.FieldType)) ∈ lw_all := lw_g (lw_at lw_m1 95 rfl) rfl
theorem q252 : (Jvm.Cond.methodLink "WebHost$Hops" (1 : Nat) ({ cls := "java/lang/Object", name := "<init>", desc := "()V" } : Jvm.MethodName)) ∈ lw_all := lw_g (lw_at lw_m1 96 rfl) rfl
theorem q253 : (Jvm.Cond.classLink "WebHost$Hops" (20 : Nat) "WebHost$Waiting") ∈ lw_all := lw_g (lw_at lw_m1 97 rfl) rfl
theorem q254 : (Jvm.Cond.arrayOver (Jvm.ClassFile.FieldType.object "WebHost$Waiting")) ∈ lw_tbl := lw_at lw_m1 98 rfl
theorem q255 : (Jvm.Cond.instantiable "WebHost$Waiting" (5 : Nat)) ∈ lw_all := lw_g (lw_at lw_m1 99 rfl) rfl
theorem q256 : (Jvm.Cond.methodLinkNest "WebHost$Hops" (39 : Nat) ({ cls := "WebHost$Waiting", name := "<init>", desc := "()V" } : Jvm.MethodName) "WebHost") ∈ lw_tbl := lw_at lw_m1 100 rfl
theorem q257 : (Jvm.Cond.instanceMethod ({ cls := "WebHost$Waiting", name := "<init>", desc := "()V" } : Jvm.MethodName)) ∈ lw_all := lw_g (lw_at lw_m1 101 rfl) rfl
theorem q258 : (Jvm.Cond.code ({ cls := "WebHost$Waiting", name := "<init>", desc := "()V" } : Jvm.MethodName) prog_14_method_1_code (1 : Nat) (Option.none : Option Jvm.ClassFile.FieldType)) ∈ lw_all := lw_g (lw_at lw_m1 102 rfl) rfl
theorem q259 : (Jvm.Cond.methodLink "WebHost$Waiting" (3 : Nat) ({ cls := "java/lang/Object", name := "<init>", desc := "()V" } : Jvm.MethodName)) ∈ lw_all := lw_g (lw_at lw_m1 103 rfl) rfl
theorem q260 : (Jvm.Cond.fieldLink "WebHost$Hops" (96 : Nat) "WebHost$Waiting" "hop" "I") ∈ lw_all := lw_g (lw_at lw_m1 104 rfl) rfl
theorem q261 : (Jvm.Cond.fieldLink "WebHost$Waiting" (15 : Nat) "WebHost$Waiting" "since" "I") ∈ lw_all := lw_g (lw_at lw_m1 105 rfl) rfl
theorem q262 : (Jvm.Cond.fieldLink "WebHost$Hops" (125 : Nat) "WebHost$Waiting" "since" "I") ∈ lw_all := lw_g (lw_at lw_m1 106 rfl) rfl
theorem q263 : (Jvm.Cond.fieldLink "WebHost$Waiting" (19 : Nat) "WebHost$Waiting" "asks" "I") ∈ lw_all := lw_g (lw_at lw_m1 107 rfl) rfl
theorem q264 : (Jvm.Cond.fieldLink "WebHost$Hops" (128 : Nat) "WebHost$Waiting" "asks" "I") ∈ lw_all := lw_g (lw_at lw_m1 108 rfl) rfl
theorem q265 : (Jvm.Cond.fieldLink "WebHost$Waiting" (9 : Nat) "WebHost$Waiting" "packet" "[B") ∈ lw_all := lw_g (lw_at lw_m1 109 rfl) rfl
theorem q266 : (Jvm.Cond.fieldLink "WebHost$Hops" (103 : Nat) "WebHost$Waiting" "packet" "[B") ∈ lw_all := lw_g (lw_at lw_m1 110 rfl) rfl
theorem q267 : (Jvm.Cond.fieldLink "WebHost$Hops" (104 : Nat) "WebHost$Waiting" "length" "I") ∈ lw_all := lw_g (lw_at lw_m1 111 rfl) rfl
theorem q268 : (Jvm.Cond.lays "WebHost$Waiting" "WebHost$Waiting" "hop" "I") ∈ lw_all := lw_g (lw_at lw_m1 112 rfl) rfl
theorem q269 : (Jvm.Cond.soleField "WebHost$Waiting" "hop") ∈ lw_all := lw_g (lw_at lw_m1 113 rfl) rfl
theorem q270 : (Jvm.Cond.lays "WebHost$Waiting" "WebHost$Waiting" "since" "I") ∈ lw_all := lw_g (lw_at lw_m1 114 rfl) rfl
theorem q271 : (Jvm.Cond.soleField "WebHost$Waiting" "since") ∈ lw_all := lw_g (lw_at lw_m1 115 rfl) rfl
theorem q272 : (Jvm.Cond.lays "WebHost$Waiting" "WebHost$Waiting" "asks" "I") ∈ lw_all := lw_g (lw_at lw_m1 116 rfl) rfl
theorem q273 : (Jvm.Cond.soleField "WebHost$Waiting" "asks") ∈ lw_all := lw_g (lw_at lw_m1 117 rfl) rfl
theorem q274 : (Jvm.Cond.laysFinal "WebHost$Waiting" "WebHost$Waiting" "packet" "[B") ∈ lw_all := lw_g (lw_at lw_m1 118 rfl) rfl
theorem q275 : (Jvm.Cond.soleField "WebHost$Waiting" "packet") ∈ lw_all := lw_g (lw_at lw_m1 119 rfl) rfl
theorem q276 : (Jvm.Cond.lays "WebHost$Waiting" "WebHost$Waiting" "length" "I") ∈ lw_all := lw_g (lw_at lw_m1 120 rfl) rfl
theorem q277 : (Jvm.Cond.soleField "WebHost$Waiting" "length") ∈ lw_all := lw_g (lw_at lw_m1 121 rfl) rfl
theorem q278 : (Jvm.Cond.superclass "WebHost$Waiting" "java/lang/Object") ∈ lw_all := lw_g (lw_at lw_m1 122 rfl) rfl
theorem q279 : (Jvm.Cond.fieldLink "WebHost$Hops" (35 : Nat) "WebHost$Hops" "device" "LWebHost$Device;") ∈ lw_all := lw_g (lw_at lw_m1 123 rfl) rfl
theorem q280 : (Jvm.Cond.fieldLink "WebHost$Hops" (40 : Nat) "WebHost$Hops" "ip" "I") ∈ lw_all := lw_g (lw_at lw_m1 124 rfl) rfl
theorem q281 : (Jvm.Cond.fieldLink "WebHost$Hops" (44 : Nat) "WebHost$Hops" "mask" "I") ∈ lw_all := lw_g (lw_at lw_m1 125 rfl) rfl
theorem q282 : (Jvm.Cond.fieldLink "WebHost$Hops" (47 : Nat) "WebHost$Hops" "gateway" "I") ∈ lw_all := lw_g (lw_at lw_m1 126 rfl) rfl
theorem q283 : (Jvm.Cond.fieldLink "WebHost$Hops" (9 : Nat) "WebHost$Hops" "numbers" "[I") ∈ lw_all := lw_g (lw_at lw_m1 127 rfl) rfl
theorem q284 : (Jvm.Cond.fieldLink "WebHost$Hops" (13 : Nat) "WebHost$Hops" "times" "[I") ∈ lw_all := lw_g (lw_at lw_m1 128 rfl) rfl
theorem q285 : (Jvm.Cond.fieldLink "WebHost$Hops" (16 : Nat) "WebHost$Hops" "addresses" "[B") ∈ lw_all := lw_g (lw_at lw_m1 129 rfl) rfl
theorem q286 : (Jvm.Cond.fieldLink "WebHost$Hops" (50 : Nat) "WebHost$Hops" "size" "I") ∈ lw_all := lw_g (lw_at lw_m1 130 rfl) rfl
theorem q287 : (Jvm.Cond.fieldLink "WebHost$Hops" (22 : Nat) "WebHost$Hops" "row" "[LWebHost$Waiting;") ∈ lw_all := lw_g (lw_at lw_m1 131 rfl) rfl
theorem q288 : (Jvm.Cond.fieldLink "WebHost$Hops" (53 : Nat) "WebHost$Hops" "waiting" "I") ∈ lw_all := lw_g (lw_at lw_m1 132 rfl) rfl
theorem q289 : (Jvm.Cond.fieldLink "WebHost" (345 : Nat) "WebHost$Hops" "waiting" "I") ∈ lw_all := lw_g (lw_at lw_m1 133 rfl) rfl
theorem q290 : (Jvm.Cond.fieldLink "WebHost$Hops" (26 : Nat) "WebHost$Hops" "packet" "[B") ∈ lw_all := lw_g (lw_at lw_m1 134 rfl) rfl
theorem q291 : (Jvm.Cond.fieldLink "WebHost$Hops" (29 : Nat) "WebHost$Hops" "all" "[B") ∈ lw_all := lw_g (lw_at lw_m1 135 rfl) rfl
theorem q292 : (Jvm.Cond.fieldLink "WebHost$Hops" (32 : Nat) "WebHost$Hops" "none" "[B") ∈ lw_all := lw_g (lw_at lw_m1 136 rfl) rfl
theorem q293 : (Jvm.Cond.laysFinal "WebHost$Hops" "WebHost$Hops" "device" "LWebHost$Device;") ∈ lw_all := lw_g (lw_at lw_m1 137 rfl) rfl
theorem q294 : (Jvm.Cond.soleField "WebHost$Hops" "device") ∈ lw_all := lw_g (lw_at lw_m1 138 rfl) rfl
theorem q295 : (Jvm.Cond.lays "WebHost$Hops" "WebHost$Hops" "ip" "I") ∈ lw_all := lw_g (lw_at lw_m1 139 rfl) rfl
theorem q296 : (Jvm.Cond.soleField "WebHost$Hops" "ip") ∈ lw_all := lw_g (lw_at lw_m1 140 rfl) rfl
theorem q297 : (Jvm.Cond.lays "WebHost$Hops" "WebHost$Hops" "mask" "I") ∈ lw_all := lw_g (lw_at lw_m1 141 rfl) rfl
theorem q298 : (Jvm.Cond.soleField "WebHost$Hops" "mask") ∈ lw_all := lw_g (lw_at lw_m1 142 rfl) rfl
theorem q299 : (Jvm.Cond.lays "WebHost$Hops" "WebHost$Hops" "gateway" "I") ∈ lw_all := lw_g (lw_at lw_m1 143 rfl) rfl
theorem q300 : (Jvm.Cond.soleField "WebHost$Hops" "gateway") ∈ lw_all := lw_g (lw_at lw_m1 144 rfl) rfl
theorem q301 : (Jvm.Cond.laysFinal "WebHost$Hops" "WebHost$Hops" "numbers" "[I") ∈ lw_all := lw_g (lw_at lw_m1 145 rfl) rfl
theorem q302 : (Jvm.Cond.soleField "WebHost$Hops" "numbers") ∈ lw_all := lw_g (lw_at lw_m1 146 rfl) rfl
theorem q303 : (Jvm.Cond.laysFinal "WebHost$Hops" "WebHost$Hops" "times" "[I") ∈ lw_all := lw_g (lw_at lw_m1 147 rfl) rfl
theorem q304 : (Jvm.Cond.soleField "WebHost$Hops" "times") ∈ lw_all := lw_g (lw_at lw_m1 148 rfl) rfl
theorem q305 : (Jvm.Cond.laysFinal "WebHost$Hops" "WebHost$Hops" "addresses" "[B") ∈ lw_all := lw_g (lw_at lw_m1 149 rfl) rfl
theorem q306 : (Jvm.Cond.soleField "WebHost$Hops" "addresses") ∈ lw_all := lw_g (lw_at lw_m1 150 rfl) rfl
theorem q307 : (Jvm.Cond.lays "WebHost$Hops" "WebHost$Hops" "size" "I") ∈ lw_all := lw_g (lw_at lw_m1 151 rfl) rfl
theorem q308 : (Jvm.Cond.soleField "WebHost$Hops" "size") ∈ lw_all := lw_g (lw_at lw_m1 152 rfl) rfl
theorem q309 : (Jvm.Cond.laysFinal "WebHost$Hops" "WebHost$Hops" "row" "[LWebHost$Waiting;") ∈ lw_all := lw_g (lw_at lw_m1 153 rfl) rfl
theorem q310 : (Jvm.Cond.soleField "WebHost$Hops" "row") ∈ lw_all := lw_g (lw_at lw_m1 154 rfl) rfl
theorem q311 : (Jvm.Cond.lays "WebHost$Hops" "WebHost$Hops" "waiting" "I") ∈ lw_all := lw_g (lw_at lw_m1 155 rfl) rfl
theorem q312 : (Jvm.Cond.soleField "WebHost$Hops" "waiting") ∈ lw_all := lw_g (lw_at lw_m1 156 rfl) rfl
theorem q313 : (Jvm.Cond.laysFinal "WebHost$Hops" "WebHost$Hops" "packet" "[B") ∈ lw_all := lw_g (lw_at lw_m1 157 rfl) rfl
theorem q314 : (Jvm.Cond.soleField "WebHost$Hops" "packet") ∈ lw_all := lw_g (lw_at lw_m1 158 rfl) rfl
theorem q315 : (Jvm.Cond.laysFinal "WebHost$Hops" "WebHost$Hops" "all" "[B") ∈ lw_all := lw_g (lw_at lw_m1 159 rfl) rfl
theorem q316 : (Jvm.Cond.soleField "WebHost$Hops" "all") ∈ lw_all := lw_g (lw_at lw_m1 160 rfl) rfl
theorem q317 : (Jvm.Cond.laysFinal "WebHost$Hops" "WebHost$Hops" "none" "[B") ∈ lw_all := lw_g (lw_at lw_m1 161 rfl) rfl
theorem q318 : (Jvm.Cond.soleField "WebHost$Hops" "none") ∈ lw_all := lw_g (lw_at lw_m1 162 rfl) rfl
theorem q319 : (Jvm.Cond.superclass "WebHost$Hops" "java/lang/Object") ∈ lw_all := lw_g (lw_at lw_m1 163 rfl) rfl
theorem q320 : (Jvm.Cond.classLink "WebHost" (37 : Nat) "WebHost$Packets") ∈ lw_all := lw_g (lw_at lw_m1 164 rfl) rfl
theorem q321 : (Jvm.Cond.instantiable "WebHost$Packets" (4 : Nat)) ∈ lw_all := lw_g (lw_at lw_m1 165 rfl) rfl
theorem q322 : (Jvm.Cond.methodLink "WebHost" (39 : Nat) ({ cls := "WebHost$Packets", name := "<init>", desc := "(LWebHost$Hops;)V" } : Jvm.MethodName)) ∈ lw_all := lw_g (lw_at lw_m1 166 rfl) rfl
theorem q323 : (Jvm.Cond.instanceMethod ({ cls := "WebHost$Packets", name := "<init>", desc := "(LWebHost$Hops;)V" } : Jvm.MethodName)) ∈ lw_all := lw_g (lw_at lw_m1 167 rfl) rfl
theorem q324 : (Jvm.Cond.code ({ cls := "WebHost$Packets", name := "<init>", desc := "(LWebHost$Hops;)V" } : Jvm.MethodName) prog_10_method_1_code (2 : Nat) (Option.none : Option Jvm.ClassFile.FieldType)) ∈ lw_all := lw_g (lw_at lw_m1 168 rfl) rfl
theorem q325 : (Jvm.Cond.methodLink "WebHost$Packets" (3 : Nat) ({ cls := "java/lang/Object", name := "<init>", desc := "()V" } : Jvm.MethodName)) ∈ lw_all := lw_g (lw_at lw_m1 169 rfl) rfl
theorem q326 : (Jvm.Cond.fieldLink "WebHost$Packets" (15 : Nat) "WebHost$Packets" "hops" "LWebHost$Hops;") ∈ lw_all := lw_g (lw_at lw_m1 170 rfl) rfl
theorem q327 : (Jvm.Cond.fieldLink "WebHost$Packets" (19 : Nat) "WebHost$Packets" "ip" "I") ∈ lw_all := lw_g (lw_at lw_m1 171 rfl) rfl
theorem q328 : (Jvm.Cond.fieldLink "WebHost$Packets" (23 : Nat) "WebHost$Packets" "identification" "I") ∈ lw_all := lw_g (lw_at lw_m1 172 rfl) rfl
theorem q329 : (Jvm.Cond.fieldLink "WebHost$Packets" (9 : Nat) "WebHost$Packets" "packet" "[B") ∈ lw_all := lw_g (lw_at lw_m1 173 rfl) rfl
theorem q330 : (Jvm.Cond.fieldLink "WebHost$Wire" (46 : Nat) "WebHost$Packets" "packet" "[B") ∈ lw_all := lw_g (lw_at lw_m1 174 rfl) rfl
theorem q331 : (Jvm.Cond.fieldLink "WebHost" (235 : Nat) "WebHost$Packets" "packet" "[B") ∈ lw_all := lw_g (lw_at lw_m1 175 rfl) rfl
theorem q332 : (Jvm.Cond.laysFinal "WebHost$Packets" "WebHost$Packets" "hops" "LWebHost$Hops;") ∈ lw_all := lw_g (lw_at lw_m1 176 rfl) rfl
theorem q333 : (Jvm.Cond.soleField "WebHost$Packets" "hops") ∈ lw_all := lw_g (lw_at lw_m1 177 rfl) rfl
theorem q334 : (Jvm.Cond.lays "WebHost$Packets" "WebHost$Packets" "ip" "I") ∈ lw_all := lw_g (lw_at lw_m1 178 rfl) rfl
theorem q335 : (Jvm.Cond.soleField "WebHost$Packets" "ip") ∈ lw_all := lw_g (lw_at lw_m1 179 rfl) rfl
theorem q336 : (Jvm.Cond.lays "WebHost$Packets" "WebHost$Packets" "identification" "I") ∈ lw_all := lw_g (lw_at lw_m1 180 rfl) rfl
theorem q337 : (Jvm.Cond.soleField "WebHost$Packets" "identification") ∈ lw_all := lw_g (lw_at lw_m1 181 rfl) rfl
theorem q338 : (Jvm.Cond.laysFinal "WebHost$Packets" "WebHost$Packets" "packet" "[B") ∈ lw_all := lw_g (lw_at lw_m1 182 rfl) rfl
theorem q339 : (Jvm.Cond.soleField "WebHost$Packets" "packet") ∈ lw_all := lw_g (lw_at lw_m1 183 rfl) rfl
theorem q340 : (Jvm.Cond.superclass "WebHost$Packets" "java/lang/Object") ∈ lw_all := lw_g (lw_at lw_m1 184 rfl) rfl
theorem q341 : (Jvm.Cond.classLink "WebHost" (46 : Nat) "WebHost$Fragments") ∈ lw_all := lw_g (lw_at lw_m1 185 rfl) rfl
theorem q342 : (Jvm.Cond.instantiable "WebHost$Fragments" (3 : Nat)) ∈ lw_all := lw_g (lw_at lw_m1 186 rfl) rfl
theorem q343 : (Jvm.Cond.methodLink "WebHost" (48 : Nat) ({ cls := "WebHost$Fragments", name := "<init>", desc := "()V" } : Jvm.MethodName)) ∈ lw_all := lw_g (lw_at lw_m1 187 rfl) rfl
theorem q344 : (Jvm.Cond.instanceMethod ({ cls := "WebHost$Fragments", name := "<init>", desc := "()V" } : Jvm.MethodName)) ∈ lw_all := lw_g (lw_at lw_m1 188 rfl) rfl
theorem q345 : (Jvm.Cond.code ({ cls := "WebHost$Fragments", name := "<init>", desc := "()V" } : Jvm.MethodName) prog_5_method_1_code (2 : Nat) (Option.none : Option Jvm.ClassFile.FieldType)) ∈ lw_all := lw_g (lw_at lw_m1 189 rfl) rfl
theorem q346 : (Jvm.Cond.methodLink "WebHost$Fragments" (1 : Nat) ({ cls := "java/lang/Object", name := "<init>", desc := "()V" } : Jvm.MethodName)) ∈ lw_all := lw_g (lw_at lw_m1 190 rfl) rfl
theorem q347 : (Jvm.Cond.classLink "WebHost$Fragments" (9 : Nat) "WebHost$Making") ∈ lw_all := lw_g (lw_at lw_m1 191 rfl) rfl
theorem q348 : (Jvm.Cond.arrayOver (Jvm.ClassFile.FieldType.object "WebHost$Making")) ∈ lw_tbl := lw_at lw_m1 192 rfl
theorem q349 : (Jvm.Cond.instantiable "WebHost$Making" (8 : Nat)) ∈ lw_all := lw_g (lw_at lw_m1 193 rfl) rfl
theorem q350 : (Jvm.Cond.methodLinkNest "WebHost$Fragments" (15 : Nat) ({ cls := "WebHost$Making", name := "<init>", desc := "()V" } : Jvm.MethodName) "WebHost") ∈ lw_tbl := lw_at lw_m1 194 rfl
theorem q351 : (Jvm.Cond.instanceMethod ({ cls := "WebHost$Making", name := "<init>", desc := "()V" } : Jvm.MethodName)) ∈ lw_all := lw_g (lw_at lw_m1 195 rfl) rfl
theorem q352 : (Jvm.Cond.code ({ cls := "WebHost$Making", name := "<init>", desc := "()V" } : Jvm.MethodName) prog_8_method_1_code (1 : Nat) (Option.none : Option Jvm.ClassFile.FieldType)) ∈ lw_all := lw_g (lw_at lw_m1 196 rfl) rfl
theorem q353 : (Jvm.Cond.methodLink "WebHost$Making" (1 : Nat) ({ cls := "java/lang/Object", name := "<init>", desc := "()V" } : Jvm.MethodName)) ∈ lw_all := lw_g (lw_at lw_m1 197 rfl) rfl
theorem q354 : (Jvm.Cond.fieldLink "WebHost$Making" (17 : Nat) "WebHost$Making" "from" "I") ∈ lw_all := lw_g (lw_at lw_m1 198 rfl) rfl
theorem q355 : (Jvm.Cond.fieldLink "WebHost$Fragments" (23 : Nat) "WebHost$Making" "from" "I") ∈ lw_all := lw_g (lw_at lw_m1 199 rfl) rfl
theorem q356 : (Jvm.Cond.fieldLink "WebHost$Making" (21 : Nat) "WebHost$Making" "identification" "I") ∈ lw_all := lw_g (lw_at lw_m1 200 rfl) rfl
theorem q357 : (Jvm.Cond.fieldLink "WebHost$Fragments" (26 : Nat) "WebHost$Making" "identification" "I") ∈ lw_all := lw_g (lw_at lw_m1 201 rfl) rfl
theorem q358 : (Jvm.Cond.fieldLink "WebHost$Making" (24 : Nat) "WebHost$Making" "protocol" "I") ∈ lw_all := lw_g (lw_at lw_m1 202 rfl) rfl
theorem q359 : (Jvm.Cond.fieldLink "WebHost$Fragments" (29 : Nat) "WebHost$Making" "protocol" "I") ∈ lw_all := lw_g (lw_at lw_m1 203 rfl) rfl
theorem q360 : (Jvm.Cond.fieldLink "WebHost$Making" (27 : Nat) "WebHost$Making" "since" "I") ∈ lw_all := lw_g (lw_at lw_m1 204 rfl) rfl
theorem q361 : (Jvm.Cond.fieldLink "WebHost$Fragments" (55 : Nat) "WebHost$Making" "since" "I") ∈ lw_all := lw_g (lw_at lw_m1 205 rfl) rfl
theorem q362 : (Jvm.Cond.fieldLink "WebHost$Making" (9 : Nat) "WebHost$Making" "bytes" "[B") ∈ lw_all := lw_g (lw_at lw_m1 206 rfl) rfl
theorem q363 : (Jvm.Cond.fieldLink "WebHost" (219 : Nat) "WebHost$Making" "bytes" "[B") ∈ lw_all := lw_g (lw_at lw_m1 207 rfl) rfl
theorem q364 : (Jvm.Cond.fieldLink "WebHost$Making" (13 : Nat) "WebHost$Making" "there" "[Z") ∈ lw_all := lw_g (lw_at lw_m1 208 rfl) rfl
theorem q365 : (Jvm.Cond.fieldLink "WebHost$Making" (30 : Nat) "WebHost$Making" "reach" "I") ∈ lw_all := lw_g (lw_at lw_m1 209 rfl) rfl
theorem q366 : (Jvm.Cond.fieldLink "WebHost$Making" (33 : Nat) "WebHost$Making" "end" "I") ∈ lw_all := lw_g (lw_at lw_m1 210 rfl) rfl
theorem q367 : (Jvm.Cond.fieldLink "WebHost" (222 : Nat) "WebHost$Making" "end" "I") ∈ lw_all := lw_g (lw_at lw_m1 211 rfl) rfl
theorem q368 : (Jvm.Cond.lays "WebHost$Making" "WebHost$Making" "from" "I") ∈ lw_all := lw_g (lw_at lw_m1 212 rfl) rfl
theorem q369 : (Jvm.Cond.soleField "WebHost$Making" "from") ∈ lw_all := lw_g (lw_at lw_m1 213 rfl) rfl
theorem q370 : (Jvm.Cond.lays "WebHost$Making" "WebHost$Making" "identification" "I") ∈ lw_all := lw_g (lw_at lw_m1 214 rfl) rfl
theorem q371 : (Jvm.Cond.soleField "WebHost$Making" "identification") ∈ lw_all := lw_g (lw_at lw_m1 215 rfl) rfl
theorem q372 : (Jvm.Cond.lays "WebHost$Making" "WebHost$Making" "protocol" "I") ∈ lw_all := lw_g (lw_at lw_m1 216 rfl) rfl
theorem q373 : (Jvm.Cond.soleField "WebHost$Making" "protocol") ∈ lw_all := lw_g (lw_at lw_m1 217 rfl) rfl
theorem q374 : (Jvm.Cond.lays "WebHost$Making" "WebHost$Making" "since" "I") ∈ lw_all := lw_g (lw_at lw_m1 218 rfl) rfl
theorem q375 : (Jvm.Cond.soleField "WebHost$Making" "since") ∈ lw_all := lw_g (lw_at lw_m1 219 rfl) rfl
theorem q376 : (Jvm.Cond.laysFinal "WebHost$Making" "WebHost$Making" "bytes" "[B") ∈ lw_all := lw_g (lw_at lw_m1 220 rfl) rfl
theorem q377 : (Jvm.Cond.soleField "WebHost$Making" "bytes") ∈ lw_all := lw_g (lw_at lw_m1 221 rfl) rfl
theorem q378 : (Jvm.Cond.laysFinal "WebHost$Making" "WebHost$Making" "there" "[Z") ∈ lw_all := lw_g (lw_at lw_m1 222 rfl) rfl
theorem q379 : (Jvm.Cond.soleField "WebHost$Making" "there") ∈ lw_all := lw_g (lw_at lw_m1 223 rfl) rfl
theorem q380 : (Jvm.Cond.lays "WebHost$Making" "WebHost$Making" "reach" "I") ∈ lw_all := lw_g (lw_at lw_m1 224 rfl) rfl
theorem q381 : (Jvm.Cond.soleField "WebHost$Making" "reach") ∈ lw_all := lw_g (lw_at lw_m1 225 rfl) rfl
theorem q382 : (Jvm.Cond.lays "WebHost$Making" "WebHost$Making" "end" "I") ∈ lw_all := lw_g (lw_at lw_m1 226 rfl) rfl
theorem q383 : (Jvm.Cond.soleField "WebHost$Making" "end") ∈ lw_all := lw_g (lw_at lw_m1 227 rfl) rfl
theorem q384 : (Jvm.Cond.superclass "WebHost$Making" "java/lang/Object") ∈ lw_all := lw_g (lw_at lw_m1 228 rfl) rfl
theorem q385 : (Jvm.Cond.arrayClass Jvm.ClassFile.FieldType.boolean) ∈ lw_all := lw_g (lw_at lw_m1 229 rfl) rfl
theorem q386 : (Jvm.Cond.fieldLink "WebHost$Fragments" (11 : Nat) "WebHost$Fragments" "row" "[LWebHost$Making;") ∈ lw_all := lw_g (lw_at lw_m1 230 rfl) rfl
theorem q387 : (Jvm.Cond.fieldLink "WebHost$Fragments" (16 : Nat) "WebHost$Fragments" "size" "I") ∈ lw_all := lw_g (lw_at lw_m1 231 rfl) rfl
theorem q388 : (Jvm.Cond.fieldLink "WebHost$Fragments" (20 : Nat) "WebHost$Fragments" "made" "I") ∈ lw_all := lw_g (lw_at lw_m1 232 rfl) rfl
theorem q389 : (Jvm.Cond.fieldLink "WebHost" (348 : Nat) "WebHost$Fragments" "made" "I") ∈ lw_all := lw_g (lw_at lw_m1 233 rfl) rfl
theorem q390 : (Jvm.Cond.laysFinal "WebHost$Fragments" "WebHost$Fragments" "row" "[LWebHost$Making;") ∈ lw_all := lw_g (lw_at lw_m1 234 rfl) rfl
theorem q391 : (Jvm.Cond.soleField "WebHost$Fragments" "row") ∈ lw_all := lw_g (lw_at lw_m1 235 rfl) rfl
theorem q392 : (Jvm.Cond.lays "WebHost$Fragments" "WebHost$Fragments" "size" "I") ∈ lw_all := lw_g (lw_at lw_m1 236 rfl) rfl
theorem q393 : (Jvm.Cond.soleField "WebHost$Fragments" "size") ∈ lw_all := lw_g (lw_at lw_m1 237 rfl) rfl
theorem q394 : (Jvm.Cond.lays "WebHost$Fragments" "WebHost$Fragments" "made" "I") ∈ lw_all := lw_g (lw_at lw_m1 238 rfl) rfl
theorem q395 : (Jvm.Cond.soleField "WebHost$Fragments" "made") ∈ lw_all := lw_g (lw_at lw_m1 239 rfl) rfl
theorem q396 : (Jvm.Cond.superclass "WebHost$Fragments" "java/lang/Object") ∈ lw_all := lw_g (lw_at lw_m2 0 rfl) rfl
theorem q397 : (Jvm.Cond.classLink "WebHost" (53 : Nat) "WebHost$Wire") ∈ lw_all := lw_g (lw_at lw_m2 1 rfl) rfl
theorem q398 : (Jvm.Cond.instantiable "WebHost$Wire" (9 : Nat)) ∈ lw_all := lw_g (lw_at lw_m2 2 rfl) rfl
theorem q399 : (Jvm.Cond.methodLink "WebHost" (55 : Nat) ({ cls := "WebHost$Wire", name := "<init>", desc := "(LWebHost$Packets;LWebHost$Device;)V" } : Jvm.MethodName)) ∈ lw_all := lw_g (lw_at lw_m2 3 rfl) rfl
theorem q400 : (Jvm.Cond.instanceMethod ({ cls := "WebHost$Wire", name := "<init>", desc := "(LWebHost$Packets;LWebHost$Device;)V" } : Jvm.MethodName)) ∈ lw_all := lw_g (lw_at lw_m2 4 rfl) rfl
theorem q401 : (Jvm.Cond.code ({ cls := "WebHost$Wire", name := "<init>", desc := "(LWebHost$Packets;LWebHost$Device;)V" } : Jvm.MethodName) prog_15_method_1_code (3 : Nat) (Option.none : Option Jvm.ClassFile.FieldType)) ∈ lw_all := lw_g (lw_at lw_m2 5 rfl) rfl
theorem q402 : (Jvm.Cond.methodLink "WebHost$Wire" (3 : Nat) ({ cls := "java/lang/Object", name := "<init>", desc := "()V" } : Jvm.MethodName)) ∈ lw_all := lw_g (lw_at lw_m2 6 rfl) rfl
theorem q403 : (Jvm.Cond.fieldLink "WebHost$Wire" (9 : Nat) "WebHost$Wire" "packets" "LWebHost$Packets;") ∈ lw_all := lw_g (lw_at lw_m2 7 rfl) rfl
theorem q404 : (Jvm.Cond.fieldLink "WebHost$Wire" (15 : Nat) "WebHost$Wire" "device" "LWebHost$Device;") ∈ lw_all := lw_g (lw_at lw_m2 8 rfl) rfl
theorem q405 : (Jvm.Cond.fieldLink "WebHost$Wire" (19 : Nat) "WebHost$Wire" "ip" "I") ∈ lw_all := lw_g (lw_at lw_m2 9 rfl) rfl
theorem q406 : (Jvm.Cond.fieldLink "WebHost$Wire" (23 : Nat) "WebHost$Wire" "resets" "I") ∈ lw_all := lw_g (lw_at lw_m2 10 rfl) rfl
theorem q407 : (Jvm.Cond.fieldLink "WebHost" (351 : Nat) "WebHost$Wire" "resets" "I") ∈ lw_all := lw_g (lw_at lw_m2 11 rfl) rfl
theorem q408 : (Jvm.Cond.fieldLink "WebHost$Connection" (326 : Nat) "WebHost$Wire" "resets" "I") ∈ lw_all := lw_g (lw_at lw_m2 12 rfl) rfl
theorem q409 : (Jvm.Cond.fieldLink "WebHost$Wire" (26 : Nat) "WebHost$Wire" "again" "I") ∈ lw_all := lw_g (lw_at lw_m2 13 rfl) rfl
theorem q410 : (Jvm.Cond.fieldLink "WebHost$Connection" (103 : Nat) "WebHost$Wire" "again" "I") ∈ lw_all := lw_g (lw_at lw_m2 14 rfl) rfl
theorem q411 : (Jvm.Cond.fieldLink "WebHost" (354 : Nat) "WebHost$Wire" "again" "I") ∈ lw_all := lw_g (lw_at lw_m2 15 rfl) rfl
theorem q412 : (Jvm.Cond.fieldLink "WebHost$Wire" (29 : Nat) "WebHost$Wire" "answers" "I") ∈ lw_all := lw_g (lw_at lw_m2 16 rfl) rfl
theorem q413 : (Jvm.Cond.fieldLink "WebHost$Connection" (258 : Nat) "WebHost$Wire" "answers" "I") ∈ lw_all := lw_g (lw_at lw_m2 17 rfl) rfl
theorem q414 : (Jvm.Cond.fieldLink "WebHost" (357 : Nat) "WebHost$Wire" "answers" "I") ∈ lw_all := lw_g (lw_at lw_m2 18 rfl) rfl
theorem q415 : (Jvm.Cond.fieldLink "WebHost$Wire" (32 : Nat) "WebHost$Wire" "begun" "I") ∈ lw_all := lw_g (lw_at lw_m2 19 rfl) rfl
theorem q416 : (Jvm.Cond.fieldLink "WebHost" (270 : Nat) "WebHost$Wire" "begun" "I") ∈ lw_all := lw_g (lw_at lw_m2 20 rfl) rfl
theorem q417 : (Jvm.Cond.fieldLink "WebHost$Wire" (35 : Nat) "WebHost$Wire" "acknowledged" "I") ∈ lw_all := lw_g (lw_at lw_m2 21 rfl) rfl
theorem q418 : (Jvm.Cond.fieldLink "WebHost$Connection" (267 : Nat) "WebHost$Wire" "acknowledged" "I") ∈ lw_all := lw_g (lw_at lw_m2 22 rfl) rfl
theorem q419 : (Jvm.Cond.fieldLink "WebHost" (360 : Nat) "WebHost$Wire" "acknowledged" "I") ∈ lw_all := lw_g (lw_at lw_m2 23 rfl) rfl
theorem q420 : (Jvm.Cond.fieldLink "WebHost$Wire" (38 : Nat) "WebHost$Wire" "bytes" "I") ∈ lw_all := lw_g (lw_at lw_m2 24 rfl) rfl
theorem q421 : (Jvm.Cond.fieldLink "WebHost$Connection" (270 : Nat) "WebHost$Wire" "bytes" "I") ∈ lw_all := lw_g (lw_at lw_m2 25 rfl) rfl
theorem q422 : (Jvm.Cond.fieldLink "WebHost" (363 : Nat) "WebHost$Wire" "bytes" "I") ∈ lw_all := lw_g (lw_at lw_m2 26 rfl) rfl
theorem q423 : (Jvm.Cond.laysFinal "WebHost$Wire" "WebHost$Wire" "packets" "LWebHost$Packets;") ∈ lw_all := lw_g (lw_at lw_m2 27 rfl) rfl
theorem q424 : (Jvm.Cond.soleField "WebHost$Wire" "packets") ∈ lw_all := lw_g (lw_at lw_m2 28 rfl) rfl
theorem q425 : (Jvm.Cond.laysFinal "WebHost$Wire" "WebHost$Wire" "device" "LWebHost$Device;") ∈ lw_all := lw_g (lw_at lw_m2 29 rfl) rfl
theorem q426 : (Jvm.Cond.soleField "WebHost$Wire" "device") ∈ lw_all := lw_g (lw_at lw_m2 30 rfl) rfl
theorem q427 : (Jvm.Cond.lays "WebHost$Wire" "WebHost$Wire" "ip" "I") ∈ lw_all := lw_g (lw_at lw_m2 31 rfl) rfl
theorem q428 : (Jvm.Cond.soleField "WebHost$Wire" "ip") ∈ lw_all := lw_g (lw_at lw_m2 32 rfl) rfl
theorem q429 : (Jvm.Cond.lays "WebHost$Wire" "WebHost$Wire" "resets" "I") ∈ lw_all := lw_g (lw_at lw_m2 33 rfl) rfl
theorem q430 : (Jvm.Cond.soleField "WebHost$Wire" "resets") ∈ lw_all := lw_g (lw_at lw_m2 34 rfl) rfl
theorem q431 : (Jvm.Cond.lays "WebHost$Wire" "WebHost$Wire" "again" "I") ∈ lw_all := lw_g (lw_at lw_m2 35 rfl) rfl
theorem q432 : (Jvm.Cond.soleField "WebHost$Wire" "again") ∈ lw_all := lw_g (lw_at lw_m2 36 rfl) rfl
theorem q433 : (Jvm.Cond.lays "WebHost$Wire" "WebHost$Wire" "answers" "I") ∈ lw_all := lw_g (lw_at lw_m2 37 rfl) rfl
theorem q434 : (Jvm.Cond.soleField "WebHost$Wire" "answers") ∈ lw_all := lw_g (lw_at lw_m2 38 rfl) rfl
theorem q435 : (Jvm.Cond.lays "WebHost$Wire" "WebHost$Wire" "begun" "I") ∈ lw_all := lw_g (lw_at lw_m2 39 rfl) rfl
theorem q436 : (Jvm.Cond.soleField "WebHost$Wire" "begun") ∈ lw_all := lw_g (lw_at lw_m2 40 rfl) rfl
theorem q437 : (Jvm.Cond.lays "WebHost$Wire" "WebHost$Wire" "acknowledged" "I") ∈ lw_all := lw_g (lw_at lw_m2 41 rfl) rfl
theorem q438 : (Jvm.Cond.soleField "WebHost$Wire" "acknowledged") ∈ lw_all := lw_g (lw_at lw_m2 42 rfl) rfl
theorem q439 : (Jvm.Cond.lays "WebHost$Wire" "WebHost$Wire" "bytes" "I") ∈ lw_all := lw_g (lw_at lw_m2 43 rfl) rfl
theorem q440 : (Jvm.Cond.soleField "WebHost$Wire" "bytes") ∈ lw_all := lw_g (lw_at lw_m2 44 rfl) rfl
theorem q441 : (Jvm.Cond.superclass "WebHost$Wire" "java/lang/Object") ∈ lw_all := lw_g (lw_at lw_m2 45 rfl) rfl
theorem q442 : (Jvm.Cond.classLink "WebHost" (62 : Nat) "WebHost$Requests") ∈ lw_all := lw_g (lw_at lw_m2 46 rfl) rfl
theorem q443 : (Jvm.Cond.instantiable "WebHost$Requests" (19 : Nat)) ∈ lw_all := lw_g (lw_at lw_m2 47 rfl) rfl
theorem q444 : (Jvm.Cond.methodLink "WebHost" (64 : Nat) ({ cls := "WebHost$Requests", name := "<init>", desc := "(LWebHost$Store;)V" } : Jvm.MethodName)) ∈ lw_all := lw_g (lw_at lw_m2 48 rfl) rfl
theorem q445 : (Jvm.Cond.instanceMethod ({ cls := "WebHost$Requests", name := "<init>", desc := "(LWebHost$Store;)V" } : Jvm.MethodName)) ∈ lw_all := lw_g (lw_at lw_m2 49 rfl) rfl
theorem q446 : (Jvm.Cond.code ({ cls := "WebHost$Requests", name := "<init>", desc := "(LWebHost$Store;)V" } : Jvm.MethodName) prog_11_method_1_code (2 : Nat) (Option.none : Option Jvm.ClassFile.FieldType)) ∈ lw_all := lw_g (lw_at lw_m2 50 rfl) rfl
theorem q447 : (Jvm.Cond.methodLink "WebHost$Requests" (1 : Nat) ({ cls := "java/lang/Object", name := "<init>", desc := "()V" } : Jvm.MethodName)) ∈ lw_all := lw_g (lw_at lw_m2 51 rfl) rfl
theorem q448 : (Jvm.Cond.fieldLink "WebHost$Requests" (18 : Nat) "WebHost$Requests" "store" "LWebHost$Store;") ∈ lw_all := lw_g (lw_at lw_m2 52 rfl) rfl
theorem q449 : (Jvm.Cond.fieldLink "WebHost$Requests" (9 : Nat) "WebHost$Requests" "head" "[B") ∈ lw_all := lw_g (lw_at lw_m2 53 rfl) rfl
theorem q450 : (Jvm.Cond.fieldLink "WebHost$Requests" (37 : Nat) "WebHost$Requests" "end" "I") ∈ lw_all := lw_g (lw_at lw_m2 54 rfl) rfl
theorem q451 : (Jvm.Cond.fieldLink "WebHost$Requests" (78 : Nat) "WebHost$Requests" "methodEnd" "I") ∈ lw_all := lw_g (lw_at lw_m2 55 rfl) rfl
theorem q452 : (Jvm.Cond.fieldLink "WebHost$Requests" (81 : Nat) "WebHost$Requests" "targetEnd" "I") ∈ lw_all := lw_g (lw_at lw_m2 56 rfl) rfl
theorem q453 : (Jvm.Cond.fieldLink "WebHost$Requests" (40 : Nat) "WebHost$Requests" "isHead" "Z") ∈ lw_all := lw_g (lw_at lw_m2 57 rfl) rfl
theorem q454 : (Jvm.Cond.fieldLink "WebHost$Requests" (90 : Nat) "WebHost$Requests" "isNew" "Z") ∈ lw_all := lw_g (lw_at lw_m2 58 rfl) rfl
theorem q455 : (Jvm.Cond.fieldLink "WebHost$Requests" (115 : Nat) "WebHost$Requests" "hosts" "I") ∈ lw_all := lw_g (lw_at lw_m2 59 rfl) rfl
theorem q456 : (Jvm.Cond.fieldLink "WebHost$Requests" (144 : Nat) "WebHost$Requests" "lengths" "I") ∈ lw_all := lw_g (lw_at lw_m2 60 rfl) rfl
theorem q457 : (Jvm.Cond.fieldLink "WebHost$Requests" (150 : Nat) "WebHost$Requests" "bodyLength" "I") ∈ lw_all := lw_g (lw_at lw_m2 61 rfl) rfl
theorem q458 : (Jvm.Cond.fieldLink "WebHost$Requests" (135 : Nat) "WebHost$Requests" "marks" "I") ∈ lw_all := lw_g (lw_at lw_m2 62 rfl) rfl
theorem q459 : (Jvm.Cond.fieldLink "WebHost$Requests" (138 : Nat) "WebHost$Requests" "markAt" "I") ∈ lw_all := lw_g (lw_at lw_m2 63 rfl) rfl
theorem q460 : (Jvm.Cond.fieldLink "WebHost$Requests" (141 : Nat) "WebHost$Requests" "markEnd" "I") ∈ lw_all := lw_g (lw_at lw_m2 64 rfl) rfl
theorem q461 : (Jvm.Cond.fieldLink "WebHost$Requests" (147 : Nat) "WebHost$Requests" "isLengthRight" "Z") ∈ lw_all := lw_g (lw_at lw_m2 65 rfl) rfl
theorem q462 : (Jvm.Cond.fieldLink "WebHost$Requests" (120 : Nat) "WebHost$Requests" "hasCoding" "Z") ∈ lw_all := lw_g (lw_at lw_m2 66 rfl) rfl
theorem q463 : (Jvm.Cond.fieldLink "WebHost$Requests" (153 : Nat) "WebHost$Requests" "hasClose" "Z") ∈ lw_all := lw_g (lw_at lw_m2 67 rfl) rfl
theorem q464 : (Jvm.Cond.fieldLink "WebHost$Requests" (158 : Nat) "WebHost$Requests" "hasKeep" "Z") ∈ lw_all := lw_g (lw_at lw_m2 68 rfl) rfl
theorem q465 : (Jvm.Cond.fieldLink "WebHost$Requests" (15 : Nat) "WebHost$Requests" "path" "[B") ∈ lw_all := lw_g (lw_at lw_m2 69 rfl) rfl
theorem q466 : (Jvm.Cond.fieldLink "WebHost$Requests" (204 : Nat) "WebHost$Requests" "pathLength" "I") ∈ lw_all := lw_g (lw_at lw_m2 70 rfl) rfl
theorem q467 : (Jvm.Cond.laysFinal "WebHost$Requests" "WebHost$Requests" "store" "LWebHost$Store;") ∈ lw_all := lw_g (lw_at lw_m2 71 rfl) rfl
theorem q468 : (Jvm.Cond.soleField "WebHost$Requests" "store") ∈ lw_all := lw_g (lw_at lw_m2 72 rfl) rfl
theorem q469 : (Jvm.Cond.laysFinal "WebHost$Requests" "WebHost$Requests" "head" "[B") ∈ lw_all := lw_g (lw_at lw_m2 73 rfl) rfl
theorem q470 : (Jvm.Cond.soleField "WebHost$Requests" "head") ∈ lw_all := lw_g (lw_at lw_m2 74 rfl) rfl
theorem q471 : (Jvm.Cond.lays "WebHost$Requests" "WebHost$Requests" "end" "I") ∈ lw_all := lw_g (lw_at lw_m2 75 rfl) rfl
theorem q472 : (Jvm.Cond.soleField "WebHost$Requests" "end") ∈ lw_all := lw_g (lw_at lw_m2 76 rfl) rfl
theorem q473 : (Jvm.Cond.lays "WebHost$Requests" "WebHost$Requests" "methodEnd" "I") ∈ lw_all := lw_g (lw_at lw_m2 77 rfl) rfl
theorem q474 : (Jvm.Cond.soleField "WebHost$Requests" "methodEnd") ∈ lw_all := lw_g (lw_at lw_m2 78 rfl) rfl
theorem q475 : (Jvm.Cond.lays "WebHost$Requests" "WebHost$Requests" "targetEnd" "I") ∈ lw_all := lw_g (lw_at lw_m2 79 rfl) rfl
theorem q476 : (Jvm.Cond.soleField "WebHost$Requests" "targetEnd") ∈ lw_all := lw_g (lw_at lw_m2 80 rfl) rfl
theorem q477 : (Jvm.Cond.lays "WebHost$Requests" "WebHost$Requests" "isHead" "Z") ∈ lw_all := lw_g (lw_at lw_m2 81 rfl) rfl
theorem q478 : (Jvm.Cond.soleField "WebHost$Requests" "isHead") ∈ lw_all := lw_g (lw_at lw_m2 82 rfl) rfl
theorem q479 : (Jvm.Cond.lays "WebHost$Requests" "WebHost$Requests" "isNew" "Z") ∈ lw_all := lw_g (lw_at lw_m2 83 rfl) rfl
theorem q480 : (Jvm.Cond.soleField "WebHost$Requests" "isNew") ∈ lw_all := lw_g (lw_at lw_m2 84 rfl) rfl
theorem q481 : (Jvm.Cond.lays "WebHost$Requests" "WebHost$Requests" "hosts" "I") ∈ lw_all := lw_g (lw_at lw_m2 85 rfl) rfl
theorem q482 : (Jvm.Cond.soleField "WebHost$Requests" "hosts") ∈ lw_all := lw_g (lw_at lw_m2 86 rfl) rfl
theorem q483 : (Jvm.Cond.lays "WebHost$Requests" "WebHost$Requests" "lengths" "I") ∈ lw_all := lw_g (lw_at lw_m2 87 rfl) rfl
theorem q484 : (Jvm.Cond.soleField "WebHost$Requests" "lengths") ∈ lw_all := lw_g (lw_at lw_m2 88 rfl) rfl
theorem q485 : (Jvm.Cond.lays "WebHost$Requests" "WebHost$Requests" "bodyLength" "I") ∈ lw_all := lw_g (lw_at lw_m2 89 rfl) rfl
theorem q486 : (Jvm.Cond.soleField "WebHost$Requests" "bodyLength") ∈ lw_all := lw_g (lw_at lw_m2 90 rfl) rfl
theorem q487 : (Jvm.Cond.lays "WebHost$Requests" "WebHost$Requests" "marks" "I") ∈ lw_all := lw_g (lw_at lw_m2 91 rfl) rfl
theorem q488 : (Jvm.Cond.soleField "WebHost$Requests" "marks") ∈ lw_all := lw_g (lw_at lw_m2 92 rfl) rfl
theorem q489 : (Jvm.Cond.lays "WebHost$Requests" "WebHost$Requests" "markAt" "I") ∈ lw_all := lw_g (lw_at lw_m2 93 rfl) rfl
theorem q490 : (Jvm.Cond.soleField "WebHost$Requests" "markAt") ∈ lw_all := lw_g (lw_at lw_m2 94 rfl) rfl
theorem q491 : (Jvm.Cond.lays "WebHost$Requests" "WebHost$Requests" "markEnd" "I") ∈ lw_all := lw_g (lw_at lw_m2 95 rfl) rfl
theorem q492 : (Jvm.Cond.soleField "WebHost$Requests" "markEnd") ∈ lw_all := lw_g (lw_at lw_m2 96 rfl) rfl
theorem q493 : (Jvm.Cond.lays "WebHost$Requests" "WebHost$Requests" "isLengthRight" "Z") ∈ lw_all := lw_g (lw_at lw_m2 97 rfl) rfl
theorem q494 : (Jvm.Cond.soleField "WebHost$Requests" "isLengthRight") ∈ lw_all := lw_g (lw_at lw_m2 98 rfl) rfl
theorem q495 : (Jvm.Cond.lays "WebHost$Requests" "WebHost$Requests" "hasCoding" "Z") ∈ lw_all := lw_g (lw_at lw_m2 99 rfl) rfl
theorem q496 : (Jvm.Cond.soleField "WebHost$Requests" "hasCoding") ∈ lw_all := lw_g (lw_at lw_m2 100 rfl) rfl
theorem q497 : (Jvm.Cond.lays "WebHost$Requests" "WebHost$Requests" "hasClose" "Z") ∈ lw_all := lw_g (lw_at lw_m2 101 rfl) rfl
theorem q498 : (Jvm.Cond.soleField "WebHost$Requests" "hasClose") ∈ lw_all := lw_g (lw_at lw_m2 102 rfl) rfl
theorem q499 : (Jvm.Cond.lays "WebHost$Requests" "WebHost$Requests" "hasKeep" "Z") ∈ lw_all := lw_g (lw_at lw_m2 103 rfl) rfl
theorem q500 : (Jvm.Cond.soleField "WebHost$Requests" "hasKeep") ∈ lw_all := lw_g (lw_at lw_m2 104 rfl) rfl
theorem q501 : (Jvm.Cond.laysFinal "WebHost$Requests" "WebHost$Requests" "path" "[B") ∈ lw_all := lw_g (lw_at lw_m2 105 rfl) rfl
theorem q502 : (Jvm.Cond.soleField "WebHost$Requests" "path") ∈ lw_all := lw_g (lw_at lw_m2 106 rfl) rfl
theorem q503 : (Jvm.Cond.lays "WebHost$Requests" "WebHost$Requests" "pathLength" "I") ∈ lw_all := lw_g (lw_at lw_m2 107 rfl) rfl
theorem q504 : (Jvm.Cond.soleField "WebHost$Requests" "pathLength") ∈ lw_all := lw_g (lw_at lw_m2 108 rfl) rfl
theorem q505 : (Jvm.Cond.superclass "WebHost$Requests" "java/lang/Object") ∈ lw_all := lw_g (lw_at lw_m2 109 rfl) rfl
theorem q506 : (Jvm.Cond.classLink "WebHost" (71 : Nat) "WebHost$Connection") ∈ lw_all := lw_g (lw_at lw_m2 110 rfl) rfl
theorem q507 : (Jvm.Cond.arrayOver (Jvm.ClassFile.FieldType.object "WebHost$Connection")) ∈ lw_tbl := lw_at lw_m2 111 rfl
theorem q508 : (Jvm.Cond.classLink "WebHost" (77 : Nat) "WebHost$Segment") ∈ lw_all := lw_g (lw_at lw_m2 112 rfl) rfl
theorem q509 : (Jvm.Cond.instantiable "WebHost$Segment" (11 : Nat)) ∈ lw_all := lw_g (lw_at lw_m2 113 rfl) rfl
theorem q510 : (Jvm.Cond.methodLinkNest "WebHost" (79 : Nat) ({ cls := "WebHost$Segment", name := "<init>", desc := "()V" } : Jvm.MethodName) "WebHost") ∈ lw_tbl := lw_at lw_m2 114 rfl
theorem q511 : (Jvm.Cond.instanceMethod ({ cls := "WebHost$Segment", name := "<init>", desc := "()V" } : Jvm.MethodName)) ∈ lw_all := lw_g (lw_at lw_m2 115 rfl) rfl
theorem q512 : (Jvm.Cond.code ({ cls := "WebHost$Segment", name := "<init>", desc := "()V" } : Jvm.MethodName) prog_12_method_1_code (1 : Nat) (Option.none : Option Jvm.ClassFile.FieldType)) ∈ lw_all := lw_g (lw_at lw_m2 116 rfl) rfl
theorem q513 : (Jvm.Cond.methodLink "WebHost$Segment" (3 : Nat) ({ cls := "java/lang/Object", name := "<init>", desc := "()V" } : Jvm.MethodName)) ∈ lw_all := lw_g (lw_at lw_m2 117 rfl) rfl
theorem q514 : (Jvm.Cond.fieldLink "WebHost$Wire" (85 : Nat) "WebHost$Segment" "from" "I") ∈ lw_all := lw_g (lw_at lw_m2 118 rfl) rfl
theorem q515 : (Jvm.Cond.fieldLink "WebHost$Segment" (36 : Nat) "WebHost$Segment" "from" "I") ∈ lw_all := lw_g (lw_at lw_m2 119 rfl) rfl
theorem q516 : (Jvm.Cond.fieldLink "WebHost$Connection" (158 : Nat) "WebHost$Segment" "from" "I") ∈ lw_all := lw_g (lw_at lw_m2 120 rfl) rfl
theorem q517 : (Jvm.Cond.fieldLink "WebHost" (247 : Nat) "WebHost$Segment" "from" "I") ∈ lw_all := lw_g (lw_at lw_m2 121 rfl) rfl
theorem q518 : (Jvm.Cond.fieldLink "WebHost$Wire" (88 : Nat) "WebHost$Segment" "port" "I") ∈ lw_all := lw_g (lw_at lw_m2 122 rfl) rfl
theorem q519 : (Jvm.Cond.fieldLink "WebHost$Segment" (43 : Nat) "WebHost$Segment" "port" "I") ∈ lw_all := lw_g (lw_at lw_m2 123 rfl) rfl
theorem q520 : (Jvm.Cond.fieldLink "WebHost$Connection" (163 : Nat) "WebHost$Segment" "port" "I") ∈ lw_all := lw_g (lw_at lw_m2 124 rfl) rfl
theorem q521 : (Jvm.Cond.fieldLink "WebHost" (253 : Nat) "WebHost$Segment" "port" "I") ∈ lw_all := lw_g (lw_at lw_m2 125 rfl) rfl
theorem q522 : (Jvm.Cond.fieldLink "WebHost$Wire" (91 : Nat) "WebHost$Segment" "to" "I") ∈ lw_all := lw_g (lw_at lw_m2 126 rfl) rfl
theorem q523 : (Jvm.Cond.fieldLink "WebHost$Segment" (46 : Nat) "WebHost$Segment" "to" "I") ∈ lw_all := lw_g (lw_at lw_m2 127 rfl) rfl
theorem q524 : (Jvm.Cond.fieldLink "WebHost" (254 : Nat) "WebHost$Segment" "to" "I") ∈ lw_all := lw_g (lw_at lw_m2 128 rfl) rfl
theorem q525 : (Jvm.Cond.fieldLink "WebHost$Segment" (22 : Nat) "WebHost$Segment" "seq" "I") ∈ lw_all := lw_g (lw_at lw_m2 129 rfl) rfl
theorem q526 : (Jvm.Cond.fieldLink "WebHost$Wire" (100 : Nat) "WebHost$Segment" "seq" "I") ∈ lw_all := lw_g (lw_at lw_m2 130 rfl) rfl
theorem q527 : (Jvm.Cond.fieldLink "WebHost$Connection" (168 : Nat) "WebHost$Segment" "seq" "I") ∈ lw_all := lw_g (lw_at lw_m2 131 rfl) rfl
theorem q528 : (Jvm.Cond.fieldLink "WebHost$Wire" (94 : Nat) "WebHost$Segment" "ack" "I") ∈ lw_all := lw_g (lw_at lw_m2 132 rfl) rfl
theorem q529 : (Jvm.Cond.fieldLink "WebHost$Segment" (52 : Nat) "WebHost$Segment" "ack" "I") ∈ lw_all := lw_g (lw_at lw_m2 133 rfl) rfl
theorem q530 : (Jvm.Cond.fieldLink "WebHost$Connection" (261 : Nat) "WebHost$Segment" "ack" "I") ∈ lw_all := lw_g (lw_at lw_m2 134 rfl) rfl
theorem q531 : (Jvm.Cond.fieldLink "WebHost$Segment" (9 : Nat) "WebHost$Segment" "flags" "I") ∈ lw_all := lw_g (lw_at lw_m2 135 rfl) rfl
theorem q532 : (Jvm.Cond.fieldLink "WebHost$Segment" (55 : Nat) "WebHost$Segment" "window" "I") ∈ lw_all := lw_g (lw_at lw_m2 136 rfl) rfl
theorem q533 : (Jvm.Cond.fieldLink "WebHost$Connection" (171 : Nat) "WebHost$Segment" "window" "I") ∈ lw_all := lw_g (lw_at lw_m2 137 rfl) rfl
theorem q534 : (Jvm.Cond.fieldLink "WebHost$Segment" (58 : Nat) "WebHost$Segment" "bytes" "[B") ∈ lw_all := lw_g (lw_at lw_m2 138 rfl) rfl
theorem q535 : (Jvm.Cond.fieldLink "WebHost$Connection" (310 : Nat) "WebHost$Segment" "bytes" "[B") ∈ lw_all := lw_g (lw_at lw_m2 139 rfl) rfl
theorem q536 : (Jvm.Cond.fieldLink "WebHost$Segment" (62 : Nat) "WebHost$Segment" "at" "I") ∈ lw_all := lw_g (lw_at lw_m2 140 rfl) rfl
theorem q537 : (Jvm.Cond.fieldLink "WebHost$Connection" (311 : Nat) "WebHost$Segment" "at" "I") ∈ lw_all := lw_g (lw_at lw_m2 141 rfl) rfl
theorem q538 : (Jvm.Cond.fieldLink "WebHost$Segment" (15 : Nat) "WebHost$Segment" "length" "I") ∈ lw_all := lw_g (lw_at lw_m2 142 rfl) rfl
theorem q539 : (Jvm.Cond.fieldLink "WebHost$Connection" (275 : Nat) "WebHost$Segment" "length" "I") ∈ lw_all := lw_g (lw_at lw_m2 143 rfl) rfl
theorem q540 : (Jvm.Cond.fieldLink "WebHost$Segment" (69 : Nat) "WebHost$Segment" "mss" "I") ∈ lw_all := lw_g (lw_at lw_m2 144 rfl) rfl
theorem q541 : (Jvm.Cond.fieldLink "WebHost$Connection" (178 : Nat) "WebHost$Segment" "mss" "I") ∈ lw_all := lw_g (lw_at lw_m2 145 rfl) rfl
theorem q542 : (Jvm.Cond.lays "WebHost$Segment" "WebHost$Segment" "from" "I") ∈ lw_all := lw_g (lw_at lw_m2 146 rfl) rfl
theorem q543 : (Jvm.Cond.soleField "WebHost$Segment" "from") ∈ lw_all := lw_g (lw_at lw_m2 147 rfl) rfl
theorem q544 : (Jvm.Cond.lays "WebHost$Segment" "WebHost$Segment" "port" "I") ∈ lw_all := lw_g (lw_at lw_m2 148 rfl) rfl
theorem q545 : (Jvm.Cond.soleField "WebHost$Segment" "port") ∈ lw_all := lw_g (lw_at lw_m2 149 rfl) rfl
theorem q546 : (Jvm.Cond.lays "WebHost$Segment" "WebHost$Segment" "to" "I") ∈ lw_all := lw_g (lw_at lw_m2 150 rfl) rfl
theorem q547 : (Jvm.Cond.soleField "WebHost$Segment" "to") ∈ lw_all := lw_g (lw_at lw_m2 151 rfl) rfl
theorem q548 : (Jvm.Cond.lays "WebHost$Segment" "WebHost$Segment" "seq" "I") ∈ lw_all := lw_g (lw_at lw_m2 152 rfl) rfl
theorem q549 : (Jvm.Cond.soleField "WebHost$Segment" "seq") ∈ lw_all := lw_g (lw_at lw_m2 153 rfl) rfl
theorem q550 : (Jvm.Cond.lays "WebHost$Segment" "WebHost$Segment" "ack" "I") ∈ lw_all := lw_g (lw_at lw_m2 154 rfl) rfl
theorem q551 : (Jvm.Cond.soleField "WebHost$Segment" "ack") ∈ lw_all := lw_g (lw_at lw_m2 155 rfl) rfl
theorem q552 : (Jvm.Cond.lays "WebHost$Segment" "WebHost$Segment" "flags" "I") ∈ lw_all := lw_g (lw_at lw_m2 156 rfl) rfl
theorem q553 : (Jvm.Cond.soleField "WebHost$Segment" "flags") ∈ lw_all := lw_g (lw_at lw_m2 157 rfl) rfl
theorem q554 : (Jvm.Cond.lays "WebHost$Segment" "WebHost$Segment" "window" "I") ∈ lw_all := lw_g (lw_at lw_m2 158 rfl) rfl
theorem q555 : (Jvm.Cond.soleField "WebHost$Segment" "window") ∈ lw_all := lw_g (lw_at lw_m2 159 rfl) rfl
theorem q556 : (Jvm.Cond.lays "WebHost$Segment" "WebHost$Segment" "bytes" "[B") ∈ lw_all := lw_g (lw_at lw_m2 160 rfl) rfl
theorem q557 : (Jvm.Cond.soleField "WebHost$Segment" "bytes") ∈ lw_all := lw_g (lw_at lw_m2 161 rfl) rfl
theorem q558 : (Jvm.Cond.lays "WebHost$Segment" "WebHost$Segment" "at" "I") ∈ lw_all := lw_g (lw_at lw_m2 162 rfl) rfl
theorem q559 : (Jvm.Cond.soleField "WebHost$Segment" "at") ∈ lw_all := lw_g (lw_at lw_m2 163 rfl) rfl
theorem q560 : (Jvm.Cond.lays "WebHost$Segment" "WebHost$Segment" "length" "I") ∈ lw_all := lw_g (lw_at lw_m2 164 rfl) rfl
theorem q561 : (Jvm.Cond.soleField "WebHost$Segment" "length") ∈ lw_all := lw_g (lw_at lw_m2 165 rfl) rfl
theorem q562 : (Jvm.Cond.lays "WebHost$Segment" "WebHost$Segment" "mss" "I") ∈ lw_all := lw_g (lw_at lw_m2 166 rfl) rfl
theorem q563 : (Jvm.Cond.soleField "WebHost$Segment" "mss") ∈ lw_all := lw_g (lw_at lw_m2 167 rfl) rfl
theorem q564 : (Jvm.Cond.superclass "WebHost$Segment" "java/lang/Object") ∈ lw_all := lw_g (lw_at lw_m2 168 rfl) rfl
theorem q565 : (Jvm.Cond.instantiable "WebHost$Connection" (40 : Nat)) ∈ lw_all := lw_g (lw_at lw_m2 169 rfl) rfl
theorem q566 : (Jvm.Cond.methodLink "WebHost" (84 : Nat) ({ cls := "WebHost$Connection", name := "<init>", desc := "(LWebHost$Wire;LWebHost$Requests;)V" } : Jvm.MethodName)) ∈ lw_all := lw_g (lw_at lw_m2 170 rfl) rfl
theorem q567 : (Jvm.Cond.instanceMethod ({ cls := "WebHost$Connection", name := "<init>", desc := "(LWebHost$Wire;LWebHost$Requests;)V" } : Jvm.MethodName)) ∈ lw_all := lw_g (lw_at lw_m2 171 rfl) rfl
theorem q568 : (Jvm.Cond.code ({ cls := "WebHost$Connection", name := "<init>", desc := "(LWebHost$Wire;LWebHost$Requests;)V" } : Jvm.MethodName) prog_3_method_1_code (3 : Nat) (Option.none : Option Jvm.ClassFile.FieldType)) ∈ lw_all := lw_g (lw_at lw_m2 172 rfl) rfl
theorem q569 : (Jvm.Cond.methodLink "WebHost$Connection" (3 : Nat) ({ cls := "java/lang/Object", name := "<init>", desc := "()V" } : Jvm.MethodName)) ∈ lw_all := lw_g (lw_at lw_m2 173 rfl) rfl
theorem q570 : (Jvm.Cond.classLink "WebHost$Connection" (9 : Nat) "WebHost$Inbox") ∈ lw_all := lw_g (lw_at lw_m2 174 rfl) rfl
theorem q571 : (Jvm.Cond.instantiable "WebHost$Inbox" (4 : Nat)) ∈ lw_all := lw_g (lw_at lw_m2 175 rfl) rfl
theorem q572 : (Jvm.Cond.methodLinkNest "WebHost$Connection" (11 : Nat) ({ cls := "WebHost$Inbox", name := "<init>", desc := "()V" } : Jvm.MethodName) "WebHost") ∈ lw_tbl := lw_at lw_m2 176 rfl
theorem q573 : (Jvm.Cond.instanceMethod ({ cls := "WebHost$Inbox", name := "<init>", desc := "()V" } : Jvm.MethodName)) ∈ lw_all := lw_g (lw_at lw_m2 177 rfl) rfl
theorem q574 : (Jvm.Cond.code ({ cls := "WebHost$Inbox", name := "<init>", desc := "()V" } : Jvm.MethodName) prog_7_method_1_code (1 : Nat) (Option.none : Option Jvm.ClassFile.FieldType)) ∈ lw_all := lw_g (lw_at lw_m2 178 rfl) rfl
theorem q575 : (Jvm.Cond.methodLink "WebHost$Inbox" (1 : Nat) ({ cls := "java/lang/Object", name := "<init>", desc := "()V" } : Jvm.MethodName)) ∈ lw_all := lw_g (lw_at lw_m2 179 rfl) rfl
theorem q576 : (Jvm.Cond.fieldLink "WebHost$Inbox" (9 : Nat) "WebHost$Inbox" "bytes" "[B") ∈ lw_all := lw_g (lw_at lw_m2 180 rfl) rfl
theorem q577 : (Jvm.Cond.fieldLink "WebHost$Requests" (26 : Nat) "WebHost$Inbox" "bytes" "[B") ∈ lw_all := lw_g (lw_at lw_m2 181 rfl) rfl
theorem q578 : (Jvm.Cond.fieldLink "WebHost$Inbox" (13 : Nat) "WebHost$Inbox" "there" "[Z") ∈ lw_all := lw_g (lw_at lw_m2 182 rfl) rfl
theorem q579 : (Jvm.Cond.fieldLink "WebHost$Inbox" (17 : Nat) "WebHost$Inbox" "held" "I") ∈ lw_all := lw_g (lw_at lw_m2 183 rfl) rfl
theorem q580 : (Jvm.Cond.fieldLink "WebHost$Requests" (22 : Nat) "WebHost$Inbox" "held" "I") ∈ lw_all := lw_g (lw_at lw_m2 184 rfl) rfl
theorem q581 : (Jvm.Cond.fieldLink "WebHost" (328 : Nat) "WebHost$Inbox" "held" "I") ∈ lw_all := lw_g (lw_at lw_m2 185 rfl) rfl
theorem q582 : (Jvm.Cond.fieldLink "WebHost$Inbox" (21 : Nat) "WebHost$Inbox" "skip" "I") ∈ lw_all := lw_g (lw_at lw_m2 186 rfl) rfl
theorem q583 : (Jvm.Cond.fieldLink "WebHost$Requests" (215 : Nat) "WebHost$Inbox" "skip" "I") ∈ lw_all := lw_g (lw_at lw_m2 187 rfl) rfl
theorem q584 : (Jvm.Cond.laysFinal "WebHost$Inbox" "WebHost$Inbox" "bytes" "[B") ∈ lw_all := lw_g (lw_at lw_m2 188 rfl) rfl
theorem q585 : (Jvm.Cond.soleField "WebHost$Inbox" "bytes") ∈ lw_all := lw_g (lw_at lw_m2 189 rfl) rfl
theorem q586 : (Jvm.Cond.laysFinal "WebHost$Inbox" "WebHost$Inbox" "there" "[Z") ∈ lw_all := lw_g (lw_at lw_m2 190 rfl) rfl
theorem q587 : (Jvm.Cond.soleField "WebHost$Inbox" "there") ∈ lw_all := lw_g (lw_at lw_m2 191 rfl) rfl
theorem q588 : (Jvm.Cond.lays "WebHost$Inbox" "WebHost$Inbox" "held" "I") ∈ lw_all := lw_g (lw_at lw_m2 192 rfl) rfl
theorem q589 : (Jvm.Cond.soleField "WebHost$Inbox" "held") ∈ lw_all := lw_g (lw_at lw_m2 193 rfl) rfl
theorem q590 : (Jvm.Cond.lays "WebHost$Inbox" "WebHost$Inbox" "skip" "I") ∈ lw_all := lw_g (lw_at lw_m2 194 rfl) rfl
theorem q591 : (Jvm.Cond.soleField "WebHost$Inbox" "skip") ∈ lw_all := lw_g (lw_at lw_m2 195 rfl) rfl
theorem q592 : (Jvm.Cond.superclass "WebHost$Inbox" "java/lang/Object") ∈ lw_all := lw_g (lw_at lw_m2 196 rfl) rfl
theorem q593 : (Jvm.Cond.classLink "WebHost$Connection" (18 : Nat) "WebHost$Answer") ∈ lw_all := lw_g (lw_at lw_m2 197 rfl) rfl
theorem q594 : (Jvm.Cond.instantiable "WebHost$Answer" (2 : Nat)) ∈ lw_all := lw_g (lw_at lw_m2 198 rfl) rfl
theorem q595 : (Jvm.Cond.methodLinkNest "WebHost$Connection" (20 : Nat) ({ cls := "WebHost$Answer", name := "<init>", desc := "()V" } : Jvm.MethodName) "WebHost") ∈ lw_tbl := lw_at lw_m2 199 rfl
theorem q596 : (Jvm.Cond.instanceMethod ({ cls := "WebHost$Answer", name := "<init>", desc := "()V" } : Jvm.MethodName)) ∈ lw_all := lw_g (lw_at lw_m2 200 rfl) rfl
theorem q597 : (Jvm.Cond.code ({ cls := "WebHost$Answer", name := "<init>", desc := "()V" } : Jvm.MethodName) prog_2_method_1_code (1 : Nat) (Option.none : Option Jvm.ClassFile.FieldType)) ∈ lw_all := lw_g (lw_at lw_m2 201 rfl) rfl
theorem q598 : (Jvm.Cond.methodLink "WebHost$Answer" (3 : Nat) ({ cls := "java/lang/Object", name := "<init>", desc := "()V" } : Jvm.MethodName)) ∈ lw_all := lw_g (lw_at lw_m2 202 rfl) rfl
theorem q599 : (Jvm.Cond.fieldLink "WebHost$Answer" (9 : Nat) "WebHost$Answer" "bytes" "[B") ∈ lw_all := lw_g (lw_at lw_m2 203 rfl) rfl
theorem q600 : (Jvm.Cond.fieldLink "WebHost$Connection" (122 : Nat) "WebHost$Answer" "bytes" "[B") ∈ lw_all := lw_g (lw_at lw_m2 204 rfl) rfl
theorem q601 : (Jvm.Cond.fieldLink "WebHost$Answer" (16 : Nat) "WebHost$Answer" "length" "I") ∈ lw_all := lw_g (lw_at lw_m2 205 rfl) rfl
theorem q602 : (Jvm.Cond.fieldLink "WebHost$Connection" (70 : Nat) "WebHost$Answer" "length" "I") ∈ lw_all := lw_g (lw_at lw_m2 206 rfl) rfl
theorem q603 : (Jvm.Cond.lays "WebHost$Answer" "WebHost$Answer" "bytes" "[B") ∈ lw_all := lw_g (lw_at lw_m2 207 rfl) rfl
theorem q604 : (Jvm.Cond.soleField "WebHost$Answer" "bytes") ∈ lw_all := lw_g (lw_at lw_m2 208 rfl) rfl
theorem q605 : (Jvm.Cond.lays "WebHost$Answer" "WebHost$Answer" "length" "I") ∈ lw_all := lw_g (lw_at lw_m2 209 rfl) rfl
theorem q606 : (Jvm.Cond.soleField "WebHost$Answer" "length") ∈ lw_all := lw_g (lw_at lw_m2 210 rfl) rfl
theorem q607 : (Jvm.Cond.superclass "WebHost$Answer" "java/lang/Object") ∈ lw_all := lw_g (lw_at lw_m2 211 rfl) rfl
theorem q608 : (Jvm.Cond.fieldLink "WebHost$Connection" (25 : Nat) "WebHost$Connection" "wire" "LWebHost$Wire;") ∈ lw_all := lw_g (lw_at lw_m2 212 rfl) rfl
theorem q609 : (Jvm.Cond.fieldLink "WebHost$Connection" (29 : Nat) "WebHost$Connection" "requests" "LWebHost$Requests;") ∈ lw_all := lw_g (lw_at lw_m2 213 rfl) rfl
theorem q610 : (Jvm.Cond.fieldLink "WebHost$Connection" (73 : Nat) "WebHost$Connection" "state" "I") ∈ lw_all := lw_g (lw_at lw_m2 214 rfl) rfl
theorem q611 : (Jvm.Cond.fieldLink "WebHost" (243 : Nat) "WebHost$Connection" "state" "I") ∈ lw_all := lw_g (lw_at lw_m2 215 rfl) rfl
theorem q612 : (Jvm.Cond.fieldLink "WebHost$Connection" (44 : Nat) "WebHost$Connection" "ip" "I") ∈ lw_all := lw_g (lw_at lw_m2 216 rfl) rfl
theorem q613 : (Jvm.Cond.fieldLink "WebHost" (246 : Nat) "WebHost$Connection" "ip" "I") ∈ lw_all := lw_g (lw_at lw_m2 217 rfl) rfl
theorem q614 : (Jvm.Cond.fieldLink "WebHost$Connection" (47 : Nat) "WebHost$Connection" "port" "I") ∈ lw_all := lw_g (lw_at lw_m2 218 rfl) rfl
theorem q615 : (Jvm.Cond.fieldLink "WebHost" (250 : Nat) "WebHost$Connection" "port" "I") ∈ lw_all := lw_g (lw_at lw_m2 219 rfl) rfl
theorem q616 : (Jvm.Cond.fieldLink "WebHost$Connection" (165 : Nat) "WebHost$Connection" "iss" "I") ∈ lw_all := lw_g (lw_at lw_m2 220 rfl) rfl
theorem q617 : (Jvm.Cond.fieldLink "WebHost$Connection" (33 : Nat) "WebHost$Connection" "next" "I") ∈ lw_all := lw_g (lw_at lw_m2 221 rfl) rfl
theorem q618 : (Jvm.Cond.fieldLink "WebHost$Connection" (172 : Nat) "WebHost$Connection" "windowSeq" "I") ∈ lw_all := lw_g (lw_at lw_m2 222 rfl) rfl
theorem q619 : (Jvm.Cond.fieldLink "WebHost$Connection" (175 : Nat) "WebHost$Connection" "windowAck" "I") ∈ lw_all := lw_g (lw_at lw_m2 223 rfl) rfl
theorem q620 : (Jvm.Cond.fieldLink "WebHost$Connection" (82 : Nat) "WebHost$Connection" "una" "I") ∈ lw_all := lw_g (lw_at lw_m2 224 rfl) rfl
theorem q621 : (Jvm.Cond.fieldLink "WebHost" (298 : Nat) "WebHost$Connection" "una" "I") ∈ lw_all := lw_g (lw_at lw_m2 225 rfl) rfl
theorem q622 : (Jvm.Cond.fieldLink "WebHost$Connection" (60 : Nat) "WebHost$Connection" "at" "I") ∈ lw_all := lw_g (lw_at lw_m2 226 rfl) rfl
theorem q623 : (Jvm.Cond.fieldLink "WebHost" (301 : Nat) "WebHost$Connection" "at" "I") ∈ lw_all := lw_g (lw_at lw_m2 227 rfl) rfl
theorem q624 : (Jvm.Cond.fieldLink "WebHost$Connection" (88 : Nat) "WebHost$Connection" "max" "I") ∈ lw_all := lw_g (lw_at lw_m2 228 rfl) rfl
theorem q625 : (Jvm.Cond.fieldLink "WebHost" (303 : Nat) "WebHost$Connection" "max" "I") ∈ lw_all := lw_g (lw_at lw_m2 229 rfl) rfl
theorem q626 : (Jvm.Cond.fieldLink "WebHost$Connection" (150 : Nat) "WebHost$Connection" "window" "I") ∈ lw_all := lw_g (lw_at lw_m2 230 rfl) rfl
theorem q627 : (Jvm.Cond.fieldLink "WebHost" (309 : Nat) "WebHost$Connection" "window" "I") ∈ lw_all := lw_g (lw_at lw_m2 231 rfl) rfl
theorem q628 : (Jvm.Cond.fieldLink "WebHost$Connection" (144 : Nat) "WebHost$Connection" "mss" "I") ∈ lw_all := lw_g (lw_at lw_m2 232 rfl) rfl
theorem q629 : (Jvm.Cond.fieldLink "WebHost" (321 : Nat) "WebHost$Connection" "mss" "I") ∈ lw_all := lw_g (lw_at lw_m2 233 rfl) rfl
theorem q630 : (Jvm.Cond.fieldLink "WebHost$Connection" (147 : Nat) "WebHost$Connection" "cwnd" "I") ∈ lw_all := lw_g (lw_at lw_m2 234 rfl) rfl
theorem q631 : (Jvm.Cond.fieldLink "WebHost" (312 : Nat) "WebHost$Connection" "cwnd" "I") ∈ lw_all := lw_g (lw_at lw_m2 235 rfl) rfl
theorem q632 : (Jvm.Cond.fieldLink "WebHost$Connection" (180 : Nat) "WebHost$Connection" "ssthresh" "I") ∈ lw_all := lw_g (lw_at lw_m2 236 rfl) rfl
theorem q633 : (Jvm.Cond.fieldLink "WebHost" (315 : Nat) "WebHost$Connection" "ssthresh" "I") ∈ lw_all := lw_g (lw_at lw_m2 237 rfl) rfl
theorem q634 : (Jvm.Cond.fieldLink "WebHost$Connection" (138 : Nat) "WebHost$Connection" "rto" "I") ∈ lw_all := lw_g (lw_at lw_m2 238 rfl) rfl
theorem q635 : (Jvm.Cond.fieldLink "WebHost" (318 : Nat) "WebHost$Connection" "rto" "I") ∈ lw_all := lw_g (lw_at lw_m2 239 rfl) rfl
theorem q636 : (Jvm.Cond.fieldLink "WebHost$Connection" (183 : Nat) "WebHost$Connection" "tries" "I") ∈ lw_all := lw_g (lw_at lw_m3 0 rfl) rfl
theorem q637 : (Jvm.Cond.fieldLink "WebHost" (336 : Nat) "WebHost$Connection" "tries" "I") ∈ lw_all := lw_g (lw_at lw_m3 1 rfl) rfl
theorem q638 : (Jvm.Cond.fieldLink "WebHost$Connection" (186 : Nat) "WebHost$Connection" "duplicates" "I") ∈ lw_all := lw_g (lw_at lw_m3 2 rfl) rfl
theorem q639 : (Jvm.Cond.fieldLink "WebHost" (339 : Nat) "WebHost$Connection" "duplicates" "I") ∈ lw_all := lw_g (lw_at lw_m3 3 rfl) rfl
theorem q640 : (Jvm.Cond.fieldLink "WebHost$Connection" (189 : Nat) "WebHost$Connection" "inRecovery" "Z") ∈ lw_all := lw_g (lw_at lw_m3 4 rfl) rfl
theorem q641 : (Jvm.Cond.fieldLink "WebHost$Connection" (12 : Nat) "WebHost$Connection" "inbox" "LWebHost$Inbox;") ∈ lw_all := lw_g (lw_at lw_m3 5 rfl) rfl
theorem q642 : (Jvm.Cond.fieldLink "WebHost" (324 : Nat) "WebHost$Connection" "inbox" "LWebHost$Inbox;") ∈ lw_all := lw_g (lw_at lw_m3 6 rfl) rfl
theorem q643 : (Jvm.Cond.fieldLink "WebHost$Connection" (41 : Nat) "WebHost$Connection" "told" "I") ∈ lw_all := lw_g (lw_at lw_m3 7 rfl) rfl
theorem q644 : (Jvm.Cond.fieldLink "WebHost$Connection" (56 : Nat) "WebHost$Connection" "owed" "Z") ∈ lw_all := lw_g (lw_at lw_m3 8 rfl) rfl
theorem q645 : (Jvm.Cond.fieldLink "WebHost$Connection" (195 : Nat) "WebHost$Connection" "finCame" "Z") ∈ lw_all := lw_g (lw_at lw_m3 9 rfl) rfl
theorem q646 : (Jvm.Cond.fieldLink "WebHost$Connection" (317 : Nat) "WebHost$Connection" "finNumber" "I") ∈ lw_all := lw_g (lw_at lw_m3 10 rfl) rfl
theorem q647 : (Jvm.Cond.fieldLink "WebHost$Connection" (21 : Nat) "WebHost$Connection" "answer" "LWebHost$Answer;") ∈ lw_all := lw_g (lw_at lw_m3 11 rfl) rfl
theorem q648 : (Jvm.Cond.fieldLink "WebHost$Connection" (67 : Nat) "WebHost$Connection" "base" "I") ∈ lw_all := lw_g (lw_at lw_m3 12 rfl) rfl
theorem q649 : (Jvm.Cond.fieldLink "WebHost$Connection" (79 : Nat) "WebHost$Connection" "down" "Z") ∈ lw_all := lw_g (lw_at lw_m3 13 rfl) rfl
theorem q650 : (Jvm.Cond.fieldLink "WebHost$Connection" (113 : Nat) "WebHost$Connection" "finSent" "Z") ∈ lw_all := lw_g (lw_at lw_m3 14 rfl) rfl
theorem q651 : (Jvm.Cond.fieldLink "WebHost$Connection" (135 : Nat) "WebHost$Connection" "timerOn" "Z") ∈ lw_all := lw_g (lw_at lw_m3 15 rfl) rfl
theorem q652 : (Jvm.Cond.fieldLink "WebHost$Connection" (141 : Nat) "WebHost$Connection" "timer" "I") ∈ lw_all := lw_g (lw_at lw_m3 16 rfl) rfl
theorem q653 : (Jvm.Cond.fieldLink "WebHost$Connection" (250 : Nat) "WebHost$Connection" "life" "I") ∈ lw_all := lw_g (lw_at lw_m3 17 rfl) rfl
theorem q654 : (Jvm.Cond.fieldLink "WebHost$Connection" (201 : Nat) "WebHost$Connection" "active" "I") ∈ lw_all := lw_g (lw_at lw_m3 18 rfl) rfl
theorem q655 : (Jvm.Cond.fieldLink "WebHost$Connection" (116 : Nat) "WebHost$Connection" "lifeOn" "Z") ∈ lw_all := lw_g (lw_at lw_m3 19 rfl) rfl
theorem q656 : (Jvm.Cond.fieldLink "WebHost$Connection" (106 : Nat) "WebHost$Connection" "timing" "Z") ∈ lw_all := lw_g (lw_at lw_m3 20 rfl) rfl
theorem q657 : (Jvm.Cond.fieldLink "WebHost$Connection" (198 : Nat) "WebHost$Connection" "measured" "Z") ∈ lw_all := lw_g (lw_at lw_m3 21 rfl) rfl
theorem q658 : (Jvm.Cond.fieldLink "WebHost$Connection" (126 : Nat) "WebHost$Connection" "timedNumber" "I") ∈ lw_all := lw_g (lw_at lw_m3 22 rfl) rfl
theorem q659 : (Jvm.Cond.fieldLink "WebHost$Connection" (132 : Nat) "WebHost$Connection" "timedSince" "I") ∈ lw_all := lw_g (lw_at lw_m3 23 rfl) rfl
theorem q660 : (Jvm.Cond.fieldLink "WebHost$Connection" (297 : Nat) "WebHost$Connection" "srtt" "I") ∈ lw_all := lw_g (lw_at lw_m3 24 rfl) rfl
theorem q661 : (Jvm.Cond.fieldLink "WebHost$Connection" (300 : Nat) "WebHost$Connection" "spread" "I") ∈ lw_all := lw_g (lw_at lw_m3 25 rfl) rfl
theorem q662 : (Jvm.Cond.laysFinal "WebHost$Connection" "WebHost$Connection" "wire" "LWebHost$Wire;") ∈ lw_all := lw_g (lw_at lw_m3 26 rfl) rfl
theorem q663 : (Jvm.Cond.soleField "WebHost$Connection" "wire") ∈ lw_all := lw_g (lw_at lw_m3 27 rfl) rfl
theorem q664 : (Jvm.Cond.laysFinal "WebHost$Connection" "WebHost$Connection" "requests" "LWebHost$Requests;") ∈ lw_all := lw_g (lw_at lw_m3 28 rfl) rfl
theorem q665 : (Jvm.Cond.soleField "WebHost$Connection" "requests") ∈ lw_all := lw_g (lw_at lw_m3 29 rfl) rfl
theorem q666 : (Jvm.Cond.lays "WebHost$Connection" "WebHost$Connection" "state" "I") ∈ lw_all := lw_g (lw_at lw_m3 30 rfl) rfl
theorem q667 : (Jvm.Cond.soleField "WebHost$Connection" "state") ∈ lw_all := lw_g (lw_at lw_m3 31 rfl) rfl
theorem q668 : (Jvm.Cond.lays "WebHost$Connection" "WebHost$Connection" "ip" "I") ∈ lw_all := lw_g (lw_at lw_m3 32 rfl) rfl
theorem q669 : (Jvm.Cond.soleField "WebHost$Connection" "ip") ∈ lw_all := lw_g (lw_at lw_m3 33 rfl) rfl
theorem q670 : (Jvm.Cond.lays "WebHost$Connection" "WebHost$Connection" "port" "I") ∈ lw_all := lw_g (lw_at lw_m3 34 rfl) rfl
theorem q671 : (Jvm.Cond.soleField "WebHost$Connection" "port") ∈ lw_all := lw_g (lw_at lw_m3 35 rfl) rfl
theorem q672 : (Jvm.Cond.lays "WebHost$Connection" "WebHost$Connection" "iss" "I") ∈ lw_all := lw_g (lw_at lw_m3 36 rfl) rfl
theorem q673 : (Jvm.Cond.soleField "WebHost$Connection" "iss") ∈ lw_all := lw_g (lw_at lw_m3 37 rfl) rfl
theorem q674 : (Jvm.Cond.lays "WebHost$Connection" "WebHost$Connection" "next" "I") ∈ lw_all := lw_g (lw_at lw_m3 38 rfl) rfl
theorem q675 : (Jvm.Cond.soleField "WebHost$Connection" "next") ∈ lw_all := lw_g (lw_at lw_m3 39 rfl) rfl
theorem q676 : (Jvm.Cond.lays "WebHost$Connection" "WebHost$Connection" "windowSeq" "I") ∈ lw_all := lw_g (lw_at lw_m3 40 rfl) rfl
theorem q677 : (Jvm.Cond.soleField "WebHost$Connection" "windowSeq") ∈ lw_all := lw_g (lw_at lw_m3 41 rfl) rfl
theorem q678 : (Jvm.Cond.lays "WebHost$Connection" "WebHost$Connection" "windowAck" "I") ∈ lw_all := lw_g (lw_at lw_m3 42 rfl) rfl
theorem q679 : (Jvm.Cond.soleField "WebHost$Connection" "windowAck") ∈ lw_all := lw_g (lw_at lw_m3 43 rfl) rfl
theorem q680 : (Jvm.Cond.lays "WebHost$Connection" "WebHost$Connection" "una" "I") ∈ lw_all := lw_g (lw_at lw_m3 44 rfl) rfl
theorem q681 : (Jvm.Cond.soleField "WebHost$Connection" "una") ∈ lw_all := lw_g (lw_at lw_m3 45 rfl) rfl
theorem q682 : (Jvm.Cond.lays "WebHost$Connection" "WebHost$Connection" "at" "I") ∈ lw_all := lw_g (lw_at lw_m3 46 rfl) rfl
theorem q683 : (Jvm.Cond.soleField "WebHost$Connection" "at") ∈ lw_all := lw_g (lw_at lw_m3 47 rfl) rfl
theorem q684 : (Jvm.Cond.lays "WebHost$Connection" "WebHost$Connection" "max" "I") ∈ lw_all := lw_g (lw_at lw_m3 48 rfl) rfl
theorem q685 : (Jvm.Cond.soleField "WebHost$Connection" "max") ∈ lw_all := lw_g (lw_at lw_m3 49 rfl) rfl
theorem q686 : (Jvm.Cond.lays "WebHost$Connection" "WebHost$Connection" "window" "I") ∈ lw_all := lw_g (lw_at lw_m3 50 rfl) rfl
theorem q687 : (Jvm.Cond.soleField "WebHost$Connection" "window") ∈ lw_all := lw_g (lw_at lw_m3 51 rfl) rfl
theorem q688 : (Jvm.Cond.lays "WebHost$Connection" "WebHost$Connection" "mss" "I") ∈ lw_all := lw_g (lw_at lw_m3 52 rfl) rfl
theorem q689 : (Jvm.Cond.soleField "WebHost$Connection" "mss") ∈ lw_all := lw_g (lw_at lw_m3 53 rfl) rfl
theorem q690 : (Jvm.Cond.lays "WebHost$Connection" "WebHost$Connection" "cwnd" "I") ∈ lw_all := lw_g (lw_at lw_m3 54 rfl) rfl
theorem q691 : (Jvm.Cond.soleField "WebHost$Connection" "cwnd") ∈ lw_all := lw_g (lw_at lw_m3 55 rfl) rfl
theorem q692 : (Jvm.Cond.lays "WebHost$Connection" "WebHost$Connection" "ssthresh" "I") ∈ lw_all := lw_g (lw_at lw_m3 56 rfl) rfl
theorem q693 : (Jvm.Cond.soleField "WebHost$Connection" "ssthresh") ∈ lw_all := lw_g (lw_at lw_m3 57 rfl) rfl
theorem q694 : (Jvm.Cond.lays "WebHost$Connection" "WebHost$Connection" "rto" "I") ∈ lw_all := lw_g (lw_at lw_m3 58 rfl) rfl
theorem q695 : (Jvm.Cond.soleField "WebHost$Connection" "rto") ∈ lw_all := lw_g (lw_at lw_m3 59 rfl) rfl
theorem q696 : (Jvm.Cond.lays "WebHost$Connection" "WebHost$Connection" "tries" "I") ∈ lw_all := lw_g (lw_at lw_m3 60 rfl) rfl
theorem q697 : (Jvm.Cond.soleField "WebHost$Connection" "tries") ∈ lw_all := lw_g (lw_at lw_m3 61 rfl) rfl
theorem q698 : (Jvm.Cond.lays "WebHost$Connection" "WebHost$Connection" "duplicates" "I") ∈ lw_all := lw_g (lw_at lw_m3 62 rfl) rfl
theorem q699 : (Jvm.Cond.soleField "WebHost$Connection" "duplicates") ∈ lw_all := lw_g (lw_at lw_m3 63 rfl) rfl
theorem q700 : (Jvm.Cond.lays "WebHost$Connection" "WebHost$Connection" "inRecovery" "Z") ∈ lw_all := lw_g (lw_at lw_m3 64 rfl) rfl
theorem q701 : (Jvm.Cond.soleField "WebHost$Connection" "inRecovery") ∈ lw_all := lw_g (lw_at lw_m3 65 rfl) rfl
theorem q702 : (Jvm.Cond.laysFinal "WebHost$Connection" "WebHost$Connection" "inbox" "LWebHost$Inbox;") ∈ lw_all := lw_g (lw_at lw_m3 66 rfl) rfl
theorem q703 : (Jvm.Cond.soleField "WebHost$Connection" "inbox") ∈ lw_all := lw_g (lw_at lw_m3 67 rfl) rfl
theorem q704 : (Jvm.Cond.lays "WebHost$Connection" "WebHost$Connection" "told" "I") ∈ lw_all := lw_g (lw_at lw_m3 68 rfl) rfl
theorem q705 : (Jvm.Cond.soleField "WebHost$Connection" "told") ∈ lw_all := lw_g (lw_at lw_m3 69 rfl) rfl
theorem q706 : (Jvm.Cond.lays "WebHost$Connection" "WebHost$Connection" "owed" "Z") ∈ lw_all := lw_g (lw_at lw_m3 70 rfl) rfl
theorem q707 : (Jvm.Cond.soleField "WebHost$Connection" "owed") ∈ lw_all := lw_g (lw_at lw_m3 71 rfl) rfl
theorem q708 : (Jvm.Cond.lays "WebHost$Connection" "WebHost$Connection" "finCame" "Z") ∈ lw_all := lw_g (lw_at lw_m3 72 rfl) rfl
theorem q709 : (Jvm.Cond.soleField "WebHost$Connection" "finCame") ∈ lw_all := lw_g (lw_at lw_m3 73 rfl) rfl
theorem q710 : (Jvm.Cond.lays "WebHost$Connection" "WebHost$Connection" "finNumber" "I") ∈ lw_all := lw_g (lw_at lw_m3 74 rfl) rfl
theorem q711 : (Jvm.Cond.soleField "WebHost$Connection" "finNumber") ∈ lw_all := lw_g (lw_at lw_m3 75 rfl) rfl
theorem q712 : (Jvm.Cond.laysFinal "WebHost$Connection" "WebHost$Connection" "answer" "LWebHost$Answer;") ∈ lw_all := lw_g (lw_at lw_m3 76 rfl) rfl
theorem q713 : (Jvm.Cond.soleField "WebHost$Connection" "answer") ∈ lw_all := lw_g (lw_at lw_m3 77 rfl) rfl
theorem q714 : (Jvm.Cond.lays "WebHost$Connection" "WebHost$Connection" "base" "I") ∈ lw_all := lw_g (lw_at lw_m3 78 rfl) rfl
theorem q715 : (Jvm.Cond.soleField "WebHost$Connection" "base") ∈ lw_all := lw_g (lw_at lw_m3 79 rfl) rfl
theorem q716 : (Jvm.Cond.lays "WebHost$Connection" "WebHost$Connection" "down" "Z") ∈ lw_all := lw_g (lw_at lw_m3 80 rfl) rfl
theorem q717 : (Jvm.Cond.soleField "WebHost$Connection" "down") ∈ lw_all := lw_g (lw_at lw_m3 81 rfl) rfl
theorem q718 : (Jvm.Cond.lays "WebHost$Connection" "WebHost$Connection" "finSent" "Z") ∈ lw_all := lw_g (lw_at lw_m3 82 rfl) rfl
theorem q719 : (Jvm.Cond.soleField "WebHost$Connection" "finSent") ∈ lw_all := lw_g (lw_at lw_m3 83 rfl) rfl
theorem q720 : (Jvm.Cond.lays "WebHost$Connection" "WebHost$Connection" "timerOn" "Z") ∈ lw_all := lw_g (lw_at lw_m3 84 rfl) rfl
theorem q721 : (Jvm.Cond.soleField "WebHost$Connection" "timerOn") ∈ lw_all := lw_g (lw_at lw_m3 85 rfl) rfl
theorem q722 : (Jvm.Cond.lays "WebHost$Connection" "WebHost$Connection" "timer" "I") ∈ lw_all := lw_g (lw_at lw_m3 86 rfl) rfl
theorem q723 : (Jvm.Cond.soleField "WebHost$Connection" "timer") ∈ lw_all := lw_g (lw_at lw_m3 87 rfl) rfl
theorem q724 : (Jvm.Cond.lays "WebHost$Connection" "WebHost$Connection" "life" "I") ∈ lw_all := lw_g (lw_at lw_m3 88 rfl) rfl
theorem q725 : (Jvm.Cond.soleField "WebHost$Connection" "life") ∈ lw_all := lw_g (lw_at lw_m3 89 rfl) rfl
theorem q726 : (Jvm.Cond.lays "WebHost$Connection" "WebHost$Connection" "active" "I") ∈ lw_all := lw_g (lw_at lw_m3 90 rfl) rfl
theorem q727 : (Jvm.Cond.soleField "WebHost$Connection" "active") ∈ lw_all := lw_g (lw_at lw_m3 91 rfl) rfl
theorem q728 : (Jvm.Cond.lays "WebHost$Connection" "WebHost$Connection" "lifeOn" "Z") ∈ lw_all := lw_g (lw_at lw_m3 92 rfl) rfl
theorem q729 : (Jvm.Cond.soleField "WebHost$Connection" "lifeOn") ∈ lw_all := lw_g (lw_at lw_m3 93 rfl) rfl
theorem q730 : (Jvm.Cond.lays "WebHost$Connection" "WebHost$Connection" "timing" "Z") ∈ lw_all := lw_g (lw_at lw_m3 94 rfl) rfl
theorem q731 : (Jvm.Cond.soleField "WebHost$Connection" "timing") ∈ lw_all := lw_g (lw_at lw_m3 95 rfl) rfl
theorem q732 : (Jvm.Cond.lays "WebHost$Connection" "WebHost$Connection" "measured" "Z") ∈ lw_all := lw_g (lw_at lw_m3 96 rfl) rfl
theorem q733 : (Jvm.Cond.soleField "WebHost$Connection" "measured") ∈ lw_all := lw_g (lw_at lw_m3 97 rfl) rfl
theorem q734 : (Jvm.Cond.lays "WebHost$Connection" "WebHost$Connection" "timedNumber" "I") ∈ lw_all := lw_g (lw_at lw_m3 98 rfl) rfl
theorem q735 : (Jvm.Cond.soleField "WebHost$Connection" "timedNumber") ∈ lw_all := lw_g (lw_at lw_m3 99 rfl) rfl
theorem q736 : (Jvm.Cond.lays "WebHost$Connection" "WebHost$Connection" "timedSince" "I") ∈ lw_all := lw_g (lw_at lw_m3 100 rfl) rfl
theorem q737 : (Jvm.Cond.soleField "WebHost$Connection" "timedSince") ∈ lw_all := lw_g (lw_at lw_m3 101 rfl) rfl
theorem q738 : (Jvm.Cond.lays "WebHost$Connection" "WebHost$Connection" "srtt" "I") ∈ lw_all := lw_g (lw_at lw_m3 102 rfl) rfl
theorem q739 : (Jvm.Cond.soleField "WebHost$Connection" "srtt") ∈ lw_all := lw_g (lw_at lw_m3 103 rfl) rfl
theorem q740 : (Jvm.Cond.lays "WebHost$Connection" "WebHost$Connection" "spread" "I") ∈ lw_all := lw_g (lw_at lw_m3 104 rfl) rfl
theorem q741 : (Jvm.Cond.soleField "WebHost$Connection" "spread") ∈ lw_all := lw_g (lw_at lw_m3 105 rfl) rfl
theorem q742 : (Jvm.Cond.superclass "WebHost$Connection" "java/lang/Object") ∈ lw_all := lw_g (lw_at lw_m3 106 rfl) rfl
theorem q743 : (Jvm.Cond.fieldLink "WebHost" (8 : Nat) "WebHost" "tray" "[B") ∈ lw_all := lw_g (lw_at lw_m3 107 rfl) rfl
theorem q744 : (Jvm.Cond.fieldLink "WebHost" (87 : Nat) "WebHost" "trayed" "I") ∈ lw_all := lw_g (lw_at lw_m3 108 rfl) rfl
theorem q745 : (Jvm.Cond.fieldLink "WebHost" (17 : Nat) "WebHost" "store" "LWebHost$Store;") ∈ lw_all := lw_g (lw_at lw_m3 109 rfl) rfl
theorem q746 : (Jvm.Cond.fieldLink "WebHost" (24 : Nat) "WebHost" "device" "LWebHost$Device;") ∈ lw_all := lw_g (lw_at lw_m3 110 rfl) rfl
theorem q747 : (Jvm.Cond.fieldLink "WebHost" (33 : Nat) "WebHost" "hops" "LWebHost$Hops;") ∈ lw_all := lw_g (lw_at lw_m3 111 rfl) rfl
theorem q748 : (Jvm.Cond.fieldLink "WebHost" (42 : Nat) "WebHost" "packets" "LWebHost$Packets;") ∈ lw_all := lw_g (lw_at lw_m3 112 rfl) rfl
theorem q749 : (Jvm.Cond.fieldLink "WebHost" (49 : Nat) "WebHost" "fragments" "LWebHost$Fragments;") ∈ lw_all := lw_g (lw_at lw_m3 113 rfl) rfl
theorem q750 : (Jvm.Cond.fieldLink "WebHost" (58 : Nat) "WebHost" "wire" "LWebHost$Wire;") ∈ lw_all := lw_g (lw_at lw_m3 114 rfl) rfl
theorem q751 : (Jvm.Cond.fieldLink "WebHost" (67 : Nat) "WebHost" "requests" "LWebHost$Requests;") ∈ lw_all := lw_g (lw_at lw_m3 115 rfl) rfl
theorem q752 : (Jvm.Cond.fieldLink "WebHost" (73 : Nat) "WebHost" "places" "[LWebHost$Connection;") ∈ lw_all := lw_g (lw_at lw_m3 116 rfl) rfl
theorem q753 : (Jvm.Cond.fieldLink "WebHost" (80 : Nat) "WebHost" "segment" "LWebHost$Segment;") ∈ lw_all := lw_g (lw_at lw_m3 117 rfl) rfl
theorem q754 : (Jvm.Cond.fieldLink "WebHost" (105 : Nat) "WebHost" "booted" "Z") ∈ lw_all := lw_g (lw_at lw_m3 118 rfl) rfl
theorem q755 : (Jvm.Cond.fieldLink "WebHost" (117 : Nat) "WebHost" "ip" "I") ∈ lw_all := lw_g (lw_at lw_m3 119 rfl) rfl
theorem q756 : (Jvm.Cond.fieldLink "WebHost" (136 : Nat) "WebHost" "arrived" "I") ∈ lw_all := lw_g (lw_at lw_m3 120 rfl) rfl
theorem q757 : (Jvm.Cond.laysFinal "WebHost" "WebHost" "tray" "[B") ∈ lw_all := lw_g (lw_at lw_m3 121 rfl) rfl
theorem q758 : (Jvm.Cond.soleField "WebHost" "tray") ∈ lw_all := lw_g (lw_at lw_m3 122 rfl) rfl
theorem q759 : (Jvm.Cond.lays "WebHost" "WebHost" "trayed" "I") ∈ lw_all := lw_g (lw_at lw_m3 123 rfl) rfl
theorem q760 : (Jvm.Cond.soleField "WebHost" "trayed") ∈ lw_all := lw_g (lw_at lw_m3 124 rfl) rfl
theorem q761 : (Jvm.Cond.laysFinal "WebHost" "WebHost" "store" "LWebHost$Store;") ∈ lw_all := lw_g (lw_at lw_m3 125 rfl) rfl
theorem q762 : (Jvm.Cond.soleField "WebHost" "store") ∈ lw_all := lw_g (lw_at lw_m3 126 rfl) rfl
theorem q763 : (Jvm.Cond.laysFinal "WebHost" "WebHost" "device" "LWebHost$Device;") ∈ lw_all := lw_g (lw_at lw_m3 127 rfl) rfl
theorem q764 : (Jvm.Cond.soleField "WebHost" "device") ∈ lw_all := lw_g (lw_at lw_m3 128 rfl) rfl
theorem q765 : (Jvm.Cond.laysFinal "WebHost" "WebHost" "hops" "LWebHost$Hops;") ∈ lw_all := lw_g (lw_at lw_m3 129 rfl) rfl
theorem q766 : (Jvm.Cond.soleField "WebHost" "hops") ∈ lw_all := lw_g (lw_at lw_m3 130 rfl) rfl
theorem q767 : (Jvm.Cond.laysFinal "WebHost" "WebHost" "packets" "LWebHost$Packets;") ∈ lw_all := lw_g (lw_at lw_m3 131 rfl) rfl
theorem q768 : (Jvm.Cond.soleField "WebHost" "packets") ∈ lw_all := lw_g (lw_at lw_m3 132 rfl) rfl
theorem q769 : (Jvm.Cond.laysFinal "WebHost" "WebHost" "fragments" "LWebHost$Fragments;") ∈ lw_all := lw_g (lw_at lw_m3 133 rfl) rfl
theorem q770 : (Jvm.Cond.soleField "WebHost" "fragments") ∈ lw_all := lw_g (lw_at lw_m3 134 rfl) rfl
theorem q771 : (Jvm.Cond.laysFinal "WebHost" "WebHost" "wire" "LWebHost$Wire;") ∈ lw_all := lw_g (lw_at lw_m3 135 rfl) rfl
theorem q772 : (Jvm.Cond.soleField "WebHost" "wire") ∈ lw_all := lw_g (lw_at lw_m3 136 rfl) rfl
theorem q773 : (Jvm.Cond.laysFinal "WebHost" "WebHost" "requests" "LWebHost$Requests;") ∈ lw_all := lw_g (lw_at lw_m3 137 rfl) rfl
theorem q774 : (Jvm.Cond.soleField "WebHost" "requests") ∈ lw_all := lw_g (lw_at lw_m3 138 rfl) rfl
theorem q775 : (Jvm.Cond.laysFinal "WebHost" "WebHost" "places" "[LWebHost$Connection;") ∈ lw_all := lw_g (lw_at lw_m3 139 rfl) rfl
theorem q776 : (Jvm.Cond.soleField "WebHost" "places") ∈ lw_all := lw_g (lw_at lw_m3 140 rfl) rfl
theorem q777 : (Jvm.Cond.laysFinal "WebHost" "WebHost" "segment" "LWebHost$Segment;") ∈ lw_all := lw_g (lw_at lw_m3 141 rfl) rfl
theorem q778 : (Jvm.Cond.soleField "WebHost" "segment") ∈ lw_all := lw_g (lw_at lw_m3 142 rfl) rfl
theorem q779 : (Jvm.Cond.lays "WebHost" "WebHost" "booted" "Z") ∈ lw_all := lw_g (lw_at lw_m3 143 rfl) rfl
theorem q780 : (Jvm.Cond.soleField "WebHost" "booted") ∈ lw_all := lw_g (lw_at lw_m3 144 rfl) rfl
theorem q781 : (Jvm.Cond.lays "WebHost" "WebHost" "ip" "I") ∈ lw_all := lw_g (lw_at lw_m3 145 rfl) rfl
theorem q782 : (Jvm.Cond.soleField "WebHost" "ip") ∈ lw_all := lw_g (lw_at lw_m3 146 rfl) rfl
theorem q783 : (Jvm.Cond.lays "WebHost" "WebHost" "arrived" "I") ∈ lw_all := lw_g (lw_at lw_m3 147 rfl) rfl
theorem q784 : (Jvm.Cond.soleField "WebHost" "arrived") ∈ lw_all := lw_g (lw_at lw_m3 148 rfl) rfl
theorem q785 : (Jvm.Cond.superclass "WebHost" "java/lang/Object") ∈ lw_all := lw_g (lw_at lw_m3 149 rfl) rfl
theorem q786 : (Jvm.Cond.methodLink "WebHostLaw" (13 : Nat) ({ cls := "WebHost", name := "feed", desc := "(IIIII)I" } : Jvm.MethodName)) ∈ lw_all := lw_g (lw_at lw_m3 150 rfl) rfl
theorem q787 : (Jvm.Cond.instanceMethod ({ cls := "WebHost", name := "feed", desc := "(IIIII)I" } : Jvm.MethodName)) ∈ lw_all := lw_g (lw_at lw_m3 151 rfl) rfl
theorem q788 : (Jvm.Cond.selects "WebHost" ({ cls := "WebHost", name := "feed", desc := "(IIIII)I" } : Jvm.MethodName) ({ cls := "WebHost", name := "feed", desc := "(IIIII)I" } : Jvm.MethodName)) ∈ lw_all := lw_g (lw_at lw_m3 152 rfl) rfl
theorem q789 : (Jvm.Cond.code ({ cls := "WebHost", name := "feed", desc := "(IIIII)I" } : Jvm.MethodName) prog_1_method_2_code (6 : Nat) (Option.some Jvm.ClassFile.FieldType.int)) ∈ lw_all := lw_g (lw_at lw_m3 153 rfl) rfl
theorem q790 : (Jvm.Cond.methodLink "WebHost" (91 : Nat) ({ cls := "WebHost$Net", name := "putFour", desc := "([BII)V" } : Jvm.MethodName)) ∈ lw_all := lw_g (lw_at lw_m3 154 rfl) rfl
theorem q791 : (Jvm.Cond.static ({ cls := "WebHost$Net", name := "putFour", desc := "([BII)V" } : Jvm.MethodName)) ∈ lw_all := lw_g (lw_at lw_m3 155 rfl) rfl
theorem q792 : (Jvm.Cond.code ({ cls := "WebHost$Net", name := "putFour", desc := "([BII)V" } : Jvm.MethodName) prog_9_method_5_code (3 : Nat) (Option.none : Option Jvm.ClassFile.FieldType)) ∈ lw_all := lw_g (lw_at lw_m3 156 rfl) rfl
theorem q793 : (Jvm.Cond.methodLink "WebHost$Net" (13 : Nat) ({ cls := "WebHost$Net", name := "putTwo", desc := "([BII)V" } : Jvm.MethodName)) ∈ lw_all := lw_g (lw_at lw_m3 157 rfl) rfl
theorem q794 : (Jvm.Cond.static ({ cls := "WebHost$Net", name := "putTwo", desc := "([BII)V" } : Jvm.MethodName)) ∈ lw_all := lw_g (lw_at lw_m3 158 rfl) rfl
theorem q795 : (Jvm.Cond.code ({ cls := "WebHost$Net", name := "putTwo", desc := "([BII)V" } : Jvm.MethodName) prog_9_method_4_code (3 : Nat) (Option.none : Option Jvm.ClassFile.FieldType)) ∈ lw_all := lw_g (lw_at lw_m3 159 rfl) rfl
theorem q796 : (Jvm.Cond.methodLink "WebHostLaw" (18 : Nat) ({ cls := "WebHost", name := "end", desc := "(I)I" } : Jvm.MethodName)) ∈ lw_all := lw_g (lw_at lw_m3 160 rfl) rfl
theorem q797 : (Jvm.Cond.instanceMethod ({ cls := "WebHost", name := "end", desc := "(I)I" } : Jvm.MethodName)) ∈ lw_all := lw_g (lw_at lw_m3 161 rfl) rfl
theorem q798 : (Jvm.Cond.selects "WebHost" ({ cls := "WebHost", name := "end", desc := "(I)I" } : Jvm.MethodName) ({ cls := "WebHost", name := "end", desc := "(I)I" } : Jvm.MethodName)) ∈ lw_all := lw_g (lw_at lw_m3 162 rfl) rfl
theorem q799 : (Jvm.Cond.code ({ cls := "WebHost", name := "end", desc := "(I)I" } : Jvm.MethodName) prog_1_method_3_code (2 : Nat) (Option.some Jvm.ClassFile.FieldType.int)) ∈ lw_all := lw_g (lw_at lw_m3 163 rfl) rfl
theorem q800 : (Jvm.Cond.methodLink "WebHostLaw" (23 : Nat) ({ cls := "WebHost", name := "install", desc := "()I" } : Jvm.MethodName)) ∈ lw_all := lw_g (lw_at lw_m3 164 rfl) rfl
theorem q801 : (Jvm.Cond.instanceMethod ({ cls := "WebHost", name := "install", desc := "()I" } : Jvm.MethodName)) ∈ lw_all := lw_g (lw_at lw_m3 165 rfl) rfl
theorem q802 : (Jvm.Cond.selects "WebHost" ({ cls := "WebHost", name := "install", desc := "()I" } : Jvm.MethodName) ({ cls := "WebHost", name := "install", desc := "()I" } : Jvm.MethodName)) ∈ lw_all := lw_g (lw_at lw_m3 166 rfl) rfl
theorem q803 : (Jvm.Cond.code ({ cls := "WebHost", name := "install", desc := "()I" } : Jvm.MethodName) prog_1_method_4_code (2 : Nat) (Option.some Jvm.ClassFile.FieldType.int)) ∈ lw_all := lw_g (lw_at lw_m3 167 rfl) rfl
theorem q804 : (Jvm.Cond.constant "WebHost" (97 : Nat) (65535 : Int32)) ∈ lw_all := lw_g (lw_at lw_m3 168 rfl) rfl
theorem q805 : (Jvm.Cond.methodLink "WebHost" (101 : Nat) ({ cls := "WebHost$Net", name := "copy", desc := "([BI[BII)V" } : Jvm.MethodName)) ∈ lw_all := lw_g (lw_at lw_m3 169 rfl) rfl
theorem q806 : (Jvm.Cond.static ({ cls := "WebHost$Net", name := "copy", desc := "([BI[BII)V" } : Jvm.MethodName)) ∈ lw_all := lw_g (lw_at lw_m3 170 rfl) rfl
theorem q807 : (Jvm.Cond.code ({ cls := "WebHost$Net", name := "copy", desc := "([BI[BII)V" } : Jvm.MethodName) prog_9_method_8_code (6 : Nat) (Option.none : Option Jvm.ClassFile.FieldType)) ∈ lw_all := lw_g (lw_at lw_m3 171 rfl) rfl
theorem q808 : (Jvm.Cond.methodLink "WebHostLaw" (28 : Nat) ({ cls := "WebHost", name := "boot", desc := "(IIIII)I" } : Jvm.MethodName)) ∈ lw_all := lw_g (lw_at lw_m3 172 rfl) rfl
theorem q809 : (Jvm.Cond.instanceMethod ({ cls := "WebHost", name := "boot", desc := "(IIIII)I" } : Jvm.MethodName)) ∈ lw_all := lw_g (lw_at lw_m3 173 rfl) rfl
theorem q810 : (Jvm.Cond.selects "WebHost" ({ cls := "WebHost", name := "boot", desc := "(IIIII)I" } : Jvm.MethodName) ({ cls := "WebHost", name := "boot", desc := "(IIIII)I" } : Jvm.MethodName)) ∈ lw_all := lw_g (lw_at lw_m3 174 rfl) rfl
theorem q811 : (Jvm.Cond.code ({ cls := "WebHost", name := "boot", desc := "(IIIII)I" } : Jvm.MethodName) prog_1_method_5_code (9 : Nat) (Option.some Jvm.ClassFile.FieldType.int)) ∈ lw_all := lw_g (lw_at lw_m3 175 rfl) rfl
theorem q812 : (Jvm.Cond.methodLink "WebHost" (109 : Nat) ({ cls := "WebHost$Net", name := "isUsual", desc := "(I)Z" } : Jvm.MethodName)) ∈ lw_all := lw_g (lw_at lw_m3 176 rfl) rfl
theorem q813 : (Jvm.Cond.static ({ cls := "WebHost$Net", name := "isUsual", desc := "(I)Z" } : Jvm.MethodName)) ∈ lw_all := lw_g (lw_at lw_m3 177 rfl) rfl
theorem q814 : (Jvm.Cond.code ({ cls := "WebHost$Net", name := "isUsual", desc := "(I)Z" } : Jvm.MethodName) prog_9_method_10_code (2 : Nat) (Option.some Jvm.ClassFile.FieldType.boolean)) ∈ lw_all := lw_g (lw_at lw_m3 178 rfl) rfl
theorem q815 : (Jvm.Cond.methodLink "WebHost" (113 : Nat) ({ cls := "WebHost$Store", name := "open", desc := "()I" } : Jvm.MethodName)) ∈ lw_all := lw_g (lw_at lw_m3 179 rfl) rfl
theorem q816 : (Jvm.Cond.instanceMethod ({ cls := "WebHost$Store", name := "open", desc := "()I" } : Jvm.MethodName)) ∈ lw_all := lw_g (lw_at lw_m3 180 rfl) rfl
theorem q817 : (Jvm.Cond.selects "WebHost$Store" ({ cls := "WebHost$Store", name := "open", desc := "()I" } : Jvm.MethodName) ({ cls := "WebHost$Store", name := "open", desc := "()I" } : Jvm.MethodName)) ∈ lw_all := lw_g (lw_at lw_m3 181 rfl) rfl
theorem q818 : (Jvm.Cond.code ({ cls := "WebHost$Store", name := "open", desc := "()I" } : Jvm.MethodName) prog_13_method_9_code (5 : Nat) (Option.some Jvm.ClassFile.FieldType.int)) ∈ lw_all := lw_g (lw_at lw_m3 182 rfl) rfl
theorem q819 : (Jvm.Cond.methodLink "WebHost$Store" (27 : Nat) ({ cls := "WebHost$Net", name := "four", desc := "([BI)I" } : Jvm.MethodName)) ∈ lw_all := lw_g (lw_at lw_m3 183 rfl) rfl
theorem q820 : (Jvm.Cond.static ({ cls := "WebHost$Net", name := "four", desc := "([BI)I" } : Jvm.MethodName)) ∈ lw_all := lw_g (lw_at lw_m3 184 rfl) rfl
theorem q821 : (Jvm.Cond.code ({ cls := "WebHost$Net", name := "four", desc := "([BI)I" } : Jvm.MethodName) prog_9_method_3_code (2 : Nat) (Option.some Jvm.ClassFile.FieldType.int)) ∈ lw_all := lw_g (lw_at lw_m3 185 rfl) rfl
theorem q822 : (Jvm.Cond.methodLink "WebHost$Net" (7 : Nat) ({ cls := "WebHost$Net", name := "two", desc := "([BI)I" } : Jvm.MethodName)) ∈ lw_all := lw_g (lw_at lw_m3 186 rfl) rfl
theorem q823 : (Jvm.Cond.static ({ cls := "WebHost$Net", name := "two", desc := "([BI)I" } : Jvm.MethodName)) ∈ lw_all := lw_g (lw_at lw_m3 187 rfl) rfl
theorem q824 : (Jvm.Cond.code ({ cls := "WebHost$Net", name := "two", desc := "([BI)I" } : Jvm.MethodName) prog_9_method_2_code (2 : Nat) (Option.some Jvm.ClassFile.FieldType.int)) ∈ lw_all := lw_g (lw_at lw_m3 188 rfl) rfl
theorem q825 : (Jvm.Cond.constant "WebHost$Store" (33 : Nat) (1398034258 : Int32)) ∈ lw_all := lw_g (lw_at lw_m3 189 rfl) rfl
theorem q826 : (Jvm.Cond.methodLink "WebHost$Store" (34 : Nat) ({ cls := "WebHost$Net", name := "two", desc := "([BI)I" } : Jvm.MethodName)) ∈ lw_all := lw_g (lw_at lw_m3 190 rfl) rfl
theorem q827 : (Jvm.Cond.methodLink "WebHost$Store" (20 : Nat) ({ cls := "WebHost$Store", name := "entry", desc := "(I)I" } : Jvm.MethodName)) ∈ lw_all := lw_g (lw_at lw_m3 191 rfl) rfl
theorem q828 : (Jvm.Cond.privateMethod ({ cls := "WebHost$Store", name := "entry", desc := "(I)I" } : Jvm.MethodName)) ∈ lw_tbl := lw_at lw_m3 192 rfl
theorem q829 : (Jvm.Cond.instanceMethod ({ cls := "WebHost$Store", name := "entry", desc := "(I)I" } : Jvm.MethodName)) ∈ lw_all := lw_g (lw_at lw_m3 193 rfl) rfl
theorem q830 : (Jvm.Cond.code ({ cls := "WebHost$Store", name := "entry", desc := "(I)I" } : Jvm.MethodName) prog_13_method_4_code (2 : Nat) (Option.some Jvm.ClassFile.FieldType.int)) ∈ lw_all := lw_g (lw_at lw_m3 194 rfl) rfl
theorem q831 : (Jvm.Cond.methodLink "WebHost$Store" (37 : Nat) ({ cls := "WebHost$Store", name := "check", desc := "(II)I" } : Jvm.MethodName)) ∈ lw_all := lw_g (lw_at lw_m3 195 rfl) rfl
theorem q832 : (Jvm.Cond.instanceMethod ({ cls := "WebHost$Store", name := "check", desc := "(II)I" } : Jvm.MethodName)) ∈ lw_all := lw_g (lw_at lw_m3 196 rfl) rfl
theorem q833 : (Jvm.Cond.selects "WebHost$Store" ({ cls := "WebHost$Store", name := "check", desc := "(II)I" } : Jvm.MethodName) ({ cls := "WebHost$Store", name := "check", desc := "(II)I" } : Jvm.MethodName)) ∈ lw_all := lw_g (lw_at lw_m3 197 rfl) rfl
theorem q834 : (Jvm.Cond.code ({ cls := "WebHost$Store", name := "check", desc := "(II)I" } : Jvm.MethodName) prog_13_method_3_code (6 : Nat) (Option.some Jvm.ClassFile.FieldType.int)) ∈ lw_all := lw_g (lw_at lw_m3 198 rfl) rfl
theorem q835 : (Jvm.Cond.constant "WebHost$Store" (19 : Nat) (-306674912 : Int32)) ∈ lw_all := lw_g (lw_at lw_m3 199 rfl) rfl
theorem q836 : (Jvm.Cond.methodLink "WebHost$Store" (41 : Nat) ({ cls := "WebHost$Store", name := "isRight", desc := "(I)Z" } : Jvm.MethodName)) ∈ lw_all := lw_g (lw_at lw_m3 200 rfl) rfl
theorem q837 : (Jvm.Cond.privateMethod ({ cls := "WebHost$Store", name := "isRight", desc := "(I)Z" } : Jvm.MethodName)) ∈ lw_tbl := lw_at lw_m3 201 rfl
theorem q838 : (Jvm.Cond.instanceMethod ({ cls := "WebHost$Store", name := "isRight", desc := "(I)Z" } : Jvm.MethodName)) ∈ lw_all := lw_g (lw_at lw_m3 202 rfl) rfl
theorem q839 : (Jvm.Cond.code ({ cls := "WebHost$Store", name := "isRight", desc := "(I)Z" } : Jvm.MethodName) prog_13_method_10_code (6 : Nat) (Option.some Jvm.ClassFile.FieldType.boolean)) ∈ lw_all := lw_g (lw_at lw_m3 203 rfl) rfl
theorem q840 : (Jvm.Cond.methodLink "WebHost$Store" (53 : Nat) ({ cls := "WebHost$Store", name := "nameLength", desc := "(I)I" } : Jvm.MethodName)) ∈ lw_all := lw_g (lw_at lw_m3 204 rfl) rfl
theorem q841 : (Jvm.Cond.privateMethod ({ cls := "WebHost$Store", name := "nameLength", desc := "(I)I" } : Jvm.MethodName)) ∈ lw_tbl := lw_at lw_m3 205 rfl
theorem q842 : (Jvm.Cond.instanceMethod ({ cls := "WebHost$Store", name := "nameLength", desc := "(I)I" } : Jvm.MethodName)) ∈ lw_all := lw_g (lw_at lw_m3 206 rfl) rfl
theorem q843 : (Jvm.Cond.code ({ cls := "WebHost$Store", name := "nameLength", desc := "(I)I" } : Jvm.MethodName) prog_13_method_5_code (3 : Nat) (Option.some Jvm.ClassFile.FieldType.int)) ∈ lw_all := lw_g (lw_at lw_m3 207 rfl) rfl
theorem q844 : (Jvm.Cond.methodLink "WebHost$Store" (24 : Nat) ({ cls := "WebHost$Store", name := "look", desc := "(I)I" } : Jvm.MethodName)) ∈ lw_all := lw_g (lw_at lw_m3 208 rfl) rfl
theorem q845 : (Jvm.Cond.privateMethod ({ cls := "WebHost$Store", name := "look", desc := "(I)I" } : Jvm.MethodName)) ∈ lw_tbl := lw_at lw_m3 209 rfl
theorem q846 : (Jvm.Cond.instanceMethod ({ cls := "WebHost$Store", name := "look", desc := "(I)I" } : Jvm.MethodName)) ∈ lw_all := lw_g (lw_at lw_m3 210 rfl) rfl
theorem q847 : (Jvm.Cond.code ({ cls := "WebHost$Store", name := "look", desc := "(I)I" } : Jvm.MethodName) prog_13_method_2_code (2 : Nat) (Option.some Jvm.ClassFile.FieldType.int)) ∈ lw_all := lw_g (lw_at lw_m3 211 rfl) rfl
theorem q848 : (Jvm.Cond.methodLink "WebHost$Store" (56 : Nat) ({ cls := "WebHost$Store", name := "place", desc := "(I)I" } : Jvm.MethodName)) ∈ lw_all := lw_g (lw_at lw_m3 212 rfl) rfl
theorem q849 : (Jvm.Cond.instanceMethod ({ cls := "WebHost$Store", name := "place", desc := "(I)I" } : Jvm.MethodName)) ∈ lw_all := lw_g (lw_at lw_m3 213 rfl) rfl
theorem q850 : (Jvm.Cond.selects "WebHost$Store" ({ cls := "WebHost$Store", name := "place", desc := "(I)I" } : Jvm.MethodName) ({ cls := "WebHost$Store", name := "place", desc := "(I)I" } : Jvm.MethodName)) ∈ lw_all := lw_g (lw_at lw_m3 214 rfl) rfl
theorem q851 : (Jvm.Cond.code ({ cls := "WebHost$Store", name := "place", desc := "(I)I" } : Jvm.MethodName) prog_13_method_6_code (2 : Nat) (Option.some Jvm.ClassFile.FieldType.int)) ∈ lw_all := lw_g (lw_at lw_m3 215 rfl) rfl
theorem q852 : (Jvm.Cond.methodLink "WebHost$Store" (59 : Nat) ({ cls := "WebHost$Store", name := "length", desc := "(I)I" } : Jvm.MethodName)) ∈ lw_all := lw_g (lw_at lw_m3 216 rfl) rfl
theorem q853 : (Jvm.Cond.instanceMethod ({ cls := "WebHost$Store", name := "length", desc := "(I)I" } : Jvm.MethodName)) ∈ lw_all := lw_g (lw_at lw_m3 217 rfl) rfl
theorem q854 : (Jvm.Cond.selects "WebHost$Store" ({ cls := "WebHost$Store", name := "length", desc := "(I)I" } : Jvm.MethodName) ({ cls := "WebHost$Store", name := "length", desc := "(I)I" } : Jvm.MethodName)) ∈ lw_all := lw_g (lw_at lw_m3 218 rfl) rfl
theorem q855 : (Jvm.Cond.code ({ cls := "WebHost$Store", name := "length", desc := "(I)I" } : Jvm.MethodName) prog_13_method_7_code (2 : Nat) (Option.some Jvm.ClassFile.FieldType.int)) ∈ lw_all := lw_g (lw_at lw_m3 219 rfl) rfl
theorem q856 : (Jvm.Cond.methodLink "WebHost$Store" (62 : Nat) ({ cls := "WebHost$Store", name := "isNamed", desc := "(I[BII)Z" } : Jvm.MethodName)) ∈ lw_all := lw_g (lw_at lw_m3 220 rfl) rfl
theorem q857 : (Jvm.Cond.privateMethod ({ cls := "WebHost$Store", name := "isNamed", desc := "(I[BII)Z" } : Jvm.MethodName)) ∈ lw_tbl := lw_at lw_m3 221 rfl
theorem q858 : (Jvm.Cond.instanceMethod ({ cls := "WebHost$Store", name := "isNamed", desc := "(I[BII)Z" } : Jvm.MethodName)) ∈ lw_all := lw_g (lw_at lw_m3 222 rfl) rfl
theorem q859 : (Jvm.Cond.code ({ cls := "WebHost$Store", name := "isNamed", desc := "(I[BII)Z" } : Jvm.MethodName) prog_13_method_11_code (6 : Nat) (Option.some Jvm.ClassFile.FieldType.boolean)) ∈ lw_all := lw_g (lw_at lw_m3 223 rfl) rfl
theorem q860 : (Jvm.Cond.methodLink "WebHost$Store" (45 : Nat) ({ cls := "WebHost$Net", name := "copy", desc := "([BI[BII)V" } : Jvm.MethodName)) ∈ lw_all := lw_g (lw_at lw_m3 224 rfl) rfl
theorem q861 : (Jvm.Cond.methodLink "WebHost" (120 : Nat) ({ cls := "WebHost$Device", name := "begin", desc := "(II)V" } : Jvm.MethodName)) ∈ lw_all := lw_g (lw_at lw_m3 225 rfl) rfl
theorem q862 : (Jvm.Cond.instanceMethod ({ cls := "WebHost$Device", name := "begin", desc := "(II)V" } : Jvm.MethodName)) ∈ lw_all := lw_g (lw_at lw_m3 226 rfl) rfl
theorem q863 : (Jvm.Cond.selects "WebHost$Device" ({ cls := "WebHost$Device", name := "begin", desc := "(II)V" } : Jvm.MethodName) ({ cls := "WebHost$Device", name := "begin", desc := "(II)V" } : Jvm.MethodName)) ∈ lw_all := lw_g (lw_at lw_m3 227 rfl) rfl
theorem q864 : (Jvm.Cond.code ({ cls := "WebHost$Device", name := "begin", desc := "(II)V" } : Jvm.MethodName) prog_4_method_2_code (3 : Nat) (Option.none : Option Jvm.ClassFile.FieldType)) ∈ lw_all := lw_g (lw_at lw_m3 228 rfl) rfl
theorem q865 : (Jvm.Cond.methodLink "WebHost$Device" (34 : Nat) ({ cls := "WebHost$Net", name := "putTwo", desc := "([BII)V" } : Jvm.MethodName)) ∈ lw_all := lw_g (lw_at lw_m3 229 rfl) rfl
theorem q866 : (Jvm.Cond.methodLink "WebHost$Device" (40 : Nat) ({ cls := "WebHost$Net", name := "putFour", desc := "([BII)V" } : Jvm.MethodName)) ∈ lw_all := lw_g (lw_at lw_m3 230 rfl) rfl
theorem q867 : (Jvm.Cond.methodLink "WebHost" (124 : Nat) ({ cls := "WebHost$Hops", name := "begin", desc := "(III)V" } : Jvm.MethodName)) ∈ lw_all := lw_g (lw_at lw_m3 231 rfl) rfl
theorem q868 : (Jvm.Cond.instanceMethod ({ cls := "WebHost$Hops", name := "begin", desc := "(III)V" } : Jvm.MethodName)) ∈ lw_all := lw_g (lw_at lw_m3 232 rfl) rfl
theorem q869 : (Jvm.Cond.selects "WebHost$Hops" ({ cls := "WebHost$Hops", name := "begin", desc := "(III)V" } : Jvm.MethodName) ({ cls := "WebHost$Hops", name := "begin", desc := "(III)V" } : Jvm.MethodName)) ∈ lw_all := lw_g (lw_at lw_m3 233 rfl) rfl
theorem q870 : (Jvm.Cond.code ({ cls := "WebHost$Hops", name := "begin", desc := "(III)V" } : Jvm.MethodName) prog_6_method_2_code (4 : Nat) (Option.none : Option Jvm.ClassFile.FieldType)) ∈ lw_all := lw_g (lw_at lw_m3 234 rfl) rfl
theorem q871 : (Jvm.Cond.methodLink "WebHost" (127 : Nat) ({ cls := "WebHost$Packets", name := "begin", desc := "(I)V" } : Jvm.MethodName)) ∈ lw_all := lw_g (lw_at lw_m3 235 rfl) rfl
theorem q872 : (Jvm.Cond.instanceMethod ({ cls := "WebHost$Packets", name := "begin", desc := "(I)V" } : Jvm.MethodName)) ∈ lw_all := lw_g (lw_at lw_m3 236 rfl) rfl
theorem q873 : (Jvm.Cond.selects "WebHost$Packets" ({ cls := "WebHost$Packets", name := "begin", desc := "(I)V" } : Jvm.MethodName) ({ cls := "WebHost$Packets", name := "begin", desc := "(I)V" } : Jvm.MethodName)) ∈ lw_all := lw_g (lw_at lw_m3 237 rfl) rfl
theorem q874 : (Jvm.Cond.code ({ cls := "WebHost$Packets", name := "begin", desc := "(I)V" } : Jvm.MethodName) prog_10_method_2_code (2 : Nat) (Option.none : Option Jvm.ClassFile.FieldType)) ∈ lw_all := lw_g (lw_at lw_m3 238 rfl) rfl
theorem q875 : (Jvm.Cond.methodLink "WebHost" (130 : Nat) ({ cls := "WebHost$Fragments", name := "begin", desc := "()V" } : Jvm.MethodName)) ∈ lw_all := lw_g (lw_at lw_m3 239 rfl) rfl
theorem q876 : (Jvm.Cond.instanceMethod ({ cls := "WebHost$Fragments", name := "begin", desc := "()V" } : Jvm.MethodName)) ∈ lw_all := lw_g (lw_at lw_m4 0 rfl) rfl
theorem q877 : (Jvm.Cond.selects "WebHost$Fragments" ({ cls := "WebHost$Fragments", name := "begin", desc := "()V" } : Jvm.MethodName) ({ cls := "WebHost$Fragments", name := "begin", desc := "()V" } : Jvm.MethodName)) ∈ lw_all := lw_g (lw_at lw_m4 1 rfl) rfl
theorem q878 : (Jvm.Cond.code ({ cls := "WebHost$Fragments", name := "begin", desc := "()V" } : Jvm.MethodName) prog_5_method_2_code (1 : Nat) (Option.none : Option Jvm.ClassFile.FieldType)) ∈ lw_all := lw_g (lw_at lw_m4 2 rfl) rfl
theorem q879 : (Jvm.Cond.methodLink "WebHost" (132 : Nat) ({ cls := "WebHost$Wire", name := "begin", desc := "(I)V" } : Jvm.MethodName)) ∈ lw_all := lw_g (lw_at lw_m4 3 rfl) rfl
theorem q880 : (Jvm.Cond.instanceMethod ({ cls := "WebHost$Wire", name := "begin", desc := "(I)V" } : Jvm.MethodName)) ∈ lw_all := lw_g (lw_at lw_m4 4 rfl) rfl
theorem q881 : (Jvm.Cond.selects "WebHost$Wire" ({ cls := "WebHost$Wire", name := "begin", desc := "(I)V" } : Jvm.MethodName) ({ cls := "WebHost$Wire", name := "begin", desc := "(I)V" } : Jvm.MethodName)) ∈ lw_all := lw_g (lw_at lw_m4 5 rfl) rfl
theorem q882 : (Jvm.Cond.code ({ cls := "WebHost$Wire", name := "begin", desc := "(I)V" } : Jvm.MethodName) prog_15_method_2_code (2 : Nat) (Option.none : Option Jvm.ClassFile.FieldType)) ∈ lw_all := lw_g (lw_at lw_m4 6 rfl) rfl
theorem q883 : (Jvm.Cond.methodLinkNest "WebHost" (133 : Nat) ({ cls := "WebHost$Connection", name := "gone", desc := "()V" } : Jvm.MethodName) "WebHost") ∈ lw_tbl := lw_at lw_m4 7 rfl
theorem q884 : (Jvm.Cond.privateMethod ({ cls := "WebHost$Connection", name := "gone", desc := "()V" } : Jvm.MethodName)) ∈ lw_tbl := lw_at lw_m4 8 rfl
theorem q885 : (Jvm.Cond.instanceMethod ({ cls := "WebHost$Connection", name := "gone", desc := "()V" } : Jvm.MethodName)) ∈ lw_all := lw_g (lw_at lw_m4 9 rfl) rfl
theorem q886 : (Jvm.Cond.code ({ cls := "WebHost$Connection", name := "gone", desc := "()V" } : Jvm.MethodName) prog_3_method_15_code (1 : Nat) (Option.none : Option Jvm.ClassFile.FieldType)) ∈ lw_all := lw_g (lw_at lw_m4 10 rfl) rfl
theorem q887 : (Jvm.Cond.methodLink "WebHostLaw" (36 : Nat) ({ cls := "WebHost", name := "pass", desc := "(I)I" } : Jvm.MethodName)) ∈ lw_all := lw_g (lw_at lw_m4 11 rfl) rfl
theorem q888 : (Jvm.Cond.instanceMethod ({ cls := "WebHost", name := "pass", desc := "(I)I" } : Jvm.MethodName)) ∈ lw_all := lw_g (lw_at lw_m4 12 rfl) rfl
theorem q889 : (Jvm.Cond.selects "WebHost" ({ cls := "WebHost", name := "pass", desc := "(I)I" } : Jvm.MethodName) ({ cls := "WebHost", name := "pass", desc := "(I)I" } : Jvm.MethodName)) ∈ lw_all := lw_g (lw_at lw_m4 13 rfl) rfl
theorem q890 : (Jvm.Cond.code ({ cls := "WebHost", name := "pass", desc := "(I)I" } : Jvm.MethodName) prog_1_method_10_code (4 : Nat) (Option.some Jvm.ClassFile.FieldType.int)) ∈ lw_all := lw_g (lw_at lw_m4 14 rfl) rfl
theorem q891 : (Jvm.Cond.methodLink "WebHost" (173 : Nat) ({ cls := "WebHost", name := "refusal", desc := "(I)I" } : Jvm.MethodName)) ∈ lw_all := lw_g (lw_at lw_m4 15 rfl) rfl
theorem q892 : (Jvm.Cond.privateMethod ({ cls := "WebHost", name := "refusal", desc := "(I)I" } : Jvm.MethodName)) ∈ lw_tbl := lw_at lw_m4 16 rfl
theorem q893 : (Jvm.Cond.instanceMethod ({ cls := "WebHost", name := "refusal", desc := "(I)I" } : Jvm.MethodName)) ∈ lw_all := lw_g (lw_at lw_m4 17 rfl) rfl
theorem q894 : (Jvm.Cond.code ({ cls := "WebHost", name := "refusal", desc := "(I)I" } : Jvm.MethodName) prog_1_method_6_code (2 : Nat) (Option.some Jvm.ClassFile.FieldType.int)) ∈ lw_all := lw_g (lw_at lw_m4 18 rfl) rfl
theorem q895 : (Jvm.Cond.constant "WebHost" (142 : Nat) (600000 : Int32)) ∈ lw_all := lw_g (lw_at lw_m4 19 rfl) rfl
theorem q896 : (Jvm.Cond.constant "WebHost" (143 : Nat) (2000000000 : Int32)) ∈ lw_all := lw_g (lw_at lw_m4 20 rfl) rfl
theorem q897 : (Jvm.Cond.methodLink "WebHost" (180 : Nat) ({ cls := "WebHost", name := "goOn", desc := "(I)V" } : Jvm.MethodName)) ∈ lw_all := lw_g (lw_at lw_m4 21 rfl) rfl
theorem q898 : (Jvm.Cond.privateMethod ({ cls := "WebHost", name := "goOn", desc := "(I)V" } : Jvm.MethodName)) ∈ lw_tbl := lw_at lw_m4 22 rfl
theorem q899 : (Jvm.Cond.instanceMethod ({ cls := "WebHost", name := "goOn", desc := "(I)V" } : Jvm.MethodName)) ∈ lw_all := lw_g (lw_at lw_m4 23 rfl) rfl
theorem q900 : (Jvm.Cond.code ({ cls := "WebHost", name := "goOn", desc := "(I)V" } : Jvm.MethodName) prog_1_method_8_code (3 : Nat) (Option.none : Option Jvm.ClassFile.FieldType)) ∈ lw_all := lw_g (lw_at lw_m4 24 rfl) rfl
theorem q901 : (Jvm.Cond.methodLink "WebHost" (160 : Nat) ({ cls := "WebHost", name := "due", desc := "()I" } : Jvm.MethodName)) ∈ lw_all := lw_g (lw_at lw_m4 25 rfl) rfl
theorem q902 : (Jvm.Cond.privateMethod ({ cls := "WebHost", name := "due", desc := "()I" } : Jvm.MethodName)) ∈ lw_tbl := lw_at lw_m4 26 rfl
theorem q903 : (Jvm.Cond.instanceMethod ({ cls := "WebHost", name := "due", desc := "()I" } : Jvm.MethodName)) ∈ lw_all := lw_g (lw_at lw_m4 27 rfl) rfl
theorem q904 : (Jvm.Cond.code ({ cls := "WebHost", name := "due", desc := "()I" } : Jvm.MethodName) prog_1_method_7_code (3 : Nat) (Option.some Jvm.ClassFile.FieldType.int)) ∈ lw_all := lw_g (lw_at lw_m4 28 rfl) rfl
theorem q905 : (Jvm.Cond.methodLink "WebHost" (144 : Nat) ({ cls := "WebHost$Hops", name := "due", desc := "()I" } : Jvm.MethodName)) ∈ lw_all := lw_g (lw_at lw_m4 29 rfl) rfl
theorem q906 : (Jvm.Cond.instanceMethod ({ cls := "WebHost$Hops", name := "due", desc := "()I" } : Jvm.MethodName)) ∈ lw_all := lw_g (lw_at lw_m4 30 rfl) rfl
theorem q907 : (Jvm.Cond.selects "WebHost$Hops" ({ cls := "WebHost$Hops", name := "due", desc := "()I" } : Jvm.MethodName) ({ cls := "WebHost$Hops", name := "due", desc := "()I" } : Jvm.MethodName)) ∈ lw_all := lw_g (lw_at lw_m4 31 rfl) rfl
theorem q908 : (Jvm.Cond.code ({ cls := "WebHost$Hops", name := "due", desc := "()I" } : Jvm.MethodName) prog_6_method_12_code (3 : Nat) (Option.some Jvm.ClassFile.FieldType.int)) ∈ lw_all := lw_g (lw_at lw_m4 32 rfl) rfl
theorem q909 : (Jvm.Cond.constant "WebHost$Hops" (133 : Nat) (2147483647 : Int32)) ∈ lw_all := lw_g (lw_at lw_m4 33 rfl) rfl
theorem q910 : (Jvm.Cond.methodLink "WebHost$Hops" (134 : Nat) ({ cls := "WebHost$Waiting", name := "due", desc := "()I" } : Jvm.MethodName)) ∈ lw_all := lw_g (lw_at lw_m4 34 rfl) rfl
theorem q911 : (Jvm.Cond.instanceMethod ({ cls := "WebHost$Waiting", name := "due", desc := "()I" } : Jvm.MethodName)) ∈ lw_all := lw_g (lw_at lw_m4 35 rfl) rfl
theorem q912 : (Jvm.Cond.selects "WebHost$Waiting" ({ cls := "WebHost$Waiting", name := "due", desc := "()I" } : Jvm.MethodName) ({ cls := "WebHost$Waiting", name := "due", desc := "()I" } : Jvm.MethodName)) ∈ lw_all := lw_g (lw_at lw_m4 36 rfl) rfl
theorem q913 : (Jvm.Cond.code ({ cls := "WebHost$Waiting", name := "due", desc := "()I" } : Jvm.MethodName) prog_14_method_2_code (1 : Nat) (Option.some Jvm.ClassFile.FieldType.int)) ∈ lw_all := lw_g (lw_at lw_m4 37 rfl) rfl
theorem q914 : (Jvm.Cond.methodLink "WebHost$Hops" (137 : Nat) ({ cls := "java/lang/Math", name := "min", desc := "(II)I" } : Jvm.MethodName)) ∈ lw_all := lw_g (lw_at lw_m4 38 rfl) rfl
theorem q915 : (Jvm.Cond.static ({ cls := "java/lang/Math", name := "min", desc := "(II)I" } : Jvm.MethodName)) ∈ lw_all := lw_g (lw_at lw_m4 39 rfl) rfl
theorem q916 : (Jvm.Cond.code ({ cls := "java/lang/Math", name := "min", desc := "(II)I" } : Jvm.MethodName) prog_23_method_69_code (2 : Nat) (Option.some Jvm.ClassFile.FieldType.int)) ∈ lw_all := lw_g (lw_at lw_m4 40 rfl) rfl
theorem q917 : (Jvm.Cond.methodLink "WebHost" (147 : Nat) ({ cls := "WebHost$Fragments", name := "due", desc := "()I" } : Jvm.MethodName)) ∈ lw_all := lw_g (lw_at lw_m4 41 rfl) rfl
theorem q918 : (Jvm.Cond.instanceMethod ({ cls := "WebHost$Fragments", name := "due", desc := "()I" } : Jvm.MethodName)) ∈ lw_all := lw_g (lw_at lw_m4 42 rfl) rfl
theorem q919 : (Jvm.Cond.selects "WebHost$Fragments" ({ cls := "WebHost$Fragments", name := "due", desc := "()I" } : Jvm.MethodName) ({ cls := "WebHost$Fragments", name := "due", desc := "()I" } : Jvm.MethodName)) ∈ lw_all := lw_g (lw_at lw_m4 43 rfl) rfl
theorem q920 : (Jvm.Cond.code ({ cls := "WebHost$Fragments", name := "due", desc := "()I" } : Jvm.MethodName) prog_5_method_7_code (1 : Nat) (Option.some Jvm.ClassFile.FieldType.int)) ∈ lw_all := lw_g (lw_at lw_m4 44 rfl) rfl
theorem q921 : (Jvm.Cond.constant "WebHost$Fragments" (54 : Nat) (2147483647 : Int32)) ∈ lw_all := lw_g (lw_at lw_m4 45 rfl) rfl
theorem q922 : (Jvm.Cond.methodLink "WebHost" (148 : Nat) ({ cls := "java/lang/Math", name := "min", desc := "(II)I" } : Jvm.MethodName)) ∈ lw_all := lw_g (lw_at lw_m4 46 rfl) rfl
theorem q923 : (Jvm.Cond.methodLink "WebHost" (154 : Nat) ({ cls := "WebHost$Connection", name := "timerDue", desc := "()I" } : Jvm.MethodName)) ∈ lw_all := lw_g (lw_at lw_m4 47 rfl) rfl
theorem q924 : (Jvm.Cond.instanceMethod ({ cls := "WebHost$Connection", name := "timerDue", desc := "()I" } : Jvm.MethodName)) ∈ lw_all := lw_g (lw_at lw_m4 48 rfl) rfl
theorem q925 : (Jvm.Cond.selects "WebHost$Connection" ({ cls := "WebHost$Connection", name := "timerDue", desc := "()I" } : Jvm.MethodName) ({ cls := "WebHost$Connection", name := "timerDue", desc := "()I" } : Jvm.MethodName)) ∈ lw_all := lw_g (lw_at lw_m4 49 rfl) rfl
theorem q926 : (Jvm.Cond.code ({ cls := "WebHost$Connection", name := "timerDue", desc := "()I" } : Jvm.MethodName) prog_3_method_32_code (1 : Nat) (Option.some Jvm.ClassFile.FieldType.int)) ∈ lw_all := lw_g (lw_at lw_m4 50 rfl) rfl
theorem q927 : (Jvm.Cond.constant "WebHost$Connection" (325 : Nat) (2147483647 : Int32)) ∈ lw_all := lw_g (lw_at lw_m4 51 rfl) rfl
theorem q928 : (Jvm.Cond.methodLink "WebHost" (157 : Nat) ({ cls := "WebHost$Connection", name := "lifeDue", desc := "()I" } : Jvm.MethodName)) ∈ lw_all := lw_g (lw_at lw_m4 52 rfl) rfl
theorem q929 : (Jvm.Cond.instanceMethod ({ cls := "WebHost$Connection", name := "lifeDue", desc := "()I" } : Jvm.MethodName)) ∈ lw_all := lw_g (lw_at lw_m4 53 rfl) rfl
theorem q930 : (Jvm.Cond.selects "WebHost$Connection" ({ cls := "WebHost$Connection", name := "lifeDue", desc := "()I" } : Jvm.MethodName) ({ cls := "WebHost$Connection", name := "lifeDue", desc := "()I" } : Jvm.MethodName)) ∈ lw_all := lw_g (lw_at lw_m4 54 rfl) rfl
theorem q931 : (Jvm.Cond.code ({ cls := "WebHost$Connection", name := "lifeDue", desc := "()I" } : Jvm.MethodName) prog_3_method_33_code (1 : Nat) (Option.some Jvm.ClassFile.FieldType.int)) ∈ lw_all := lw_g (lw_at lw_m4 55 rfl) rfl
theorem q932 : (Jvm.Cond.methodLink "WebHost" (161 : Nat) ({ cls := "WebHost", name := "act", desc := "(I)V" } : Jvm.MethodName)) ∈ lw_all := lw_g (lw_at lw_m4 56 rfl) rfl
theorem q933 : (Jvm.Cond.privateMethod ({ cls := "WebHost", name := "act", desc := "(I)V" } : Jvm.MethodName)) ∈ lw_tbl := lw_at lw_m4 57 rfl
theorem q934 : (Jvm.Cond.instanceMethod ({ cls := "WebHost", name := "act", desc := "(I)V" } : Jvm.MethodName)) ∈ lw_all := lw_g (lw_at lw_m4 58 rfl) rfl
theorem q935 : (Jvm.Cond.code ({ cls := "WebHost", name := "act", desc := "(I)V" } : Jvm.MethodName) prog_1_method_9_code (3 : Nat) (Option.none : Option Jvm.ClassFile.FieldType)) ∈ lw_all := lw_g (lw_at lw_m4 59 rfl) rfl
theorem q936 : (Jvm.Cond.methodLink "WebHost" (164 : Nat) ({ cls := "WebHost$Hops", name := "act", desc := "()V" } : Jvm.MethodName)) ∈ lw_all := lw_g (lw_at lw_m4 60 rfl) rfl
theorem q937 : (Jvm.Cond.instanceMethod ({ cls := "WebHost$Hops", name := "act", desc := "()V" } : Jvm.MethodName)) ∈ lw_all := lw_g (lw_at lw_m4 61 rfl) rfl
theorem q938 : (Jvm.Cond.selects "WebHost$Hops" ({ cls := "WebHost$Hops", name := "act", desc := "()V" } : Jvm.MethodName) ({ cls := "WebHost$Hops", name := "act", desc := "()V" } : Jvm.MethodName)) ∈ lw_all := lw_g (lw_at lw_m4 62 rfl) rfl
theorem q939 : (Jvm.Cond.code ({ cls := "WebHost$Hops", name := "act", desc := "()V" } : Jvm.MethodName) prog_6_method_13_code (2 : Nat) (Option.none : Option Jvm.ClassFile.FieldType)) ∈ lw_all := lw_g (lw_at lw_m4 63 rfl) rfl
theorem q940 : (Jvm.Cond.methodLink "WebHost$Hops" (99 : Nat) ({ cls := "WebHost$Hops", name := "remove", desc := "(I)V" } : Jvm.MethodName)) ∈ lw_all := lw_g (lw_at lw_m4 64 rfl) rfl
theorem q941 : (Jvm.Cond.privateMethod ({ cls := "WebHost$Hops", name := "remove", desc := "(I)V" } : Jvm.MethodName)) ∈ lw_tbl := lw_at lw_m4 65 rfl
theorem q942 : (Jvm.Cond.instanceMethod ({ cls := "WebHost$Hops", name := "remove", desc := "(I)V" } : Jvm.MethodName)) ∈ lw_all := lw_g (lw_at lw_m4 66 rfl) rfl
theorem q943 : (Jvm.Cond.code ({ cls := "WebHost$Hops", name := "remove", desc := "(I)V" } : Jvm.MethodName) prog_6_method_9_code (4 : Nat) (Option.none : Option Jvm.ClassFile.FieldType)) ∈ lw_all := lw_g (lw_at lw_m4 67 rfl) rfl
theorem q944 : (Jvm.Cond.methodLink "WebHost$Hops" (80 : Nat) ({ cls := "WebHost$Hops", name := "tell", desc := "(I[BII)V" } : Jvm.MethodName)) ∈ lw_all := lw_g (lw_at lw_m4 68 rfl) rfl
theorem q945 : (Jvm.Cond.privateMethod ({ cls := "WebHost$Hops", name := "tell", desc := "(I[BII)V" } : Jvm.MethodName)) ∈ lw_tbl := lw_at lw_m4 69 rfl
theorem q946 : (Jvm.Cond.instanceMethod ({ cls := "WebHost$Hops", name := "tell", desc := "(I[BII)V" } : Jvm.MethodName)) ∈ lw_all := lw_g (lw_at lw_m4 70 rfl) rfl
theorem q947 : (Jvm.Cond.code ({ cls := "WebHost$Hops", name := "tell", desc := "(I[BII)V" } : Jvm.MethodName) prog_6_method_10_code (5 : Nat) (Option.none : Option Jvm.ClassFile.FieldType)) ∈ lw_all := lw_g (lw_at lw_m4 71 rfl) rfl
theorem q948 : (Jvm.Cond.constant "WebHost$Hops" (72 : Nat) (67584 : Int32)) ∈ lw_all := lw_g (lw_at lw_m4 72 rfl) rfl
theorem q949 : (Jvm.Cond.methodLink "WebHost$Hops" (111 : Nat) ({ cls := "WebHost$Net", name := "putFour", desc := "([BII)V" } : Jvm.MethodName)) ∈ lw_all := lw_g (lw_at lw_m4 73 rfl) rfl
theorem q950 : (Jvm.Cond.methodLink "WebHost$Hops" (115 : Nat) ({ cls := "WebHost$Net", name := "putTwo", desc := "([BII)V" } : Jvm.MethodName)) ∈ lw_all := lw_g (lw_at lw_m4 74 rfl) rfl
theorem q951 : (Jvm.Cond.methodLink "WebHost$Hops" (88 : Nat) ({ cls := "WebHost$Net", name := "copy", desc := "([BI[BII)V" } : Jvm.MethodName)) ∈ lw_all := lw_g (lw_at lw_m4 75 rfl) rfl
theorem q952 : (Jvm.Cond.methodLink "WebHost$Hops" (107 : Nat) ({ cls := "WebHost$Device", name := "send", desc := "([BII[BI)V" } : Jvm.MethodName)) ∈ lw_all := lw_g (lw_at lw_m4 76 rfl) rfl
theorem q953 : (Jvm.Cond.instanceMethod ({ cls := "WebHost$Device", name := "send", desc := "([BII[BI)V" } : Jvm.MethodName)) ∈ lw_all := lw_g (lw_at lw_m4 77 rfl) rfl
theorem q954 : (Jvm.Cond.selects "WebHost$Device" ({ cls := "WebHost$Device", name := "send", desc := "([BII[BI)V" } : Jvm.MethodName) ({ cls := "WebHost$Device", name := "send", desc := "([BII[BI)V" } : Jvm.MethodName)) ∈ lw_all := lw_g (lw_at lw_m4 78 rfl) rfl
theorem q955 : (Jvm.Cond.code ({ cls := "WebHost$Device", name := "send", desc := "([BII[BI)V" } : Jvm.MethodName) prog_4_method_3_code (10 : Nat) (Option.none : Option Jvm.ClassFile.FieldType)) ∈ lw_all := lw_g (lw_at lw_m4 79 rfl) rfl
theorem q956 : (Jvm.Cond.methodLink "WebHost$Device" (43 : Nat) ({ cls := "WebHost$Net", name := "copy", desc := "([BI[BII)V" } : Jvm.MethodName)) ∈ lw_all := lw_g (lw_at lw_m4 80 rfl) rfl
theorem q957 : (Jvm.Cond.methodLink "WebHost$Device" (47 : Nat) ({ cls := "java/lang/Math", name := "max", desc := "(II)I" } : Jvm.MethodName)) ∈ lw_all := lw_g (lw_at lw_m4 81 rfl) rfl
theorem q958 : (Jvm.Cond.static ({ cls := "java/lang/Math", name := "max", desc := "(II)I" } : Jvm.MethodName)) ∈ lw_all := lw_g (lw_at lw_m4 82 rfl) rfl
theorem q959 : (Jvm.Cond.code ({ cls := "java/lang/Math", name := "max", desc := "(II)I" } : Jvm.MethodName) prog_23_method_65_code (2 : Nat) (Option.some Jvm.ClassFile.FieldType.int)) ∈ lw_all := lw_g (lw_at lw_m4 83 rfl) rfl
theorem q960 : (Jvm.Cond.methodLink "WebHost" (166 : Nat) ({ cls := "WebHost$Fragments", name := "act", desc := "()V" } : Jvm.MethodName)) ∈ lw_all := lw_g (lw_at lw_m4 84 rfl) rfl
theorem q961 : (Jvm.Cond.instanceMethod ({ cls := "WebHost$Fragments", name := "act", desc := "()V" } : Jvm.MethodName)) ∈ lw_all := lw_g (lw_at lw_m4 85 rfl) rfl
theorem q962 : (Jvm.Cond.selects "WebHost$Fragments" ({ cls := "WebHost$Fragments", name := "act", desc := "()V" } : Jvm.MethodName) ({ cls := "WebHost$Fragments", name := "act", desc := "()V" } : Jvm.MethodName)) ∈ lw_all := lw_g (lw_at lw_m4 86 rfl) rfl
theorem q963 : (Jvm.Cond.code ({ cls := "WebHost$Fragments", name := "act", desc := "()V" } : Jvm.MethodName) prog_5_method_8_code (1 : Nat) (Option.none : Option Jvm.ClassFile.FieldType)) ∈ lw_all := lw_g (lw_at lw_m4 87 rfl) rfl
theorem q964 : (Jvm.Cond.methodLink "WebHost$Fragments" (44 : Nat) ({ cls := "WebHost$Fragments", name := "remove", desc := "(I)V" } : Jvm.MethodName)) ∈ lw_all := lw_g (lw_at lw_m4 88 rfl) rfl
theorem q965 : (Jvm.Cond.privateMethod ({ cls := "WebHost$Fragments", name := "remove", desc := "(I)V" } : Jvm.MethodName)) ∈ lw_tbl := lw_at lw_m4 89 rfl
theorem q966 : (Jvm.Cond.instanceMethod ({ cls := "WebHost$Fragments", name := "remove", desc := "(I)V" } : Jvm.MethodName)) ∈ lw_all := lw_g (lw_at lw_m4 90 rfl) rfl
theorem q967 : (Jvm.Cond.code ({ cls := "WebHost$Fragments", name := "remove", desc := "(I)V" } : Jvm.MethodName) prog_5_method_3_code (4 : Nat) (Option.none : Option Jvm.ClassFile.FieldType)) ∈ lw_all := lw_g (lw_at lw_m4 91 rfl) rfl
theorem q968 : (Jvm.Cond.methodLink "WebHost" (167 : Nat) ({ cls := "WebHost$Connection", name := "timerOut", desc := "()V" } : Jvm.MethodName)) ∈ lw_all := lw_g (lw_at lw_m4 92 rfl) rfl
theorem q969 : (Jvm.Cond.instanceMethod ({ cls := "WebHost$Connection", name := "timerOut", desc := "()V" } : Jvm.MethodName)) ∈ lw_all := lw_g (lw_at lw_m4 93 rfl) rfl
theorem q970 : (Jvm.Cond.selects "WebHost$Connection" ({ cls := "WebHost$Connection", name := "timerOut", desc := "()V" } : Jvm.MethodName) ({ cls := "WebHost$Connection", name := "timerOut", desc := "()V" } : Jvm.MethodName)) ∈ lw_all := lw_g (lw_at lw_m4 94 rfl) rfl
theorem q971 : (Jvm.Cond.code ({ cls := "WebHost$Connection", name := "timerOut", desc := "()V" } : Jvm.MethodName) prog_3_method_34_code (5 : Nat) (Option.none : Option Jvm.ClassFile.FieldType)) ∈ lw_all := lw_g (lw_at lw_m4 95 rfl) rfl
theorem q972 : (Jvm.Cond.methodLink "WebHost$Connection" (63 : Nat) ({ cls := "WebHost$Connection", name := "segment", desc := "(II[BII)V" } : Jvm.MethodName)) ∈ lw_all := lw_g (lw_at lw_m4 96 rfl) rfl
theorem q973 : (Jvm.Cond.privateMethod ({ cls := "WebHost$Connection", name := "segment", desc := "(II[BII)V" } : Jvm.MethodName)) ∈ lw_tbl := lw_at lw_m4 97 rfl
theorem q974 : (Jvm.Cond.instanceMethod ({ cls := "WebHost$Connection", name := "segment", desc := "(II[BII)V" } : Jvm.MethodName)) ∈ lw_all := lw_g (lw_at lw_m4 98 rfl) rfl
theorem q975 : (Jvm.Cond.code ({ cls := "WebHost$Connection", name := "segment", desc := "(II[BII)V" } : Jvm.MethodName) prog_3_method_3_code (6 : Nat) (Option.none : Option Jvm.ClassFile.FieldType)) ∈ lw_all := lw_g (lw_at lw_m4 99 rfl) rfl
theorem q976 : (Jvm.Cond.methodLink "WebHost$Connection" (37 : Nat) ({ cls := "WebHost$Inbox", name := "window", desc := "()I" } : Jvm.MethodName)) ∈ lw_all := lw_g (lw_at lw_m4 100 rfl) rfl
theorem q977 : (Jvm.Cond.instanceMethod ({ cls := "WebHost$Inbox", name := "window", desc := "()I" } : Jvm.MethodName)) ∈ lw_all := lw_g (lw_at lw_m4 101 rfl) rfl
theorem q978 : (Jvm.Cond.selects "WebHost$Inbox" ({ cls := "WebHost$Inbox", name := "window", desc := "()I" } : Jvm.MethodName) ({ cls := "WebHost$Inbox", name := "window", desc := "()I" } : Jvm.MethodName)) ∈ lw_all := lw_g (lw_at lw_m4 102 rfl) rfl
theorem q979 : (Jvm.Cond.code ({ cls := "WebHost$Inbox", name := "window", desc := "()I" } : Jvm.MethodName) prog_7_method_3_code (1 : Nat) (Option.some Jvm.ClassFile.FieldType.int)) ∈ lw_all := lw_g (lw_at lw_m4 103 rfl) rfl
theorem q980 : (Jvm.Cond.methodLink "WebHost$Connection" (50 : Nat) ({ cls := "WebHost$Wire", name := "send", desc := "(IIIIIII[BII)V" } : Jvm.MethodName)) ∈ lw_all := lw_g (lw_at lw_m4 104 rfl) rfl
theorem q981 : (Jvm.Cond.instanceMethod ({ cls := "WebHost$Wire", name := "send", desc := "(IIIIIII[BII)V" } : Jvm.MethodName)) ∈ lw_all := lw_g (lw_at lw_m4 105 rfl) rfl
theorem q982 : (Jvm.Cond.selects "WebHost$Wire" ({ cls := "WebHost$Wire", name := "send", desc := "(IIIIIII[BII)V" } : Jvm.MethodName) ({ cls := "WebHost$Wire", name := "send", desc := "(IIIIIII[BII)V" } : Jvm.MethodName)) ∈ lw_all := lw_g (lw_at lw_m4 106 rfl) rfl
theorem q983 : (Jvm.Cond.code ({ cls := "WebHost$Wire", name := "send", desc := "(IIIIIII[BII)V" } : Jvm.MethodName) prog_15_method_4_code (15 : Nat) (Option.none : Option Jvm.ClassFile.FieldType)) ∈ lw_all := lw_g (lw_at lw_m4 107 rfl) rfl
theorem q984 : (Jvm.Cond.methodLink "WebHost$Wire" (52 : Nat) ({ cls := "WebHost$Net", name := "putTwo", desc := "([BII)V" } : Jvm.MethodName)) ∈ lw_all := lw_g (lw_at lw_m4 108 rfl) rfl
theorem q985 : (Jvm.Cond.methodLink "WebHost$Wire" (58 : Nat) ({ cls := "WebHost$Net", name := "putFour", desc := "([BII)V" } : Jvm.MethodName)) ∈ lw_all := lw_g (lw_at lw_m4 109 rfl) rfl
theorem q986 : (Jvm.Cond.constant "WebHost$Wire" (61 : Nat) (33818036 : Int32)) ∈ lw_all := lw_g (lw_at lw_m4 110 rfl) rfl
theorem q987 : (Jvm.Cond.methodLink "WebHost$Wire" (62 : Nat) ({ cls := "WebHost$Net", name := "copy", desc := "([BI[BII)V" } : Jvm.MethodName)) ∈ lw_all := lw_g (lw_at lw_m4 111 rfl) rfl
theorem q988 : (Jvm.Cond.constant "WebHost$Wire" (66 : Nat) (65535 : Int32)) ∈ lw_all := lw_g (lw_at lw_m4 112 rfl) rfl
theorem q989 : (Jvm.Cond.methodLink "WebHost$Wire" (67 : Nat) ({ cls := "WebHost$Net", name := "added", desc := "(I[BII)I" } : Jvm.MethodName)) ∈ lw_all := lw_g (lw_at lw_m4 113 rfl) rfl
theorem q990 : (Jvm.Cond.static ({ cls := "WebHost$Net", name := "added", desc := "(I[BII)I" } : Jvm.MethodName)) ∈ lw_all := lw_g (lw_at lw_m4 114 rfl) rfl
theorem q991 : (Jvm.Cond.code ({ cls := "WebHost$Net", name := "added", desc := "(I[BII)I" } : Jvm.MethodName) prog_9_method_6_code (6 : Nat) (Option.some Jvm.ClassFile.FieldType.int)) ∈ lw_all := lw_g (lw_at lw_m4 115 rfl) rfl
theorem q992 : (Jvm.Cond.methodLink "WebHost$Wire" (71 : Nat) ({ cls := "WebHost$Net", name := "folded", desc := "(I)I" } : Jvm.MethodName)) ∈ lw_all := lw_g (lw_at lw_m4 116 rfl) rfl
theorem q993 : (Jvm.Cond.static ({ cls := "WebHost$Net", name := "folded", desc := "(I)I" } : Jvm.MethodName)) ∈ lw_all := lw_g (lw_at lw_m4 117 rfl) rfl
theorem q994 : (Jvm.Cond.code ({ cls := "WebHost$Net", name := "folded", desc := "(I)I" } : Jvm.MethodName) prog_9_method_7_code (2 : Nat) (Option.some Jvm.ClassFile.FieldType.int)) ∈ lw_all := lw_g (lw_at lw_m4 118 rfl) rfl
theorem q995 : (Jvm.Cond.constant "WebHost$Net" (17 : Nat) (65535 : Int32)) ∈ lw_all := lw_g (lw_at lw_m4 119 rfl) rfl
theorem q996 : (Jvm.Cond.methodLink "WebHost$Wire" (75 : Nat) ({ cls := "WebHost$Packets", name := "send", desc := "(III)V" } : Jvm.MethodName)) ∈ lw_all := lw_g (lw_at lw_m4 120 rfl) rfl
theorem q997 : (Jvm.Cond.instanceMethod ({ cls := "WebHost$Packets", name := "send", desc := "(III)V" } : Jvm.MethodName)) ∈ lw_all := lw_g (lw_at lw_m4 121 rfl) rfl
theorem q998 : (Jvm.Cond.selects "WebHost$Packets" ({ cls := "WebHost$Packets", name := "send", desc := "(III)V" } : Jvm.MethodName) ({ cls := "WebHost$Packets", name := "send", desc := "(III)V" } : Jvm.MethodName)) ∈ lw_all := lw_g (lw_at lw_m4 122 rfl) rfl
theorem q999 : (Jvm.Cond.code ({ cls := "WebHost$Packets", name := "send", desc := "(III)V" } : Jvm.MethodName) prog_10_method_3_code (4 : Nat) (Option.none : Option Jvm.ClassFile.FieldType)) ∈ lw_all := lw_g (lw_at lw_m4 123 rfl) rfl
theorem q1000 : (Jvm.Cond.constant "WebHost$Packets" (26 : Nat) (65535 : Int32)) ∈ lw_all := lw_g (lw_at lw_m4 124 rfl) rfl
theorem q1001 : (Jvm.Cond.methodLink "WebHost$Packets" (27 : Nat) ({ cls := "WebHost$Net", name := "putTwo", desc := "([BII)V" } : Jvm.MethodName)) ∈ lw_all := lw_g (lw_at lw_m4 125 rfl) rfl
theorem q1002 : (Jvm.Cond.methodLink "WebHost$Packets" (33 : Nat) ({ cls := "WebHost$Net", name := "putFour", desc := "([BII)V" } : Jvm.MethodName)) ∈ lw_all := lw_g (lw_at lw_m4 126 rfl) rfl
theorem q1003 : (Jvm.Cond.methodLink "WebHost$Packets" (36 : Nat) ({ cls := "WebHost$Net", name := "added", desc := "(I[BII)I" } : Jvm.MethodName)) ∈ lw_all := lw_g (lw_at lw_m4 127 rfl) rfl
theorem q1004 : (Jvm.Cond.methodLink "WebHost$Packets" (40 : Nat) ({ cls := "WebHost$Net", name := "folded", desc := "(I)I" } : Jvm.MethodName)) ∈ lw_all := lw_g (lw_at lw_m4 128 rfl) rfl
theorem q1005 : (Jvm.Cond.methodLink "WebHost$Packets" (44 : Nat) ({ cls := "WebHost$Hops", name := "send", desc := "(I[BI)V" } : Jvm.MethodName)) ∈ lw_all := lw_g (lw_at lw_m4 129 rfl) rfl
theorem q1006 : (Jvm.Cond.instanceMethod ({ cls := "WebHost$Hops", name := "send", desc := "(I[BI)V" } : Jvm.MethodName)) ∈ lw_all := lw_g (lw_at lw_m4 130 rfl) rfl
theorem q1007 : (Jvm.Cond.selects "WebHost$Hops" ({ cls := "WebHost$Hops", name := "send", desc := "(I[BI)V" } : Jvm.MethodName) ({ cls := "WebHost$Hops", name := "send", desc := "(I[BI)V" } : Jvm.MethodName)) ∈ lw_all := lw_g (lw_at lw_m4 131 rfl) rfl
theorem q1008 : (Jvm.Cond.code ({ cls := "WebHost$Hops", name := "send", desc := "(I[BI)V" } : Jvm.MethodName) prog_6_method_11_code (7 : Nat) (Option.none : Option Jvm.ClassFile.FieldType)) ∈ lw_all := lw_g (lw_at lw_m4 132 rfl) rfl
theorem q1009 : (Jvm.Cond.methodLink "WebHost$Hops" (121 : Nat) ({ cls := "WebHost$Hops", name := "knows", desc := "(I)Z" } : Jvm.MethodName)) ∈ lw_all := lw_g (lw_at lw_m4 133 rfl) rfl
theorem q1010 : (Jvm.Cond.instanceMethod ({ cls := "WebHost$Hops", name := "knows", desc := "(I)Z" } : Jvm.MethodName)) ∈ lw_all := lw_g (lw_at lw_m4 134 rfl) rfl
theorem q1011 : (Jvm.Cond.selects "WebHost$Hops" ({ cls := "WebHost$Hops", name := "knows", desc := "(I)Z" } : Jvm.MethodName) ({ cls := "WebHost$Hops", name := "knows", desc := "(I)Z" } : Jvm.MethodName)) ∈ lw_all := lw_g (lw_at lw_m4 135 rfl) rfl
theorem q1012 : (Jvm.Cond.code ({ cls := "WebHost$Hops", name := "knows", desc := "(I)Z" } : Jvm.MethodName) prog_6_method_4_code (3 : Nat) (Option.some Jvm.ClassFile.FieldType.boolean)) ∈ lw_all := lw_g (lw_at lw_m4 136 rfl) rfl
theorem q1013 : (Jvm.Cond.methodLink "WebHost$Hops" (56 : Nat) ({ cls := "WebHost$Hops", name := "find", desc := "(I)I" } : Jvm.MethodName)) ∈ lw_all := lw_g (lw_at lw_m4 137 rfl) rfl
theorem q1014 : (Jvm.Cond.privateMethod ({ cls := "WebHost$Hops", name := "find", desc := "(I)I" } : Jvm.MethodName)) ∈ lw_tbl := lw_at lw_m4 138 rfl
theorem q1015 : (Jvm.Cond.instanceMethod ({ cls := "WebHost$Hops", name := "find", desc := "(I)I" } : Jvm.MethodName)) ∈ lw_all := lw_g (lw_at lw_m4 139 rfl) rfl
theorem q1016 : (Jvm.Cond.code ({ cls := "WebHost$Hops", name := "find", desc := "(I)I" } : Jvm.MethodName) prog_6_method_3_code (3 : Nat) (Option.some Jvm.ClassFile.FieldType.int)) ∈ lw_all := lw_g (lw_at lw_m4 140 rfl) rfl
theorem q1017 : (Jvm.Cond.constant "WebHost$Hops" (65 : Nat) (60000 : Int32)) ∈ lw_all := lw_g (lw_at lw_m4 141 rfl) rfl
theorem q1018 : (Jvm.Cond.methodLink "WebHost$Connection" (225 : Nat) ({ cls := "WebHost$Connection", name := "gone", desc := "()V" } : Jvm.MethodName)) ∈ lw_all := lw_g (lw_at lw_m4 142 rfl) rfl
theorem q1019 : (Jvm.Cond.constant "WebHost$Connection" (218 : Nat) (60000 : Int32)) ∈ lw_all := lw_g (lw_at lw_m4 143 rfl) rfl
theorem q1020 : (Jvm.Cond.methodLink "WebHost$Connection" (91 : Nat) ({ cls := "java/lang/Math", name := "min", desc := "(II)I" } : Jvm.MethodName)) ∈ lw_all := lw_g (lw_at lw_m4 144 rfl) rfl
theorem q1021 : (Jvm.Cond.methodLink "WebHost$Connection" (119 : Nat) ({ cls := "WebHost$Connection", name := "startTimer", desc := "()V" } : Jvm.MethodName)) ∈ lw_all := lw_g (lw_at lw_m4 145 rfl) rfl
theorem q1022 : (Jvm.Cond.privateMethod ({ cls := "WebHost$Connection", name := "startTimer", desc := "()V" } : Jvm.MethodName)) ∈ lw_tbl := lw_at lw_m4 146 rfl
theorem q1023 : (Jvm.Cond.instanceMethod ({ cls := "WebHost$Connection", name := "startTimer", desc := "()V" } : Jvm.MethodName)) ∈ lw_all := lw_g (lw_at lw_m4 147 rfl) rfl
theorem q1024 : (Jvm.Cond.code ({ cls := "WebHost$Connection", name := "startTimer", desc := "()V" } : Jvm.MethodName) prog_3_method_11_code (1 : Nat) (Option.none : Option Jvm.ClassFile.FieldType)) ∈ lw_all := lw_g (lw_at lw_m4 148 rfl) rfl
theorem q1025 : (Jvm.Cond.methodLink "WebHost$Connection" (129 : Nat) ({ cls := "WebHost$Wire", name := "now", desc := "()I" } : Jvm.MethodName)) ∈ lw_all := lw_g (lw_at lw_m4 149 rfl) rfl
theorem q1026 : (Jvm.Cond.instanceMethod ({ cls := "WebHost$Wire", name := "now", desc := "()I" } : Jvm.MethodName)) ∈ lw_all := lw_g (lw_at lw_m4 150 rfl) rfl
theorem q1027 : (Jvm.Cond.selects "WebHost$Wire" ({ cls := "WebHost$Wire", name := "now", desc := "()I" } : Jvm.MethodName) ({ cls := "WebHost$Wire", name := "now", desc := "()I" } : Jvm.MethodName)) ∈ lw_all := lw_g (lw_at lw_m4 151 rfl) rfl
theorem q1028 : (Jvm.Cond.code ({ cls := "WebHost$Wire", name := "now", desc := "()I" } : Jvm.MethodName) prog_15_method_3_code (1 : Nat) (Option.some Jvm.ClassFile.FieldType.int)) ∈ lw_all := lw_g (lw_at lw_m4 152 rfl) rfl
theorem q1029 : (Jvm.Cond.methodLink "WebHost$Connection" (307 : Nat) ({ cls := "WebHost$Connection", name := "half", desc := "()I" } : Jvm.MethodName)) ∈ lw_all := lw_g (lw_at lw_m4 153 rfl) rfl
theorem q1030 : (Jvm.Cond.privateMethod ({ cls := "WebHost$Connection", name := "half", desc := "()I" } : Jvm.MethodName)) ∈ lw_tbl := lw_at lw_m4 154 rfl
theorem q1031 : (Jvm.Cond.instanceMethod ({ cls := "WebHost$Connection", name := "half", desc := "()I" } : Jvm.MethodName)) ∈ lw_all := lw_g (lw_at lw_m4 155 rfl) rfl
theorem q1032 : (Jvm.Cond.code ({ cls := "WebHost$Connection", name := "half", desc := "()I" } : Jvm.MethodName) prog_3_method_29_code (1 : Nat) (Option.some Jvm.ClassFile.FieldType.int)) ∈ lw_all := lw_g (lw_at lw_m4 156 rfl) rfl
theorem q1033 : (Jvm.Cond.methodLink "WebHost$Connection" (289 : Nat) ({ cls := "java/lang/Math", name := "max", desc := "(II)I" } : Jvm.MethodName)) ∈ lw_all := lw_g (lw_at lw_m4 157 rfl) rfl
theorem q1034 : (Jvm.Cond.methodLink "WebHost$Connection" (85 : Nat) ({ cls := "WebHost$Connection", name := "left", desc := "()I" } : Jvm.MethodName)) ∈ lw_all := lw_g (lw_at lw_m4 158 rfl) rfl
theorem q1035 : (Jvm.Cond.instanceMethod ({ cls := "WebHost$Connection", name := "left", desc := "()I" } : Jvm.MethodName)) ∈ lw_all := lw_g (lw_at lw_m4 159 rfl) rfl
theorem q1036 : (Jvm.Cond.selects "WebHost$Connection" ({ cls := "WebHost$Connection", name := "left", desc := "()I" } : Jvm.MethodName) ({ cls := "WebHost$Connection", name := "left", desc := "()I" } : Jvm.MethodName)) ∈ lw_all := lw_g (lw_at lw_m4 160 rfl) rfl
theorem q1037 : (Jvm.Cond.code ({ cls := "WebHost$Connection", name := "left", desc := "()I" } : Jvm.MethodName) prog_3_method_6_code (1 : Nat) (Option.some Jvm.ClassFile.FieldType.int)) ∈ lw_all := lw_g (lw_at lw_m4 161 rfl) rfl
theorem q1038 : (Jvm.Cond.methodLink "WebHost$Connection" (76 : Nat) ({ cls := "WebHost$Connection", name := "end", desc := "()I" } : Jvm.MethodName)) ∈ lw_all := lw_g (lw_at lw_m4 162 rfl) rfl
theorem q1039 : (Jvm.Cond.privateMethod ({ cls := "WebHost$Connection", name := "end", desc := "()I" } : Jvm.MethodName)) ∈ lw_tbl := lw_at lw_m4 163 rfl
theorem q1040 : (Jvm.Cond.instanceMethod ({ cls := "WebHost$Connection", name := "end", desc := "()I" } : Jvm.MethodName)) ∈ lw_all := lw_g (lw_at lw_m4 164 rfl) rfl
theorem q1041 : (Jvm.Cond.code ({ cls := "WebHost$Connection", name := "end", desc := "()I" } : Jvm.MethodName) prog_3_method_5_code (1 : Nat) (Option.some Jvm.ClassFile.FieldType.int)) ∈ lw_all := lw_g (lw_at lw_m4 165 rfl) rfl
theorem q1042 : (Jvm.Cond.methodLink "WebHost$Connection" (155 : Nat) ({ cls := "WebHost$Connection", name := "sendPart", desc := "(I)V" } : Jvm.MethodName)) ∈ lw_all := lw_g (lw_at lw_m4 166 rfl) rfl
theorem q1043 : (Jvm.Cond.privateMethod ({ cls := "WebHost$Connection", name := "sendPart", desc := "(I)V" } : Jvm.MethodName)) ∈ lw_tbl := lw_at lw_m4 167 rfl
theorem q1044 : (Jvm.Cond.instanceMethod ({ cls := "WebHost$Connection", name := "sendPart", desc := "(I)V" } : Jvm.MethodName)) ∈ lw_all := lw_g (lw_at lw_m4 168 rfl) rfl
theorem q1045 : (Jvm.Cond.code ({ cls := "WebHost$Connection", name := "sendPart", desc := "(I)V" } : Jvm.MethodName) prog_3_method_9_code (6 : Nat) (Option.none : Option Jvm.ClassFile.FieldType)) ∈ lw_all := lw_g (lw_at lw_m4 169 rfl) rfl
theorem q1046 : (Jvm.Cond.methodLink "WebHost$Connection" (97 : Nat) ({ cls := "WebHost$Net", name := "isBefore", desc := "(II)Z" } : Jvm.MethodName)) ∈ lw_all := lw_g (lw_at lw_m4 170 rfl) rfl
theorem q1047 : (Jvm.Cond.static ({ cls := "WebHost$Net", name := "isBefore", desc := "(II)Z" } : Jvm.MethodName)) ∈ lw_all := lw_g (lw_at lw_m4 171 rfl) rfl
theorem q1048 : (Jvm.Cond.code ({ cls := "WebHost$Net", name := "isBefore", desc := "(II)Z" } : Jvm.MethodName) prog_9_method_9_code (2 : Nat) (Option.some Jvm.ClassFile.FieldType.boolean)) ∈ lw_all := lw_g (lw_at lw_m4 172 rfl) rfl
theorem q1049 : (Jvm.Cond.methodLink "WebHost$Connection" (109 : Nat) ({ cls := "WebHost$Connection", name := "time", desc := "(I)V" } : Jvm.MethodName)) ∈ lw_all := lw_g (lw_at lw_m4 173 rfl) rfl
theorem q1050 : (Jvm.Cond.privateMethod ({ cls := "WebHost$Connection", name := "time", desc := "(I)V" } : Jvm.MethodName)) ∈ lw_tbl := lw_at lw_m4 174 rfl
theorem q1051 : (Jvm.Cond.instanceMethod ({ cls := "WebHost$Connection", name := "time", desc := "(I)V" } : Jvm.MethodName)) ∈ lw_all := lw_g (lw_at lw_m4 175 rfl) rfl
theorem q1052 : (Jvm.Cond.code ({ cls := "WebHost$Connection", name := "time", desc := "(I)V" } : Jvm.MethodName) prog_3_method_10_code (2 : Nat) (Option.none : Option Jvm.ClassFile.FieldType)) ∈ lw_all := lw_g (lw_at lw_m4 176 rfl) rfl
theorem q1053 : (Jvm.Cond.methodLink "WebHost" (170 : Nat) ({ cls := "WebHost$Connection", name := "lifeOut", desc := "()V" } : Jvm.MethodName)) ∈ lw_all := lw_g (lw_at lw_m4 177 rfl) rfl
theorem q1054 : (Jvm.Cond.instanceMethod ({ cls := "WebHost$Connection", name := "lifeOut", desc := "()V" } : Jvm.MethodName)) ∈ lw_all := lw_g (lw_at lw_m4 178 rfl) rfl
theorem q1055 : (Jvm.Cond.selects "WebHost$Connection" ({ cls := "WebHost$Connection", name := "lifeOut", desc := "()V" } : Jvm.MethodName) ({ cls := "WebHost$Connection", name := "lifeOut", desc := "()V" } : Jvm.MethodName)) ∈ lw_all := lw_g (lw_at lw_m4 179 rfl) rfl
theorem q1056 : (Jvm.Cond.code ({ cls := "WebHost$Connection", name := "lifeOut", desc := "()V" } : Jvm.MethodName) prog_3_method_35_code (1 : Nat) (Option.none : Option Jvm.ClassFile.FieldType)) ∈ lw_all := lw_g (lw_at lw_m4 180 rfl) rfl
theorem q1057 : (Jvm.Cond.methodLink "WebHost$Connection" (247 : Nat) ({ cls := "WebHost$Connection", name := "output", desc := "()V" } : Jvm.MethodName)) ∈ lw_all := lw_g (lw_at lw_m4 181 rfl) rfl
theorem q1058 : (Jvm.Cond.privateMethod ({ cls := "WebHost$Connection", name := "output", desc := "()V" } : Jvm.MethodName)) ∈ lw_tbl := lw_at lw_m4 182 rfl
theorem q1059 : (Jvm.Cond.instanceMethod ({ cls := "WebHost$Connection", name := "output", desc := "()V" } : Jvm.MethodName)) ∈ lw_all := lw_g (lw_at lw_m4 183 rfl) rfl
theorem q1060 : (Jvm.Cond.code ({ cls := "WebHost$Connection", name := "output", desc := "()V" } : Jvm.MethodName) prog_3_method_13_code (6 : Nat) (Option.none : Option Jvm.ClassFile.FieldType)) ∈ lw_all := lw_g (lw_at lw_m4 184 rfl) rfl
theorem q1061 : (Jvm.Cond.methodLink "WebHost$Connection" (152 : Nat) ({ cls := "WebHost$Connection", name := "flight", desc := "()I" } : Jvm.MethodName)) ∈ lw_all := lw_g (lw_at lw_m4 185 rfl) rfl
theorem q1062 : (Jvm.Cond.privateMethod ({ cls := "WebHost$Connection", name := "flight", desc := "()I" } : Jvm.MethodName)) ∈ lw_tbl := lw_at lw_m4 186 rfl
theorem q1063 : (Jvm.Cond.instanceMethod ({ cls := "WebHost$Connection", name := "flight", desc := "()I" } : Jvm.MethodName)) ∈ lw_all := lw_g (lw_at lw_m4 187 rfl) rfl
theorem q1064 : (Jvm.Cond.code ({ cls := "WebHost$Connection", name := "flight", desc := "()I" } : Jvm.MethodName) prog_3_method_7_code (1 : Nat) (Option.some Jvm.ClassFile.FieldType.int)) ∈ lw_all := lw_g (lw_at lw_m4 188 rfl) rfl
theorem q1065 : (Jvm.Cond.methodLink "WebHostLaw" (32 : Nat) ({ cls := "WebHost", name := "arrive", desc := "(I)I" } : Jvm.MethodName)) ∈ lw_all := lw_g (lw_at lw_m4 189 rfl) rfl
theorem q1066 : (Jvm.Cond.instanceMethod ({ cls := "WebHost", name := "arrive", desc := "(I)I" } : Jvm.MethodName)) ∈ lw_all := lw_g (lw_at lw_m4 190 rfl) rfl
theorem q1067 : (Jvm.Cond.selects "WebHost" ({ cls := "WebHost", name := "arrive", desc := "(I)I" } : Jvm.MethodName) ({ cls := "WebHost", name := "arrive", desc := "(I)I" } : Jvm.MethodName)) ∈ lw_all := lw_g (lw_at lw_m4 191 rfl) rfl
theorem q1068 : (Jvm.Cond.code ({ cls := "WebHost", name := "arrive", desc := "(I)I" } : Jvm.MethodName) prog_1_method_11_code (5 : Nat) (Option.some Jvm.ClassFile.FieldType.int)) ∈ lw_all := lw_g (lw_at lw_m4 192 rfl) rfl
theorem q1069 : (Jvm.Cond.methodLink "WebHost" (183 : Nat) ({ cls := "WebHost", name := "frame", desc := "(I)V" } : Jvm.MethodName)) ∈ lw_all := lw_g (lw_at lw_m4 193 rfl) rfl
theorem q1070 : (Jvm.Cond.privateMethod ({ cls := "WebHost", name := "frame", desc := "(I)V" } : Jvm.MethodName)) ∈ lw_tbl := lw_at lw_m4 194 rfl
theorem q1071 : (Jvm.Cond.instanceMethod ({ cls := "WebHost", name := "frame", desc := "(I)V" } : Jvm.MethodName)) ∈ lw_all := lw_g (lw_at lw_m4 195 rfl) rfl
theorem q1072 : (Jvm.Cond.code ({ cls := "WebHost", name := "frame", desc := "(I)V" } : Jvm.MethodName) prog_1_method_12_code (3 : Nat) (Option.none : Option Jvm.ClassFile.FieldType)) ∈ lw_all := lw_g (lw_at lw_m4 196 rfl) rfl
theorem q1073 : (Jvm.Cond.methodLink "WebHost" (186 : Nat) ({ cls := "WebHost$Device", name := "isForUs", desc := "([B)Z" } : Jvm.MethodName)) ∈ lw_all := lw_g (lw_at lw_m4 197 rfl) rfl
theorem q1074 : (Jvm.Cond.instanceMethod ({ cls := "WebHost$Device", name := "isForUs", desc := "([B)Z" } : Jvm.MethodName)) ∈ lw_all := lw_g (lw_at lw_m4 198 rfl) rfl
theorem q1075 : (Jvm.Cond.selects "WebHost$Device" ({ cls := "WebHost$Device", name := "isForUs", desc := "([B)Z" } : Jvm.MethodName) ({ cls := "WebHost$Device", name := "isForUs", desc := "([B)Z" } : Jvm.MethodName)) ∈ lw_all := lw_g (lw_at lw_m4 199 rfl) rfl
theorem q1076 : (Jvm.Cond.code ({ cls := "WebHost$Device", name := "isForUs", desc := "([B)Z" } : Jvm.MethodName) prog_4_method_9_code (5 : Nat) (Option.some Jvm.ClassFile.FieldType.boolean)) ∈ lw_all := lw_g (lw_at lw_m4 200 rfl) rfl
theorem q1077 : (Jvm.Cond.methodLink "WebHost" (190 : Nat) ({ cls := "WebHost$Net", name := "two", desc := "([BI)I" } : Jvm.MethodName)) ∈ lw_all := lw_g (lw_at lw_m4 201 rfl) rfl
theorem q1078 : (Jvm.Cond.methodLink "WebHost" (194 : Nat) ({ cls := "WebHost$Hops", name := "arrive", desc := "([BI)V" } : Jvm.MethodName)) ∈ lw_all := lw_g (lw_at lw_m4 202 rfl) rfl
theorem q1079 : (Jvm.Cond.instanceMethod ({ cls := "WebHost$Hops", name := "arrive", desc := "([BI)V" } : Jvm.MethodName)) ∈ lw_all := lw_g (lw_at lw_m4 203 rfl) rfl
theorem q1080 : (Jvm.Cond.selects "WebHost$Hops" ({ cls := "WebHost$Hops", name := "arrive", desc := "([BI)V" } : Jvm.MethodName) ({ cls := "WebHost$Hops", name := "arrive", desc := "([BI)V" } : Jvm.MethodName)) ∈ lw_all := lw_g (lw_at lw_m4 204 rfl) rfl
theorem q1081 : (Jvm.Cond.code ({ cls := "WebHost$Hops", name := "arrive", desc := "([BI)V" } : Jvm.MethodName) prog_6_method_5_code (6 : Nat) (Option.none : Option Jvm.ClassFile.FieldType)) ∈ lw_all := lw_g (lw_at lw_m4 205 rfl) rfl
theorem q1082 : (Jvm.Cond.methodLink "WebHost$Hops" (66 : Nat) ({ cls := "WebHost$Net", name := "four", desc := "([BI)I" } : Jvm.MethodName)) ∈ lw_all := lw_g (lw_at lw_m4 206 rfl) rfl
theorem q1083 : (Jvm.Cond.methodLink "WebHost$Hops" (73 : Nat) ({ cls := "WebHost$Net", name := "two", desc := "([BI)I" } : Jvm.MethodName)) ∈ lw_all := lw_g (lw_at lw_m4 207 rfl) rfl
theorem q1084 : (Jvm.Cond.methodLink "WebHost$Hops" (76 : Nat) ({ cls := "WebHost$Hops", name := "learn", desc := "(I[BI)V" } : Jvm.MethodName)) ∈ lw_all := lw_g (lw_at lw_m4 208 rfl) rfl
theorem q1085 : (Jvm.Cond.privateMethod ({ cls := "WebHost$Hops", name := "learn", desc := "(I[BI)V" } : Jvm.MethodName)) ∈ lw_tbl := lw_at lw_m4 209 rfl
theorem q1086 : (Jvm.Cond.instanceMethod ({ cls := "WebHost$Hops", name := "learn", desc := "(I[BI)V" } : Jvm.MethodName)) ∈ lw_all := lw_g (lw_at lw_m4 210 rfl) rfl
theorem q1087 : (Jvm.Cond.code ({ cls := "WebHost$Hops", name := "learn", desc := "(I[BI)V" } : Jvm.MethodName) prog_6_method_6_code (5 : Nat) (Option.none : Option Jvm.ClassFile.FieldType)) ∈ lw_all := lw_g (lw_at lw_m4 211 rfl) rfl
theorem q1088 : (Jvm.Cond.methodLink "WebHost$Hops" (84 : Nat) ({ cls := "WebHost$Hops", name := "oldest", desc := "()I" } : Jvm.MethodName)) ∈ lw_all := lw_g (lw_at lw_m4 212 rfl) rfl
theorem q1089 : (Jvm.Cond.privateMethod ({ cls := "WebHost$Hops", name := "oldest", desc := "()I" } : Jvm.MethodName)) ∈ lw_tbl := lw_at lw_m4 213 rfl
theorem q1090 : (Jvm.Cond.instanceMethod ({ cls := "WebHost$Hops", name := "oldest", desc := "()I" } : Jvm.MethodName)) ∈ lw_all := lw_g (lw_at lw_m4 214 rfl) rfl
theorem q1091 : (Jvm.Cond.code ({ cls := "WebHost$Hops", name := "oldest", desc := "()I" } : Jvm.MethodName) prog_6_method_7_code (3 : Nat) (Option.some Jvm.ClassFile.FieldType.int)) ∈ lw_all := lw_g (lw_at lw_m4 215 rfl) rfl
theorem q1092 : (Jvm.Cond.methodLink "WebHost$Hops" (92 : Nat) ({ cls := "WebHost$Hops", name := "release", desc := "(II)V" } : Jvm.MethodName)) ∈ lw_all := lw_g (lw_at lw_m4 216 rfl) rfl
theorem q1093 : (Jvm.Cond.privateMethod ({ cls := "WebHost$Hops", name := "release", desc := "(II)V" } : Jvm.MethodName)) ∈ lw_tbl := lw_at lw_m4 217 rfl
theorem q1094 : (Jvm.Cond.instanceMethod ({ cls := "WebHost$Hops", name := "release", desc := "(II)V" } : Jvm.MethodName)) ∈ lw_all := lw_g (lw_at lw_m4 218 rfl) rfl
theorem q1095 : (Jvm.Cond.code ({ cls := "WebHost$Hops", name := "release", desc := "(II)V" } : Jvm.MethodName) prog_6_method_8_code (5 : Nat) (Option.none : Option Jvm.ClassFile.FieldType)) ∈ lw_all := lw_g (lw_at lw_m4 219 rfl) rfl
theorem q1096 : (Jvm.Cond.methodLink "WebHost" (198 : Nat) ({ cls := "WebHost", name := "packet", desc := "(II)V" } : Jvm.MethodName)) ∈ lw_all := lw_g (lw_at lw_m4 220 rfl) rfl
theorem q1097 : (Jvm.Cond.privateMethod ({ cls := "WebHost", name := "packet", desc := "(II)V" } : Jvm.MethodName)) ∈ lw_tbl := lw_at lw_m4 221 rfl
theorem q1098 : (Jvm.Cond.instanceMethod ({ cls := "WebHost", name := "packet", desc := "(II)V" } : Jvm.MethodName)) ∈ lw_all := lw_g (lw_at lw_m4 222 rfl) rfl
theorem q1099 : (Jvm.Cond.code ({ cls := "WebHost", name := "packet", desc := "(II)V" } : Jvm.MethodName) prog_1_method_13_code (11 : Nat) (Option.none : Option Jvm.ClassFile.FieldType)) ∈ lw_all := lw_g (lw_at lw_m4 223 rfl) rfl
theorem q1100 : (Jvm.Cond.methodLink "WebHost" (201 : Nat) ({ cls := "WebHost$Net", name := "added", desc := "(I[BII)I" } : Jvm.MethodName)) ∈ lw_all := lw_g (lw_at lw_m4 224 rfl) rfl
theorem q1101 : (Jvm.Cond.methodLink "WebHost" (205 : Nat) ({ cls := "WebHost$Net", name := "folded", desc := "(I)I" } : Jvm.MethodName)) ∈ lw_all := lw_g (lw_at lw_m4 225 rfl) rfl
theorem q1102 : (Jvm.Cond.methodLink "WebHost" (208 : Nat) ({ cls := "WebHost$Net", name := "four", desc := "([BI)I" } : Jvm.MethodName)) ∈ lw_all := lw_g (lw_at lw_m4 226 rfl) rfl
theorem q1103 : (Jvm.Cond.methodLink "WebHost" (211 : Nat) ({ cls := "WebHost", name := "datagram", desc := "([BIIII)V" } : Jvm.MethodName)) ∈ lw_all := lw_g (lw_at lw_m4 227 rfl) rfl
theorem q1104 : (Jvm.Cond.privateMethod ({ cls := "WebHost", name := "datagram", desc := "([BIIII)V" } : Jvm.MethodName)) ∈ lw_tbl := lw_at lw_m4 228 rfl
theorem q1105 : (Jvm.Cond.instanceMethod ({ cls := "WebHost", name := "datagram", desc := "([BIIII)V" } : Jvm.MethodName)) ∈ lw_all := lw_g (lw_at lw_m4 229 rfl) rfl
theorem q1106 : (Jvm.Cond.code ({ cls := "WebHost", name := "datagram", desc := "([BIIII)V" } : Jvm.MethodName) prog_1_method_14_code (6 : Nat) (Option.none : Option Jvm.ClassFile.FieldType)) ∈ lw_all := lw_g (lw_at lw_m4 230 rfl) rfl
theorem q1107 : (Jvm.Cond.methodLink "WebHost" (225 : Nat) ({ cls := "WebHost", name := "echo", desc := "([BIII)V" } : Jvm.MethodName)) ∈ lw_all := lw_g (lw_at lw_m4 231 rfl) rfl
theorem q1108 : (Jvm.Cond.privateMethod ({ cls := "WebHost", name := "echo", desc := "([BIII)V" } : Jvm.MethodName)) ∈ lw_tbl := lw_at lw_m4 232 rfl
theorem q1109 : (Jvm.Cond.instanceMethod ({ cls := "WebHost", name := "echo", desc := "([BIII)V" } : Jvm.MethodName)) ∈ lw_all := lw_g (lw_at lw_m4 233 rfl) rfl
theorem q1110 : (Jvm.Cond.code ({ cls := "WebHost", name := "echo", desc := "([BIII)V" } : Jvm.MethodName) prog_1_method_15_code (6 : Nat) (Option.none : Option Jvm.ClassFile.FieldType)) ∈ lw_all := lw_g (lw_at lw_m4 234 rfl) rfl
theorem q1111 : (Jvm.Cond.methodLink "WebHost" (237 : Nat) ({ cls := "WebHost$Net", name := "putTwo", desc := "([BII)V" } : Jvm.MethodName)) ∈ lw_all := lw_g (lw_at lw_m4 235 rfl) rfl
theorem q1112 : (Jvm.Cond.methodLink "WebHost" (240 : Nat) ({ cls := "WebHost$Packets", name := "send", desc := "(III)V" } : Jvm.MethodName)) ∈ lw_all := lw_g (lw_at lw_m4 236 rfl) rfl
theorem q1113 : (Jvm.Cond.methodLink "WebHost" (229 : Nat) ({ cls := "WebHost$Segment", name := "read", desc := "([BIIII)Z" } : Jvm.MethodName)) ∈ lw_all := lw_g (lw_at lw_m4 237 rfl) rfl
theorem q1114 : (Jvm.Cond.instanceMethod ({ cls := "WebHost$Segment", name := "read", desc := "([BIIII)Z" } : Jvm.MethodName)) ∈ lw_all := lw_g (lw_at lw_m4 238 rfl) rfl
theorem q1115 : (Jvm.Cond.selects "WebHost$Segment" ({ cls := "WebHost$Segment", name := "read", desc := "([BIIII)Z" } : Jvm.MethodName) ({ cls := "WebHost$Segment", name := "read", desc := "([BIIII)Z" } : Jvm.MethodName)) ∈ lw_all := lw_g (lw_at lw_m4 239 rfl) rfl
theorem q1116 : (Jvm.Cond.code ({ cls := "WebHost$Segment", name := "read", desc := "([BIIII)Z" } : Jvm.MethodName) prog_12_method_5_code (8 : Nat) (Option.some Jvm.ClassFile.FieldType.boolean)) ∈ lw_all := lw_g (lw_at lw_m5 0 rfl) rfl
theorem q1117 : (Jvm.Cond.constant "WebHost$Segment" (25 : Nat) (65535 : Int32)) ∈ lw_all := lw_g (lw_at lw_m5 1 rfl) rfl
theorem q1118 : (Jvm.Cond.methodLink "WebHost$Segment" (26 : Nat) ({ cls := "WebHost$Net", name := "added", desc := "(I[BII)I" } : Jvm.MethodName)) ∈ lw_all := lw_g (lw_at lw_m5 2 rfl) rfl
theorem q1119 : (Jvm.Cond.methodLink "WebHost$Segment" (32 : Nat) ({ cls := "WebHost$Net", name := "folded", desc := "(I)I" } : Jvm.MethodName)) ∈ lw_all := lw_g (lw_at lw_m5 3 rfl) rfl
theorem q1120 : (Jvm.Cond.methodLink "WebHost$Segment" (39 : Nat) ({ cls := "WebHost$Net", name := "two", desc := "([BI)I" } : Jvm.MethodName)) ∈ lw_all := lw_g (lw_at lw_m5 4 rfl) rfl
theorem q1121 : (Jvm.Cond.methodLink "WebHost$Segment" (49 : Nat) ({ cls := "WebHost$Net", name := "four", desc := "([BI)I" } : Jvm.MethodName)) ∈ lw_all := lw_g (lw_at lw_m5 5 rfl) rfl
theorem q1122 : (Jvm.Cond.methodLink "WebHost$Segment" (65 : Nat) ({ cls := "WebHost$Segment", name := "option", desc := "(II)I" } : Jvm.MethodName)) ∈ lw_all := lw_g (lw_at lw_m5 6 rfl) rfl
theorem q1123 : (Jvm.Cond.privateMethod ({ cls := "WebHost$Segment", name := "option", desc := "(II)I" } : Jvm.MethodName)) ∈ lw_tbl := lw_at lw_m5 7 rfl
theorem q1124 : (Jvm.Cond.instanceMethod ({ cls := "WebHost$Segment", name := "option", desc := "(II)I" } : Jvm.MethodName)) ∈ lw_all := lw_g (lw_at lw_m5 8 rfl) rfl
theorem q1125 : (Jvm.Cond.code ({ cls := "WebHost$Segment", name := "option", desc := "(II)I" } : Jvm.MethodName) prog_12_method_6_code (6 : Nat) (Option.some Jvm.ClassFile.FieldType.int)) ∈ lw_all := lw_g (lw_at lw_m5 9 rfl) rfl
theorem q1126 : (Jvm.Cond.methodLink "WebHost$Segment" (72 : Nat) ({ cls := "java/lang/Math", name := "min", desc := "(II)I" } : Jvm.MethodName)) ∈ lw_all := lw_g (lw_at lw_m5 10 rfl) rfl
theorem q1127 : (Jvm.Cond.methodLink "WebHost$Segment" (77 : Nat) ({ cls := "java/lang/Math", name := "max", desc := "(II)I" } : Jvm.MethodName)) ∈ lw_all := lw_g (lw_at lw_m5 11 rfl) rfl
theorem q1128 : (Jvm.Cond.methodLink "WebHost" (233 : Nat) ({ cls := "WebHost", name := "take", desc := "()V" } : Jvm.MethodName)) ∈ lw_all := lw_g (lw_at lw_m5 12 rfl) rfl
theorem q1129 : (Jvm.Cond.privateMethod ({ cls := "WebHost", name := "take", desc := "()V" } : Jvm.MethodName)) ∈ lw_tbl := lw_at lw_m5 13 rfl
theorem q1130 : (Jvm.Cond.instanceMethod ({ cls := "WebHost", name := "take", desc := "()V" } : Jvm.MethodName)) ∈ lw_all := lw_g (lw_at lw_m5 14 rfl) rfl
theorem q1131 : (Jvm.Cond.code ({ cls := "WebHost", name := "take", desc := "()V" } : Jvm.MethodName) prog_1_method_17_code (3 : Nat) (Option.none : Option Jvm.ClassFile.FieldType)) ∈ lw_all := lw_g (lw_at lw_m5 15 rfl) rfl
theorem q1132 : (Jvm.Cond.methodLink "WebHost" (257 : Nat) ({ cls := "WebHost", name := "find", desc := "(LWebHost$Segment;)I" } : Jvm.MethodName)) ∈ lw_all := lw_g (lw_at lw_m5 16 rfl) rfl
theorem q1133 : (Jvm.Cond.privateMethod ({ cls := "WebHost", name := "find", desc := "(LWebHost$Segment;)I" } : Jvm.MethodName)) ∈ lw_tbl := lw_at lw_m5 17 rfl
theorem q1134 : (Jvm.Cond.instanceMethod ({ cls := "WebHost", name := "find", desc := "(LWebHost$Segment;)I" } : Jvm.MethodName)) ∈ lw_all := lw_g (lw_at lw_m5 18 rfl) rfl
theorem q1135 : (Jvm.Cond.code ({ cls := "WebHost", name := "find", desc := "(LWebHost$Segment;)I" } : Jvm.MethodName) prog_1_method_16_code (3 : Nat) (Option.some Jvm.ClassFile.FieldType.int)) ∈ lw_all := lw_g (lw_at lw_m5 19 rfl) rfl
theorem q1136 : (Jvm.Cond.methodLink "WebHost" (261 : Nat) ({ cls := "WebHost$Connection", name := "arrive", desc := "(LWebHost$Segment;)V" } : Jvm.MethodName)) ∈ lw_all := lw_g (lw_at lw_m5 20 rfl) rfl
theorem q1137 : (Jvm.Cond.instanceMethod ({ cls := "WebHost$Connection", name := "arrive", desc := "(LWebHost$Segment;)V" } : Jvm.MethodName)) ∈ lw_all := lw_g (lw_at lw_m5 21 rfl) rfl
theorem q1138 : (Jvm.Cond.selects "WebHost$Connection" ({ cls := "WebHost$Connection", name := "arrive", desc := "(LWebHost$Segment;)V" } : Jvm.MethodName) ({ cls := "WebHost$Connection", name := "arrive", desc := "(LWebHost$Segment;)V" } : Jvm.MethodName)) ∈ lw_all := lw_g (lw_at lw_m5 22 rfl) rfl
theorem q1139 : (Jvm.Cond.code ({ cls := "WebHost$Connection", name := "arrive", desc := "(LWebHost$Segment;)V" } : Jvm.MethodName) prog_3_method_18_code (2 : Nat) (Option.none : Option Jvm.ClassFile.FieldType)) ∈ lw_all := lw_g (lw_at lw_m5 23 rfl) rfl
theorem q1140 : (Jvm.Cond.methodLink "WebHost$Connection" (210 : Nat) ({ cls := "WebHost$Connection", name := "isAcceptable", desc := "(LWebHost$Segment;)Z" } : Jvm.MethodName)) ∈ lw_all := lw_g (lw_at lw_m5 24 rfl) rfl
theorem q1141 : (Jvm.Cond.privateMethod ({ cls := "WebHost$Connection", name := "isAcceptable", desc := "(LWebHost$Segment;)Z" } : Jvm.MethodName)) ∈ lw_tbl := lw_at lw_m5 25 rfl
theorem q1142 : (Jvm.Cond.instanceMethod ({ cls := "WebHost$Connection", name := "isAcceptable", desc := "(LWebHost$Segment;)Z" } : Jvm.MethodName)) ∈ lw_all := lw_g (lw_at lw_m5 26 rfl) rfl
theorem q1143 : (Jvm.Cond.code ({ cls := "WebHost$Connection", name := "isAcceptable", desc := "(LWebHost$Segment;)Z" } : Jvm.MethodName) prog_3_method_17_code (4 : Nat) (Option.some Jvm.ClassFile.FieldType.boolean)) ∈ lw_all := lw_g (lw_at lw_m5 27 rfl) rfl
theorem q1144 : (Jvm.Cond.methodLink "WebHost$Connection" (204 : Nat) ({ cls := "WebHost$Segment", name := "span", desc := "()I" } : Jvm.MethodName)) ∈ lw_all := lw_g (lw_at lw_m5 28 rfl) rfl
theorem q1145 : (Jvm.Cond.instanceMethod ({ cls := "WebHost$Segment", name := "span", desc := "()I" } : Jvm.MethodName)) ∈ lw_all := lw_g (lw_at lw_m5 29 rfl) rfl
theorem q1146 : (Jvm.Cond.selects "WebHost$Segment" ({ cls := "WebHost$Segment", name := "span", desc := "()I" } : Jvm.MethodName) ({ cls := "WebHost$Segment", name := "span", desc := "()I" } : Jvm.MethodName)) ∈ lw_all := lw_g (lw_at lw_m5 30 rfl) rfl
theorem q1147 : (Jvm.Cond.code ({ cls := "WebHost$Segment", name := "span", desc := "()I" } : Jvm.MethodName) prog_12_method_3_code (1 : Nat) (Option.some Jvm.ClassFile.FieldType.int)) ∈ lw_all := lw_g (lw_at lw_m5 31 rfl) rfl
theorem q1148 : (Jvm.Cond.methodLink "WebHost$Segment" (18 : Nat) ({ cls := "WebHost$Segment", name := "has", desc := "(I)Z" } : Jvm.MethodName)) ∈ lw_all := lw_g (lw_at lw_m5 32 rfl) rfl
theorem q1149 : (Jvm.Cond.instanceMethod ({ cls := "WebHost$Segment", name := "has", desc := "(I)Z" } : Jvm.MethodName)) ∈ lw_all := lw_g (lw_at lw_m5 33 rfl) rfl
theorem q1150 : (Jvm.Cond.selects "WebHost$Segment" ({ cls := "WebHost$Segment", name := "has", desc := "(I)Z" } : Jvm.MethodName) ({ cls := "WebHost$Segment", name := "has", desc := "(I)Z" } : Jvm.MethodName)) ∈ lw_all := lw_g (lw_at lw_m5 34 rfl) rfl
theorem q1151 : (Jvm.Cond.code ({ cls := "WebHost$Segment", name := "has", desc := "(I)Z" } : Jvm.MethodName) prog_12_method_2_code (2 : Nat) (Option.some Jvm.ClassFile.FieldType.boolean)) ∈ lw_all := lw_g (lw_at lw_m5 35 rfl) rfl
theorem q1152 : (Jvm.Cond.methodLink "WebHost$Connection" (207 : Nat) ({ cls := "WebHost$Connection", name := "isIn", desc := "(II)Z" } : Jvm.MethodName)) ∈ lw_all := lw_g (lw_at lw_m5 36 rfl) rfl
theorem q1153 : (Jvm.Cond.privateMethod ({ cls := "WebHost$Connection", name := "isIn", desc := "(II)Z" } : Jvm.MethodName)) ∈ lw_tbl := lw_at lw_m5 37 rfl
theorem q1154 : (Jvm.Cond.instanceMethod ({ cls := "WebHost$Connection", name := "isIn", desc := "(II)Z" } : Jvm.MethodName)) ∈ lw_all := lw_g (lw_at lw_m5 38 rfl) rfl
theorem q1155 : (Jvm.Cond.code ({ cls := "WebHost$Connection", name := "isIn", desc := "(II)Z" } : Jvm.MethodName) prog_3_method_16_code (3 : Nat) (Option.some Jvm.ClassFile.FieldType.boolean)) ∈ lw_all := lw_g (lw_at lw_m5 39 rfl) rfl
theorem q1156 : (Jvm.Cond.methodLink "WebHost$Connection" (214 : Nat) ({ cls := "WebHost$Segment", name := "has", desc := "(I)Z" } : Jvm.MethodName)) ∈ lw_all := lw_g (lw_at lw_m5 40 rfl) rfl
theorem q1157 : (Jvm.Cond.methodLink "WebHost$Connection" (219 : Nat) ({ cls := "WebHost$Connection", name := "live", desc := "(I)V" } : Jvm.MethodName)) ∈ lw_all := lw_g (lw_at lw_m5 41 rfl) rfl
theorem q1158 : (Jvm.Cond.privateMethod ({ cls := "WebHost$Connection", name := "live", desc := "(I)V" } : Jvm.MethodName)) ∈ lw_tbl := lw_at lw_m5 42 rfl
theorem q1159 : (Jvm.Cond.instanceMethod ({ cls := "WebHost$Connection", name := "live", desc := "(I)V" } : Jvm.MethodName)) ∈ lw_all := lw_g (lw_at lw_m5 43 rfl) rfl
theorem q1160 : (Jvm.Cond.code ({ cls := "WebHost$Connection", name := "live", desc := "(I)V" } : Jvm.MethodName) prog_3_method_25_code (2 : Nat) (Option.none : Option Jvm.ClassFile.FieldType)) ∈ lw_all := lw_g (lw_at lw_m5 44 rfl) rfl
theorem q1161 : (Jvm.Cond.methodLink "WebHost$Connection" (222 : Nat) ({ cls := "WebHost$Connection", name := "acknowledge", desc := "()V" } : Jvm.MethodName)) ∈ lw_all := lw_g (lw_at lw_m5 45 rfl) rfl
theorem q1162 : (Jvm.Cond.privateMethod ({ cls := "WebHost$Connection", name := "acknowledge", desc := "()V" } : Jvm.MethodName)) ∈ lw_tbl := lw_at lw_m5 46 rfl
theorem q1163 : (Jvm.Cond.instanceMethod ({ cls := "WebHost$Connection", name := "acknowledge", desc := "()V" } : Jvm.MethodName)) ∈ lw_all := lw_g (lw_at lw_m5 47 rfl) rfl
theorem q1164 : (Jvm.Cond.code ({ cls := "WebHost$Connection", name := "acknowledge", desc := "()V" } : Jvm.MethodName) prog_3_method_4_code (1 : Nat) (Option.none : Option Jvm.ClassFile.FieldType)) ∈ lw_all := lw_g (lw_at lw_m5 48 rfl) rfl
theorem q1165 : (Jvm.Cond.methodLink "WebHost$Connection" (228 : Nat) ({ cls := "WebHost$Wire", name := "reset", desc := "(LWebHost$Segment;)V" } : Jvm.MethodName)) ∈ lw_all := lw_g (lw_at lw_m5 49 rfl) rfl
theorem q1166 : (Jvm.Cond.instanceMethod ({ cls := "WebHost$Wire", name := "reset", desc := "(LWebHost$Segment;)V" } : Jvm.MethodName)) ∈ lw_all := lw_g (lw_at lw_m5 50 rfl) rfl
theorem q1167 : (Jvm.Cond.selects "WebHost$Wire" ({ cls := "WebHost$Wire", name := "reset", desc := "(LWebHost$Segment;)V" } : Jvm.MethodName) ({ cls := "WebHost$Wire", name := "reset", desc := "(LWebHost$Segment;)V" } : Jvm.MethodName)) ∈ lw_all := lw_g (lw_at lw_m5 51 rfl) rfl
theorem q1168 : (Jvm.Cond.code ({ cls := "WebHost$Wire", name := "reset", desc := "(LWebHost$Segment;)V" } : Jvm.MethodName) prog_15_method_5_code (2 : Nat) (Option.none : Option Jvm.ClassFile.FieldType)) ∈ lw_all := lw_g (lw_at lw_m5 52 rfl) rfl
theorem q1169 : (Jvm.Cond.methodLink "WebHost$Wire" (79 : Nat) ({ cls := "WebHost$Segment", name := "has", desc := "(I)Z" } : Jvm.MethodName)) ∈ lw_all := lw_g (lw_at lw_m5 53 rfl) rfl
theorem q1170 : (Jvm.Cond.methodLink "WebHost$Wire" (97 : Nat) ({ cls := "WebHost$Wire", name := "send", desc := "(IIIIIII[BII)V" } : Jvm.MethodName)) ∈ lw_all := lw_g (lw_at lw_m5 54 rfl) rfl
theorem q1171 : (Jvm.Cond.methodLink "WebHost$Wire" (103 : Nat) ({ cls := "WebHost$Segment", name := "span", desc := "()I" } : Jvm.MethodName)) ∈ lw_all := lw_g (lw_at lw_m5 55 rfl) rfl
theorem q1172 : (Jvm.Cond.methodLink "WebHost$Connection" (232 : Nat) ({ cls := "WebHost$Connection", name := "takeAck", desc := "(LWebHost$Segment;)Z" } : Jvm.MethodName)) ∈ lw_all := lw_g (lw_at lw_m5 56 rfl) rfl
theorem q1173 : (Jvm.Cond.privateMethod ({ cls := "WebHost$Connection", name := "takeAck", desc := "(LWebHost$Segment;)Z" } : Jvm.MethodName)) ∈ lw_tbl := lw_at lw_m5 57 rfl
theorem q1174 : (Jvm.Cond.instanceMethod ({ cls := "WebHost$Connection", name := "takeAck", desc := "(LWebHost$Segment;)Z" } : Jvm.MethodName)) ∈ lw_all := lw_g (lw_at lw_m5 58 rfl) rfl
theorem q1175 : (Jvm.Cond.code ({ cls := "WebHost$Connection", name := "takeAck", desc := "(LWebHost$Segment;)Z" } : Jvm.MethodName) prog_3_method_21_code (5 : Nat) (Option.some Jvm.ClassFile.FieldType.boolean)) ∈ lw_all := lw_g (lw_at lw_m5 59 rfl) rfl
theorem q1176 : (Jvm.Cond.methodLink "WebHost$Connection" (264 : Nat) ({ cls := "WebHost$Connection", name := "measure", desc := "(I)V" } : Jvm.MethodName)) ∈ lw_all := lw_g (lw_at lw_m5 60 rfl) rfl
theorem q1177 : (Jvm.Cond.privateMethod ({ cls := "WebHost$Connection", name := "measure", desc := "(I)V" } : Jvm.MethodName)) ∈ lw_tbl := lw_at lw_m5 61 rfl
theorem q1178 : (Jvm.Cond.instanceMethod ({ cls := "WebHost$Connection", name := "measure", desc := "(I)V" } : Jvm.MethodName)) ∈ lw_all := lw_g (lw_at lw_m5 62 rfl) rfl
theorem q1179 : (Jvm.Cond.code ({ cls := "WebHost$Connection", name := "measure", desc := "(I)V" } : Jvm.MethodName) prog_3_method_28_code (3 : Nat) (Option.none : Option Jvm.ClassFile.FieldType)) ∈ lw_all := lw_g (lw_at lw_m5 63 rfl) rfl
theorem q1180 : (Jvm.Cond.methodLink "WebHost$Connection" (303 : Nat) ({ cls := "java/lang/Math", name := "abs", desc := "(I)I" } : Jvm.MethodName)) ∈ lw_all := lw_g (lw_at lw_m5 64 rfl) rfl
theorem q1181 : (Jvm.Cond.static ({ cls := "java/lang/Math", name := "abs", desc := "(I)I" } : Jvm.MethodName)) ∈ lw_all := lw_g (lw_at lw_m5 65 rfl) rfl
theorem q1182 : (Jvm.Cond.code ({ cls := "java/lang/Math", name := "abs", desc := "(I)I" } : Jvm.MethodName) prog_23_method_59_code (1 : Nat) (Option.some Jvm.ClassFile.FieldType.int)) ∈ lw_all := lw_g (lw_at lw_m5 66 rfl) rfl
theorem q1183 : (Jvm.Cond.methodLink "WebHost$Connection" (272 : Nat) ({ cls := "WebHost$Connection", name := "takeWindow", desc := "(LWebHost$Segment;)V" } : Jvm.MethodName)) ∈ lw_all := lw_g (lw_at lw_m5 67 rfl) rfl
theorem q1184 : (Jvm.Cond.privateMethod ({ cls := "WebHost$Connection", name := "takeWindow", desc := "(LWebHost$Segment;)V" } : Jvm.MethodName)) ∈ lw_tbl := lw_at lw_m5 68 rfl
theorem q1185 : (Jvm.Cond.instanceMethod ({ cls := "WebHost$Connection", name := "takeWindow", desc := "(LWebHost$Segment;)V" } : Jvm.MethodName)) ∈ lw_all := lw_g (lw_at lw_m5 69 rfl) rfl
theorem q1186 : (Jvm.Cond.code ({ cls := "WebHost$Connection", name := "takeWindow", desc := "(LWebHost$Segment;)V" } : Jvm.MethodName) prog_3_method_22_code (2 : Nat) (Option.none : Option Jvm.ClassFile.FieldType)) ∈ lw_all := lw_g (lw_at lw_m5 70 rfl) rfl
theorem q1187 : (Jvm.Cond.methodLink "WebHost$Connection" (276 : Nat) ({ cls := "WebHost$Connection", name := "renew", desc := "(II)V" } : Jvm.MethodName)) ∈ lw_all := lw_g (lw_at lw_m5 71 rfl) rfl
theorem q1188 : (Jvm.Cond.privateMethod ({ cls := "WebHost$Connection", name := "renew", desc := "(II)V" } : Jvm.MethodName)) ∈ lw_tbl := lw_at lw_m5 72 rfl
theorem q1189 : (Jvm.Cond.instanceMethod ({ cls := "WebHost$Connection", name := "renew", desc := "(II)V" } : Jvm.MethodName)) ∈ lw_all := lw_g (lw_at lw_m5 73 rfl) rfl
theorem q1190 : (Jvm.Cond.code ({ cls := "WebHost$Connection", name := "renew", desc := "(II)V" } : Jvm.MethodName) prog_3_method_26_code (3 : Nat) (Option.none : Option Jvm.ClassFile.FieldType)) ∈ lw_all := lw_g (lw_at lw_m5 74 rfl) rfl
theorem q1191 : (Jvm.Cond.methodLink "WebHost$Connection" (291 : Nat) ({ cls := "WebHost$Connection", name := "grow", desc := "(I)V" } : Jvm.MethodName)) ∈ lw_all := lw_g (lw_at lw_m5 75 rfl) rfl
theorem q1192 : (Jvm.Cond.privateMethod ({ cls := "WebHost$Connection", name := "grow", desc := "(I)V" } : Jvm.MethodName)) ∈ lw_tbl := lw_at lw_m5 76 rfl
theorem q1193 : (Jvm.Cond.instanceMethod ({ cls := "WebHost$Connection", name := "grow", desc := "(I)V" } : Jvm.MethodName)) ∈ lw_all := lw_g (lw_at lw_m5 77 rfl) rfl
theorem q1194 : (Jvm.Cond.code ({ cls := "WebHost$Connection", name := "grow", desc := "(I)V" } : Jvm.MethodName) prog_3_method_27_code (2 : Nat) (Option.none : Option Jvm.ClassFile.FieldType)) ∈ lw_all := lw_g (lw_at lw_m5 78 rfl) rfl
theorem q1195 : (Jvm.Cond.constant "WebHost$Connection" (179 : Nat) (65535 : Int32)) ∈ lw_all := lw_g (lw_at lw_m5 79 rfl) rfl
theorem q1196 : (Jvm.Cond.methodLink "WebHost$Connection" (294 : Nat) ({ cls := "WebHost$Connection", name := "restartTimer", desc := "()V" } : Jvm.MethodName)) ∈ lw_all := lw_g (lw_at lw_m5 80 rfl) rfl
theorem q1197 : (Jvm.Cond.privateMethod ({ cls := "WebHost$Connection", name := "restartTimer", desc := "()V" } : Jvm.MethodName)) ∈ lw_tbl := lw_at lw_m5 81 rfl
theorem q1198 : (Jvm.Cond.instanceMethod ({ cls := "WebHost$Connection", name := "restartTimer", desc := "()V" } : Jvm.MethodName)) ∈ lw_all := lw_g (lw_at lw_m5 82 rfl) rfl
theorem q1199 : (Jvm.Cond.code ({ cls := "WebHost$Connection", name := "restartTimer", desc := "()V" } : Jvm.MethodName) prog_3_method_12_code (1 : Nat) (Option.none : Option Jvm.ClassFile.FieldType)) ∈ lw_all := lw_g (lw_at lw_m5 83 rfl) rfl
theorem q1200 : (Jvm.Cond.methodLink "WebHost$Connection" (280 : Nat) ({ cls := "WebHost$Connection", name := "repeat", desc := "()V" } : Jvm.MethodName)) ∈ lw_all := lw_g (lw_at lw_m5 84 rfl) rfl
theorem q1201 : (Jvm.Cond.privateMethod ({ cls := "WebHost$Connection", name := "repeat", desc := "()V" } : Jvm.MethodName)) ∈ lw_tbl := lw_at lw_m5 85 rfl
theorem q1202 : (Jvm.Cond.instanceMethod ({ cls := "WebHost$Connection", name := "repeat", desc := "()V" } : Jvm.MethodName)) ∈ lw_all := lw_g (lw_at lw_m5 86 rfl) rfl
theorem q1203 : (Jvm.Cond.code ({ cls := "WebHost$Connection", name := "repeat", desc := "()V" } : Jvm.MethodName) prog_3_method_30_code (4 : Nat) (Option.none : Option Jvm.ClassFile.FieldType)) ∈ lw_all := lw_g (lw_at lw_m5 87 rfl) rfl
theorem q1204 : (Jvm.Cond.methodLink "WebHost$Connection" (283 : Nat) ({ cls := "WebHost$Connection", name := "finDone", desc := "()V" } : Jvm.MethodName)) ∈ lw_all := lw_g (lw_at lw_m5 88 rfl) rfl
theorem q1205 : (Jvm.Cond.privateMethod ({ cls := "WebHost$Connection", name := "finDone", desc := "()V" } : Jvm.MethodName)) ∈ lw_tbl := lw_at lw_m5 89 rfl
theorem q1206 : (Jvm.Cond.instanceMethod ({ cls := "WebHost$Connection", name := "finDone", desc := "()V" } : Jvm.MethodName)) ∈ lw_all := lw_g (lw_at lw_m5 90 rfl) rfl
theorem q1207 : (Jvm.Cond.code ({ cls := "WebHost$Connection", name := "finDone", desc := "()V" } : Jvm.MethodName) prog_3_method_23_code (1 : Nat) (Option.none : Option Jvm.ClassFile.FieldType)) ∈ lw_all := lw_g (lw_at lw_m5 91 rfl) rfl
theorem q1208 : (Jvm.Cond.methodLink "WebHost$Connection" (286 : Nat) ({ cls := "WebHost$Connection", name := "wait2", desc := "()V" } : Jvm.MethodName)) ∈ lw_all := lw_g (lw_at lw_m5 92 rfl) rfl
theorem q1209 : (Jvm.Cond.privateMethod ({ cls := "WebHost$Connection", name := "wait2", desc := "()V" } : Jvm.MethodName)) ∈ lw_tbl := lw_at lw_m5 93 rfl
theorem q1210 : (Jvm.Cond.instanceMethod ({ cls := "WebHost$Connection", name := "wait2", desc := "()V" } : Jvm.MethodName)) ∈ lw_all := lw_g (lw_at lw_m5 94 rfl) rfl
theorem q1211 : (Jvm.Cond.code ({ cls := "WebHost$Connection", name := "wait2", desc := "()V" } : Jvm.MethodName) prog_3_method_24_code (1 : Nat) (Option.none : Option Jvm.ClassFile.FieldType)) ∈ lw_all := lw_g (lw_at lw_m5 95 rfl) rfl
theorem q1212 : (Jvm.Cond.methodLink "WebHost$Connection" (235 : Nat) ({ cls := "WebHost$Connection", name := "takeData", desc := "(LWebHost$Segment;)V" } : Jvm.MethodName)) ∈ lw_all := lw_g (lw_at lw_m5 96 rfl) rfl
theorem q1213 : (Jvm.Cond.privateMethod ({ cls := "WebHost$Connection", name := "takeData", desc := "(LWebHost$Segment;)V" } : Jvm.MethodName)) ∈ lw_tbl := lw_at lw_m5 97 rfl
theorem q1214 : (Jvm.Cond.instanceMethod ({ cls := "WebHost$Connection", name := "takeData", desc := "(LWebHost$Segment;)V" } : Jvm.MethodName)) ∈ lw_all := lw_g (lw_at lw_m5 98 rfl) rfl
theorem q1215 : (Jvm.Cond.code ({ cls := "WebHost$Connection", name := "takeData", desc := "(LWebHost$Segment;)V" } : Jvm.MethodName) prog_3_method_31_code (5 : Nat) (Option.none : Option Jvm.ClassFile.FieldType)) ∈ lw_all := lw_g (lw_at lw_m5 99 rfl) rfl
theorem q1216 : (Jvm.Cond.methodLink "WebHost$Connection" (312 : Nat) ({ cls := "WebHost$Inbox", name := "put", desc := "(IB)V" } : Jvm.MethodName)) ∈ lw_all := lw_g (lw_at lw_m5 100 rfl) rfl
theorem q1217 : (Jvm.Cond.instanceMethod ({ cls := "WebHost$Inbox", name := "put", desc := "(IB)V" } : Jvm.MethodName)) ∈ lw_all := lw_g (lw_at lw_m5 101 rfl) rfl
theorem q1218 : (Jvm.Cond.selects "WebHost$Inbox" ({ cls := "WebHost$Inbox", name := "put", desc := "(IB)V" } : Jvm.MethodName) ({ cls := "WebHost$Inbox", name := "put", desc := "(IB)V" } : Jvm.MethodName)) ∈ lw_all := lw_g (lw_at lw_m5 102 rfl) rfl
theorem q1219 : (Jvm.Cond.code ({ cls := "WebHost$Inbox", name := "put", desc := "(IB)V" } : Jvm.MethodName) prog_7_method_4_code (4 : Nat) (Option.none : Option Jvm.ClassFile.FieldType)) ∈ lw_all := lw_g (lw_at lw_m5 103 rfl) rfl
theorem q1220 : (Jvm.Cond.methodLink "WebHost$Connection" (316 : Nat) ({ cls := "WebHost$Segment", name := "end", desc := "()I" } : Jvm.MethodName)) ∈ lw_all := lw_g (lw_at lw_m5 104 rfl) rfl
theorem q1221 : (Jvm.Cond.instanceMethod ({ cls := "WebHost$Segment", name := "end", desc := "()I" } : Jvm.MethodName)) ∈ lw_all := lw_g (lw_at lw_m5 105 rfl) rfl
theorem q1222 : (Jvm.Cond.selects "WebHost$Segment" ({ cls := "WebHost$Segment", name := "end", desc := "()I" } : Jvm.MethodName) ({ cls := "WebHost$Segment", name := "end", desc := "()I" } : Jvm.MethodName)) ∈ lw_all := lw_g (lw_at lw_m5 106 rfl) rfl
theorem q1223 : (Jvm.Cond.code ({ cls := "WebHost$Segment", name := "end", desc := "()I" } : Jvm.MethodName) prog_12_method_4_code (1 : Nat) (Option.some Jvm.ClassFile.FieldType.int)) ∈ lw_all := lw_g (lw_at lw_m5 107 rfl) rfl
theorem q1224 : (Jvm.Cond.methodLink "WebHost$Connection" (320 : Nat) ({ cls := "WebHost$Inbox", name := "advance", desc := "()I" } : Jvm.MethodName)) ∈ lw_all := lw_g (lw_at lw_m5 108 rfl) rfl
theorem q1225 : (Jvm.Cond.instanceMethod ({ cls := "WebHost$Inbox", name := "advance", desc := "()I" } : Jvm.MethodName)) ∈ lw_all := lw_g (lw_at lw_m5 109 rfl) rfl
theorem q1226 : (Jvm.Cond.selects "WebHost$Inbox" ({ cls := "WebHost$Inbox", name := "advance", desc := "()I" } : Jvm.MethodName) ({ cls := "WebHost$Inbox", name := "advance", desc := "()I" } : Jvm.MethodName)) ∈ lw_all := lw_g (lw_at lw_m5 110 rfl) rfl
theorem q1227 : (Jvm.Cond.code ({ cls := "WebHost$Inbox", name := "advance", desc := "()I" } : Jvm.MethodName) prog_7_method_5_code (2 : Nat) (Option.some Jvm.ClassFile.FieldType.int)) ∈ lw_all := lw_g (lw_at lw_m5 111 rfl) rfl
theorem q1228 : (Jvm.Cond.methodLink "WebHost$Connection" (238 : Nat) ({ cls := "WebHost$Connection", name := "goOn", desc := "()V" } : Jvm.MethodName)) ∈ lw_all := lw_g (lw_at lw_m5 112 rfl) rfl
theorem q1229 : (Jvm.Cond.privateMethod ({ cls := "WebHost$Connection", name := "goOn", desc := "()V" } : Jvm.MethodName)) ∈ lw_tbl := lw_at lw_m5 113 rfl
theorem q1230 : (Jvm.Cond.instanceMethod ({ cls := "WebHost$Connection", name := "goOn", desc := "()V" } : Jvm.MethodName)) ∈ lw_all := lw_g (lw_at lw_m5 114 rfl) rfl
theorem q1231 : (Jvm.Cond.code ({ cls := "WebHost$Connection", name := "goOn", desc := "()V" } : Jvm.MethodName) prog_3_method_19_code (1 : Nat) (Option.none : Option Jvm.ClassFile.FieldType)) ∈ lw_all := lw_g (lw_at lw_m5 115 rfl) rfl
theorem q1232 : (Jvm.Cond.methodLink "WebHost$Connection" (241 : Nat) ({ cls := "WebHost$Inbox", name := "leaveOut", desc := "()V" } : Jvm.MethodName)) ∈ lw_all := lw_g (lw_at lw_m5 116 rfl) rfl
theorem q1233 : (Jvm.Cond.instanceMethod ({ cls := "WebHost$Inbox", name := "leaveOut", desc := "()V" } : Jvm.MethodName)) ∈ lw_all := lw_g (lw_at lw_m5 117 rfl) rfl
theorem q1234 : (Jvm.Cond.selects "WebHost$Inbox" ({ cls := "WebHost$Inbox", name := "leaveOut", desc := "()V" } : Jvm.MethodName) ({ cls := "WebHost$Inbox", name := "leaveOut", desc := "()V" } : Jvm.MethodName)) ∈ lw_all := lw_g (lw_at lw_m5 118 rfl) rfl
theorem q1235 : (Jvm.Cond.code ({ cls := "WebHost$Inbox", name := "leaveOut", desc := "()V" } : Jvm.MethodName) prog_7_method_7_code (2 : Nat) (Option.none : Option Jvm.ClassFile.FieldType)) ∈ lw_all := lw_g (lw_at lw_m5 119 rfl) rfl
theorem q1236 : (Jvm.Cond.methodLink "WebHost$Inbox" (24 : Nat) ({ cls := "java/lang/Math", name := "min", desc := "(II)I" } : Jvm.MethodName)) ∈ lw_all := lw_g (lw_at lw_m5 120 rfl) rfl
theorem q1237 : (Jvm.Cond.methodLink "WebHost$Inbox" (30 : Nat) ({ cls := "WebHost$Inbox", name := "take", desc := "(I)V" } : Jvm.MethodName)) ∈ lw_all := lw_g (lw_at lw_m5 121 rfl) rfl
theorem q1238 : (Jvm.Cond.instanceMethod ({ cls := "WebHost$Inbox", name := "take", desc := "(I)V" } : Jvm.MethodName)) ∈ lw_all := lw_g (lw_at lw_m5 122 rfl) rfl
theorem q1239 : (Jvm.Cond.selects "WebHost$Inbox" ({ cls := "WebHost$Inbox", name := "take", desc := "(I)V" } : Jvm.MethodName) ({ cls := "WebHost$Inbox", name := "take", desc := "(I)V" } : Jvm.MethodName)) ∈ lw_all := lw_g (lw_at lw_m5 123 rfl) rfl
theorem q1240 : (Jvm.Cond.code ({ cls := "WebHost$Inbox", name := "take", desc := "(I)V" } : Jvm.MethodName) prog_7_method_6_code (3 : Nat) (Option.none : Option Jvm.ClassFile.FieldType)) ∈ lw_all := lw_g (lw_at lw_m5 124 rfl) rfl
theorem q1241 : (Jvm.Cond.methodLink "WebHost$Connection" (244 : Nat) ({ cls := "WebHost$Connection", name := "look", desc := "()V" } : Jvm.MethodName)) ∈ lw_all := lw_g (lw_at lw_m5 125 rfl) rfl
theorem q1242 : (Jvm.Cond.privateMethod ({ cls := "WebHost$Connection", name := "look", desc := "()V" } : Jvm.MethodName)) ∈ lw_tbl := lw_at lw_m5 126 rfl
theorem q1243 : (Jvm.Cond.instanceMethod ({ cls := "WebHost$Connection", name := "look", desc := "()V" } : Jvm.MethodName)) ∈ lw_all := lw_g (lw_at lw_m5 127 rfl) rfl
theorem q1244 : (Jvm.Cond.code ({ cls := "WebHost$Connection", name := "look", desc := "()V" } : Jvm.MethodName) prog_3_method_20_code (2 : Nat) (Option.none : Option Jvm.ClassFile.FieldType)) ∈ lw_all := lw_g (lw_at lw_m5 128 rfl) rfl
theorem q1245 : (Jvm.Cond.methodLink "WebHost$Connection" (253 : Nat) ({ cls := "WebHost$Requests", name := "look", desc := "(LWebHost$Inbox;LWebHost$Answer;Z)I" } : Jvm.MethodName)) ∈ lw_all := lw_g (lw_at lw_m5 129 rfl) rfl
theorem q1246 : (Jvm.Cond.instanceMethod ({ cls := "WebHost$Requests", name := "look", desc := "(LWebHost$Inbox;LWebHost$Answer;Z)I" } : Jvm.MethodName)) ∈ lw_all := lw_g (lw_at lw_m5 130 rfl) rfl
theorem q1247 : (Jvm.Cond.selects "WebHost$Requests" ({ cls := "WebHost$Requests", name := "look", desc := "(LWebHost$Inbox;LWebHost$Answer;Z)I" } : Jvm.MethodName) ({ cls := "WebHost$Requests", name := "look", desc := "(LWebHost$Inbox;LWebHost$Answer;Z)I" } : Jvm.MethodName)) ∈ lw_all := lw_g (lw_at lw_m5 131 rfl) rfl
theorem q1248 : (Jvm.Cond.code ({ cls := "WebHost$Requests", name := "look", desc := "(LWebHost$Inbox;LWebHost$Answer;Z)I" } : Jvm.MethodName) prog_11_method_2_code (5 : Nat) (Option.some Jvm.ClassFile.FieldType.int)) ∈ lw_all := lw_g (lw_at lw_m5 132 rfl) rfl
theorem q1249 : (Jvm.Cond.methodLink "WebHost$Requests" (29 : Nat) ({ cls := "WebHost$Inbox", name := "take", desc := "(I)V" } : Jvm.MethodName)) ∈ lw_all := lw_g (lw_at lw_m5 133 rfl) rfl
theorem q1250 : (Jvm.Cond.methodLink "WebHost$Requests" (33 : Nat) ({ cls := "WebHost$Requests", name := "headEnd", desc := "(LWebHost$Inbox;)I" } : Jvm.MethodName)) ∈ lw_all := lw_g (lw_at lw_m5 134 rfl) rfl
theorem q1251 : (Jvm.Cond.static ({ cls := "WebHost$Requests", name := "headEnd", desc := "(LWebHost$Inbox;)I" } : Jvm.MethodName)) ∈ lw_all := lw_g (lw_at lw_m5 135 rfl) rfl
theorem q1252 : (Jvm.Cond.code ({ cls := "WebHost$Requests", name := "headEnd", desc := "(LWebHost$Inbox;)I" } : Jvm.MethodName) prog_11_method_3_code (3 : Nat) (Option.some Jvm.ClassFile.FieldType.int)) ∈ lw_all := lw_g (lw_at lw_m5 136 rfl) rfl
theorem q1253 : (Jvm.Cond.stringRef "WebHost$Requests" (44 : Nat) "Request Header Fields Too Large") ∈ lw_tbl := lw_at lw_m5 137 rfl
theorem q1254 : (Jvm.Cond.methodLink "WebHost$Requests" (46 : Nat) ({ cls := "WebHost$Requests", name := "plain", desc := "(LWebHost$Answer;ILjava/lang/String;Z)V" } : Jvm.MethodName)) ∈ lw_all := lw_g (lw_at lw_m5 138 rfl) rfl
theorem q1255 : (Jvm.Cond.privateMethod ({ cls := "WebHost$Requests", name := "plain", desc := "(LWebHost$Answer;ILjava/lang/String;Z)V" } : Jvm.MethodName)) ∈ lw_tbl := lw_at lw_m5 139 rfl
theorem q1256 : (Jvm.Cond.instanceMethod ({ cls := "WebHost$Requests", name := "plain", desc := "(LWebHost$Answer;ILjava/lang/String;Z)V" } : Jvm.MethodName)) ∈ lw_all := lw_g (lw_at lw_m5 140 rfl) rfl
theorem q1257 : (Jvm.Cond.code ({ cls := "WebHost$Requests", name := "plain", desc := "(LWebHost$Answer;ILjava/lang/String;Z)V" } : Jvm.MethodName) prog_11_method_28_code (5 : Nat) (Option.none : Option Jvm.ClassFile.FieldType)) ∈ lw_all := lw_g (lw_at lw_m5 141 rfl) rfl
theorem q1258 : (Jvm.Cond.methodLink "WebHost$Requests" (281 : Nat) ({ cls := "WebHost$Requests", name := "begin", desc := "(LWebHost$Answer;ILjava/lang/String;)V" } : Jvm.MethodName)) ∈ lw_all := lw_g (lw_at lw_m5 142 rfl) rfl
theorem q1259 : (Jvm.Cond.privateMethod ({ cls := "WebHost$Requests", name := "begin", desc := "(LWebHost$Answer;ILjava/lang/String;)V" } : Jvm.MethodName)) ∈ lw_tbl := lw_at lw_m5 143 rfl
theorem q1260 : (Jvm.Cond.instanceMethod ({ cls := "WebHost$Requests", name := "begin", desc := "(LWebHost$Answer;ILjava/lang/String;)V" } : Jvm.MethodName)) ∈ lw_all := lw_g (lw_at lw_m5 144 rfl) rfl
theorem q1261 : (Jvm.Cond.code ({ cls := "WebHost$Requests", name := "begin", desc := "(LWebHost$Answer;ILjava/lang/String;)V" } : Jvm.MethodName) prog_11_method_25_code (4 : Nat) (Option.none : Option Jvm.ClassFile.FieldType)) ∈ lw_all := lw_g (lw_at lw_m5 145 rfl) rfl
theorem q1262 : (Jvm.Cond.methodLink "WebHost$Requests" (255 : Nat) ({ cls := "WebHost$Answer", name := "clear", desc := "()V" } : Jvm.MethodName)) ∈ lw_all := lw_g (lw_at lw_m5 146 rfl) rfl
theorem q1263 : (Jvm.Cond.instanceMethod ({ cls := "WebHost$Answer", name := "clear", desc := "()V" } : Jvm.MethodName)) ∈ lw_all := lw_g (lw_at lw_m5 147 rfl) rfl
theorem q1264 : (Jvm.Cond.selects "WebHost$Answer" ({ cls := "WebHost$Answer", name := "clear", desc := "()V" } : Jvm.MethodName) ({ cls := "WebHost$Answer", name := "clear", desc := "()V" } : Jvm.MethodName)) ∈ lw_all := lw_g (lw_at lw_m5 148 rfl) rfl
theorem q1265 : (Jvm.Cond.code ({ cls := "WebHost$Answer", name := "clear", desc := "()V" } : Jvm.MethodName) prog_2_method_2_code (1 : Nat) (Option.none : Option Jvm.ClassFile.FieldType)) ∈ lw_all := lw_g (lw_at lw_m5 149 rfl) rfl
theorem q1266 : (Jvm.Cond.constant "WebHost$Answer" (15 : Nat) (66047 : Int32)) ∈ lw_all := lw_g (lw_at lw_m5 150 rfl) rfl
theorem q1267 : (Jvm.Cond.stringRef "WebHost$Requests" (260 : Nat) "HTTP/1.1 ") ∈ lw_tbl := lw_at lw_m5 151 rfl
theorem q1268 : (Jvm.Cond.methodLink "WebHost$Requests" (262 : Nat) ({ cls := "WebHost$Answer", name := "say", desc := "(Ljava/lang/String;)V" } : Jvm.MethodName)) ∈ lw_all := lw_g (lw_at lw_m5 152 rfl) rfl
theorem q1269 : (Jvm.Cond.instanceMethod ({ cls := "WebHost$Answer", name := "say", desc := "(Ljava/lang/String;)V" } : Jvm.MethodName)) ∈ lw_all := lw_g (lw_at lw_m5 153 rfl) rfl
theorem q1270 : (Jvm.Cond.selects "WebHost$Answer" ({ cls := "WebHost$Answer", name := "say", desc := "(Ljava/lang/String;)V" } : Jvm.MethodName) ({ cls := "WebHost$Answer", name := "say", desc := "(Ljava/lang/String;)V" } : Jvm.MethodName)) ∈ lw_all := lw_g (lw_at lw_m5 154 rfl) rfl
theorem q1271 : (Jvm.Cond.code ({ cls := "WebHost$Answer", name := "say", desc := "(Ljava/lang/String;)V" } : Jvm.MethodName) prog_2_method_4_code (3 : Nat) (Option.none : Option Jvm.ClassFile.FieldType)) ∈ lw_all := lw_g (lw_at lw_m5 155 rfl) rfl
theorem q1272 : (Jvm.Cond.methodLink "WebHost$Answer" (20 : Nat) ({ cls := "java/lang/String", name := "length", desc := "()I" } : Jvm.MethodName)) ∈ lw_all := lw_g (lw_at lw_m5 156 rfl) rfl
theorem q1273 : (Jvm.Cond.instanceMethod ({ cls := "java/lang/String", name := "length", desc := "()I" } : Jvm.MethodName)) ∈ lw_all := lw_g (lw_at lw_m5 157 rfl) rfl
theorem q1274 : (Jvm.Cond.selects "java/lang/String" ({ cls := "java/lang/String", name := "length", desc := "()I" } : Jvm.MethodName) ({ cls := "java/lang/String", name := "length", desc := "()I" } : Jvm.MethodName)) ∈ lw_all := lw_g (lw_at lw_m5 158 rfl) rfl
theorem q1275 : (Jvm.Cond.code ({ cls := "java/lang/String", name := "length", desc := "()I" } : Jvm.MethodName) prog_24_method_54_code (1 : Nat) (Option.some Jvm.ClassFile.FieldType.int)) ∈ lw_all := lw_g (lw_at lw_m5 159 rfl) rfl
theorem q1276 : (Jvm.Cond.methodLink "java/lang/String" (335 : Nat) ({ cls := "java/lang/String", name := "coder", desc := "()B" } : Jvm.MethodName)) ∈ lw_all := lw_g (lw_at lw_m5 160 rfl) rfl
theorem q1277 : (Jvm.Cond.instanceMethod ({ cls := "java/lang/String", name := "coder", desc := "()B" } : Jvm.MethodName)) ∈ lw_all := lw_g (lw_at lw_m5 161 rfl) rfl
theorem q1278 : (Jvm.Cond.selects "java/lang/String" ({ cls := "java/lang/String", name := "coder", desc := "()B" } : Jvm.MethodName) ({ cls := "java/lang/String", name := "coder", desc := "()B" } : Jvm.MethodName)) ∈ lw_all := lw_g (lw_at lw_m5 162 rfl) rfl
theorem q1279 : (Jvm.Cond.code ({ cls := "java/lang/String", name := "coder", desc := "()B" } : Jvm.MethodName) prog_24_method_152_code (1 : Nat) (Option.some Jvm.ClassFile.FieldType.byte)) ∈ lw_all := lw_g (lw_at lw_m5 163 rfl) rfl
theorem q1280 : (Jvm.Cond.fieldLink "java/lang/String" (38 : Nat) "java/lang/String" "COMPACT_STRINGS" "Z") ∈ lw_all := lw_g (lw_at lw_m5 164 rfl) rfl
theorem q1281 : (Jvm.Cond.laysStatic "java/lang/String" "COMPACT_STRINGS" "Z") ∈ lw_tbl := lw_at lw_m5 165 rfl
theorem q1282 : (Jvm.Cond.methodLink "WebHost$Answer" (25 : Nat) ({ cls := "java/lang/String", name := "charAt", desc := "(I)C" } : Jvm.MethodName)) ∈ lw_all := lw_g (lw_at lw_m5 166 rfl) rfl
theorem q1283 : (Jvm.Cond.instanceMethod ({ cls := "java/lang/String", name := "charAt", desc := "(I)C" } : Jvm.MethodName)) ∈ lw_all := lw_g (lw_at lw_m5 167 rfl) rfl
theorem q1284 : (Jvm.Cond.selects "java/lang/String" ({ cls := "java/lang/String", name := "charAt", desc := "(I)C" } : Jvm.MethodName) ({ cls := "java/lang/String", name := "charAt", desc := "(I)C" } : Jvm.MethodName)) ∈ lw_all := lw_g (lw_at lw_m5 168 rfl) rfl
theorem q1285 : (Jvm.Cond.code ({ cls := "java/lang/String", name := "charAt", desc := "(I)C" } : Jvm.MethodName) prog_24_method_56_code (2 : Nat) (Option.some Jvm.ClassFile.FieldType.char)) ∈ lw_all := lw_g (lw_at lw_m5 169 rfl) rfl
theorem q1286 : (Jvm.Cond.methodLink "java/lang/String" (492 : Nat) ({ cls := "java/lang/String", name := "isLatin1", desc := "()Z" } : Jvm.MethodName)) ∈ lw_all := lw_g (lw_at lw_m5 170 rfl) rfl
theorem q1287 : (Jvm.Cond.instanceMethod ({ cls := "java/lang/String", name := "isLatin1", desc := "()Z" } : Jvm.MethodName)) ∈ lw_all := lw_g (lw_at lw_m5 171 rfl) rfl
theorem q1288 : (Jvm.Cond.selects "java/lang/String" ({ cls := "java/lang/String", name := "isLatin1", desc := "()Z" } : Jvm.MethodName) ({ cls := "java/lang/String", name := "isLatin1", desc := "()Z" } : Jvm.MethodName)) ∈ lw_all := lw_g (lw_at lw_m5 172 rfl) rfl
theorem q1289 : (Jvm.Cond.code ({ cls := "java/lang/String", name := "isLatin1", desc := "()Z" } : Jvm.MethodName) prog_24_method_154_code (1 : Nat) (Option.some Jvm.ClassFile.FieldType.boolean)) ∈ lw_all := lw_g (lw_at lw_m5 173 rfl) rfl
theorem q1290 : (Jvm.Cond.methodLink "java/lang/String" (495 : Nat) ({ cls := "java/lang/StringLatin1", name := "charAt", desc := "([BI)C" } : Jvm.MethodName)) ∈ lw_all := lw_g (lw_at lw_m5 174 rfl) rfl
theorem q1291 : (Jvm.Cond.static ({ cls := "java/lang/StringLatin1", name := "charAt", desc := "([BI)C" } : Jvm.MethodName)) ∈ lw_all := lw_g (lw_at lw_m5 175 rfl) rfl
theorem q1292 : (Jvm.Cond.code ({ cls := "java/lang/StringLatin1", name := "charAt", desc := "([BI)C" } : Jvm.MethodName) prog_25_method_2_code (2 : Nat) (Option.some Jvm.ClassFile.FieldType.char)) ∈ lw_all := lw_g (lw_at lw_m5 176 rfl) rfl
theorem q1293 : (Jvm.Cond.methodLink "java/lang/StringLatin1" (9 : Nat) ({ cls := "java/lang/String", name := "checkIndex", desc := "(II)V" } : Jvm.MethodName)) ∈ lw_all := lw_g (lw_at lw_m5 177 rfl) rfl
theorem q1294 : (Jvm.Cond.static ({ cls := "java/lang/String", name := "checkIndex", desc := "(II)V" } : Jvm.MethodName)) ∈ lw_all := lw_g (lw_at lw_m5 178 rfl) rfl
theorem q1295 : (Jvm.Cond.code ({ cls := "java/lang/String", name := "checkIndex", desc := "(II)V" } : Jvm.MethodName) prog_24_method_155_code (2 : Nat) (Option.none : Option Jvm.ClassFile.FieldType)) ∈ lw_all := lw_g (lw_at lw_m5 179 rfl) rfl
theorem q1296 : (Jvm.Cond.fieldLink "java/lang/String" (1053 : Nat) "jdk/internal/util/Preconditions" "SIOOBE_FORMATTER" "Ljava/util/function/BiFunction;") ∈ lw_all := lw_g (lw_at lw_m5 180 rfl) rfl
theorem q1297 : (Jvm.Cond.laysStatic "jdk/internal/util/Preconditions" "SIOOBE_FORMATTER" "Ljava/util/function/BiFunction;") ∈ lw_tbl := lw_at lw_m5 181 rfl
theorem q1298 : (Jvm.Cond.methodLink "java/lang/String" (1059 : Nat) ({ cls := "jdk/internal/util/Preconditions", name := "checkIndex", desc := "(IILjava/util/function/BiFunction;)I" } : Jvm.MethodName)) ∈ lw_all := lw_g (lw_at lw_m5 182 rfl) rfl
theorem q1299 : (Jvm.Cond.static ({ cls := "jdk/internal/util/Preconditions", name := "checkIndex", desc := "(IILjava/util/function/BiFunction;)I" } : Jvm.MethodName)) ∈ lw_all := lw_g (lw_at lw_m5 183 rfl) rfl
theorem q1300 : (Jvm.Cond.code ({ cls := "jdk/internal/util/Preconditions", name := "checkIndex", desc := "(IILjava/util/function/BiFunction;)I" } : Jvm.MethodName) prog_27_method_11_code (3 : Nat) (Option.some Jvm.ClassFile.FieldType.int)) ∈ lw_all := lw_g (lw_at lw_m5 184 rfl) rfl
theorem q1301 : (Jvm.Cond.methodLink "java/lang/String" (498 : Nat) ({ cls := "java/lang/StringUTF16", name := "charAt", desc := "([BI)C" } : Jvm.MethodName)) ∈ lw_all := lw_g (lw_at lw_m5 185 rfl) rfl
theorem q1302 : (Jvm.Cond.static ({ cls := "java/lang/StringUTF16", name := "charAt", desc := "([BI)C" } : Jvm.MethodName)) ∈ lw_all := lw_g (lw_at lw_m5 186 rfl) rfl
theorem q1303 : (Jvm.Cond.code ({ cls := "java/lang/StringUTF16", name := "charAt", desc := "([BI)C" } : Jvm.MethodName) prog_26_method_83_code (2 : Nat) (Option.some Jvm.ClassFile.FieldType.char)) ∈ lw_all := lw_g (lw_at lw_m5 187 rfl) rfl
theorem q1304 : (Jvm.Cond.methodLink "java/lang/StringUTF16" (67 : Nat) ({ cls := "java/lang/StringUTF16", name := "checkIndex", desc := "(I[B)V" } : Jvm.MethodName)) ∈ lw_all := lw_g (lw_at lw_m5 188 rfl) rfl
theorem q1305 : (Jvm.Cond.static ({ cls := "java/lang/StringUTF16", name := "checkIndex", desc := "(I[B)V" } : Jvm.MethodName)) ∈ lw_all := lw_g (lw_at lw_m5 189 rfl) rfl
theorem q1306 : (Jvm.Cond.code ({ cls := "java/lang/StringUTF16", name := "checkIndex", desc := "(I[B)V" } : Jvm.MethodName) prog_26_method_91_code (2 : Nat) (Option.none : Option Jvm.ClassFile.FieldType)) ∈ lw_all := lw_g (lw_at lw_m5 190 rfl) rfl
theorem q1307 : (Jvm.Cond.methodLink "java/lang/StringUTF16" (48 : Nat) ({ cls := "java/lang/StringUTF16", name := "length", desc := "([B)I" } : Jvm.MethodName)) ∈ lw_all := lw_g (lw_at lw_m5 191 rfl) rfl
theorem q1308 : (Jvm.Cond.static ({ cls := "java/lang/StringUTF16", name := "length", desc := "([B)I" } : Jvm.MethodName)) ∈ lw_all := lw_g (lw_at lw_m5 192 rfl) rfl
theorem q1309 : (Jvm.Cond.code ({ cls := "java/lang/StringUTF16", name := "length", desc := "([B)I" } : Jvm.MethodName) prog_26_method_6_code (1 : Nat) (Option.some Jvm.ClassFile.FieldType.int)) ∈ lw_all := lw_g (lw_at lw_m5 193 rfl) rfl
theorem q1310 : (Jvm.Cond.methodLink "java/lang/StringUTF16" (414 : Nat) ({ cls := "java/lang/String", name := "checkIndex", desc := "(II)V" } : Jvm.MethodName)) ∈ lw_all := lw_g (lw_at lw_m5 194 rfl) rfl
theorem q1311 : (Jvm.Cond.methodLink "java/lang/StringUTF16" (71 : Nat) ({ cls := "java/lang/StringUTF16", name := "getChar", desc := "([BI)C" } : Jvm.MethodName)) ∈ lw_all := lw_g (lw_at lw_m5 195 rfl) rfl
theorem q1312 : (Jvm.Cond.static ({ cls := "java/lang/StringUTF16", name := "getChar", desc := "([BI)C" } : Jvm.MethodName)) ∈ lw_all := lw_g (lw_at lw_m5 196 rfl) rfl
theorem q1313 : (Jvm.Cond.code ({ cls := "java/lang/StringUTF16", name := "getChar", desc := "([BI)C" } : Jvm.MethodName) prog_26_method_5_code (2 : Nat) (Option.some Jvm.ClassFile.FieldType.char)) ∈ lw_all := lw_g (lw_at lw_m5 197 rfl) rfl
theorem q1314 : (Jvm.Cond.fieldLink "java/lang/StringUTF16" (44 : Nat) "java/lang/StringUTF16" "$assertionsDisabled" "Z") ∈ lw_all := lw_g (lw_at lw_m5 198 rfl) rfl
theorem q1315 : (Jvm.Cond.laysStatic "java/lang/StringUTF16" "$assertionsDisabled" "Z") ∈ lw_tbl := lw_at lw_m5 199 rfl
theorem q1316 : (Jvm.Cond.fieldLink "java/lang/StringUTF16" (59 : Nat) "java/lang/StringUTF16" "HI_BYTE_SHIFT" "I") ∈ lw_all := lw_g (lw_at lw_m5 200 rfl) rfl
theorem q1317 : (Jvm.Cond.laysStatic "java/lang/StringUTF16" "HI_BYTE_SHIFT" "I") ∈ lw_tbl := lw_at lw_m5 201 rfl
theorem q1318 : (Jvm.Cond.fieldLink "java/lang/StringUTF16" (63 : Nat) "java/lang/StringUTF16" "LO_BYTE_SHIFT" "I") ∈ lw_all := lw_g (lw_at lw_m5 202 rfl) rfl
theorem q1319 : (Jvm.Cond.laysStatic "java/lang/StringUTF16" "LO_BYTE_SHIFT" "I") ∈ lw_tbl := lw_at lw_m5 203 rfl
theorem q1320 : (Jvm.Cond.methodLink "WebHost$Answer" (29 : Nat) ({ cls := "WebHost$Answer", name := "put", desc := "(I)V" } : Jvm.MethodName)) ∈ lw_all := lw_g (lw_at lw_m5 204 rfl) rfl
theorem q1321 : (Jvm.Cond.instanceMethod ({ cls := "WebHost$Answer", name := "put", desc := "(I)V" } : Jvm.MethodName)) ∈ lw_all := lw_g (lw_at lw_m5 205 rfl) rfl
theorem q1322 : (Jvm.Cond.selects "WebHost$Answer" ({ cls := "WebHost$Answer", name := "put", desc := "(I)V" } : Jvm.MethodName) ({ cls := "WebHost$Answer", name := "put", desc := "(I)V" } : Jvm.MethodName)) ∈ lw_all := lw_g (lw_at lw_m5 206 rfl) rfl
theorem q1323 : (Jvm.Cond.code ({ cls := "WebHost$Answer", name := "put", desc := "(I)V" } : Jvm.MethodName) prog_2_method_3_code (2 : Nat) (Option.none : Option Jvm.ClassFile.FieldType)) ∈ lw_all := lw_g (lw_at lw_m5 207 rfl) rfl
theorem q1324 : (Jvm.Cond.methodLink "WebHost$Requests" (266 : Nat) ({ cls := "WebHost$Answer", name := "number", desc := "(I)V" } : Jvm.MethodName)) ∈ lw_all := lw_g (lw_at lw_m5 208 rfl) rfl
theorem q1325 : (Jvm.Cond.instanceMethod ({ cls := "WebHost$Answer", name := "number", desc := "(I)V" } : Jvm.MethodName)) ∈ lw_all := lw_g (lw_at lw_m5 209 rfl) rfl
theorem q1326 : (Jvm.Cond.selects "WebHost$Answer" ({ cls := "WebHost$Answer", name := "number", desc := "(I)V" } : Jvm.MethodName) ({ cls := "WebHost$Answer", name := "number", desc := "(I)V" } : Jvm.MethodName)) ∈ lw_all := lw_g (lw_at lw_m5 210 rfl) rfl
theorem q1327 : (Jvm.Cond.code ({ cls := "WebHost$Answer", name := "number", desc := "(I)V" } : Jvm.MethodName) prog_2_method_6_code (3 : Nat) (Option.none : Option Jvm.ClassFile.FieldType)) ∈ lw_all := lw_g (lw_at lw_m5 211 rfl) rfl
theorem q1328 : (Jvm.Cond.methodLink "WebHost$Requests" (269 : Nat) ({ cls := "WebHost$Answer", name := "put", desc := "(I)V" } : Jvm.MethodName)) ∈ lw_all := lw_g (lw_at lw_m5 212 rfl) rfl
theorem q1329 : (Jvm.Cond.methodLink "WebHost$Requests" (272 : Nat) ({ cls := "WebHost$Answer", name := "line", desc := "(Ljava/lang/String;)V" } : Jvm.MethodName)) ∈ lw_all := lw_g (lw_at lw_m5 213 rfl) rfl
theorem q1330 : (Jvm.Cond.instanceMethod ({ cls := "WebHost$Answer", name := "line", desc := "(Ljava/lang/String;)V" } : Jvm.MethodName)) ∈ lw_all := lw_g (lw_at lw_m5 214 rfl) rfl
theorem q1331 : (Jvm.Cond.selects "WebHost$Answer" ({ cls := "WebHost$Answer", name := "line", desc := "(Ljava/lang/String;)V" } : Jvm.MethodName) ({ cls := "WebHost$Answer", name := "line", desc := "(Ljava/lang/String;)V" } : Jvm.MethodName)) ∈ lw_all := lw_g (lw_at lw_m5 215 rfl) rfl
theorem q1332 : (Jvm.Cond.code ({ cls := "WebHost$Answer", name := "line", desc := "(Ljava/lang/String;)V" } : Jvm.MethodName) prog_2_method_5_code (2 : Nat) (Option.none : Option Jvm.ClassFile.FieldType)) ∈ lw_all := lw_g (lw_at lw_m5 216 rfl) rfl
theorem q1333 : (Jvm.Cond.methodLink "WebHost$Answer" (33 : Nat) ({ cls := "WebHost$Answer", name := "say", desc := "(Ljava/lang/String;)V" } : Jvm.MethodName)) ∈ lw_all := lw_g (lw_at lw_m5 217 rfl) rfl
theorem q1334 : (Jvm.Cond.methodLink "WebHost$Requests" (64 : Nat) ({ cls := "java/lang/String", name := "length", desc := "()I" } : Jvm.MethodName)) ∈ lw_all := lw_g (lw_at lw_m5 218 rfl) rfl
theorem q1335 : (Jvm.Cond.methodLink "WebHost$Requests" (285 : Nat) ({ cls := "WebHost$Requests", name := "length", desc := "(LWebHost$Answer;I)V" } : Jvm.MethodName)) ∈ lw_all := lw_g (lw_at lw_m5 219 rfl) rfl
theorem q1336 : (Jvm.Cond.privateMethod ({ cls := "WebHost$Requests", name := "length", desc := "(LWebHost$Answer;I)V" } : Jvm.MethodName)) ∈ lw_tbl := lw_at lw_m5 220 rfl
theorem q1337 : (Jvm.Cond.instanceMethod ({ cls := "WebHost$Requests", name := "length", desc := "(LWebHost$Answer;I)V" } : Jvm.MethodName)) ∈ lw_all := lw_g (lw_at lw_m5 221 rfl) rfl
theorem q1338 : (Jvm.Cond.code ({ cls := "WebHost$Requests", name := "length", desc := "(LWebHost$Answer;I)V" } : Jvm.MethodName) prog_11_method_27_code (3 : Nat) (Option.none : Option Jvm.ClassFile.FieldType)) ∈ lw_all := lw_g (lw_at lw_m5 222 rfl) rfl
theorem q1339 : (Jvm.Cond.stringRef "WebHost$Requests" (279 : Nat) "Content-Length: ") ∈ lw_tbl := lw_at lw_m5 223 rfl
theorem q1340 : (Jvm.Cond.stringRef "WebHost$Requests" (277 : Nat) "") ∈ lw_tbl := lw_at lw_m5 224 rfl
theorem q1341 : (Jvm.Cond.stringRef "WebHost$Requests" (288 : Nat) "Content-Type: text/plain") ∈ lw_tbl := lw_at lw_m5 225 rfl
theorem q1342 : (Jvm.Cond.stringRef "WebHost$Requests" (290 : Nat) "Allow: GET, HEAD") ∈ lw_tbl := lw_at lw_m5 226 rfl
theorem q1343 : (Jvm.Cond.methodLink "WebHost$Requests" (292 : Nat) ({ cls := "WebHost$Requests", name := "finish", desc := "(LWebHost$Answer;Z)V" } : Jvm.MethodName)) ∈ lw_all := lw_g (lw_at lw_m5 227 rfl) rfl
theorem q1344 : (Jvm.Cond.privateMethod ({ cls := "WebHost$Requests", name := "finish", desc := "(LWebHost$Answer;Z)V" } : Jvm.MethodName)) ∈ lw_tbl := lw_at lw_m5 228 rfl
theorem q1345 : (Jvm.Cond.instanceMethod ({ cls := "WebHost$Requests", name := "finish", desc := "(LWebHost$Answer;Z)V" } : Jvm.MethodName)) ∈ lw_all := lw_g (lw_at lw_m5 229 rfl) rfl
theorem q1346 : (Jvm.Cond.code ({ cls := "WebHost$Requests", name := "finish", desc := "(LWebHost$Answer;Z)V" } : Jvm.MethodName) prog_11_method_26_code (3 : Nat) (Option.none : Option Jvm.ClassFile.FieldType)) ∈ lw_all := lw_g (lw_at lw_m5 230 rfl) rfl
theorem q1347 : (Jvm.Cond.stringRef "WebHost$Requests" (275 : Nat) "Connection: close") ∈ lw_tbl := lw_at lw_m5 231 rfl
theorem q1348 : (Jvm.Cond.methodLink "WebHost$Requests" (50 : Nat) ({ cls := "WebHost$Net", name := "copy", desc := "([BI[BII)V" } : Jvm.MethodName)) ∈ lw_all := lw_g (lw_at lw_m5 232 rfl) rfl
theorem q1349 : (Jvm.Cond.methodLink "WebHost$Requests" (56 : Nat) ({ cls := "WebHost$Requests", name := "answer", desc := "(LWebHost$Inbox;LWebHost$Answer;)I" } : Jvm.MethodName)) ∈ lw_all := lw_g (lw_at lw_m5 233 rfl) rfl
theorem q1350 : (Jvm.Cond.privateMethod ({ cls := "WebHost$Requests", name := "answer", desc := "(LWebHost$Inbox;LWebHost$Answer;)I" } : Jvm.MethodName)) ∈ lw_tbl := lw_at lw_m5 234 rfl
theorem q1351 : (Jvm.Cond.instanceMethod ({ cls := "WebHost$Requests", name := "answer", desc := "(LWebHost$Inbox;LWebHost$Answer;)I" } : Jvm.MethodName)) ∈ lw_all := lw_g (lw_at lw_m5 235 rfl) rfl
theorem q1352 : (Jvm.Cond.code ({ cls := "WebHost$Requests", name := "answer", desc := "(LWebHost$Inbox;LWebHost$Answer;)I" } : Jvm.MethodName) prog_11_method_17_code (7 : Nat) (Option.some Jvm.ClassFile.FieldType.int)) ∈ lw_all := lw_g (lw_at lw_m5 236 rfl) rfl
theorem q1353 : (Jvm.Cond.methodLink "WebHost$Requests" (163 : Nat) ({ cls := "WebHost$Requests", name := "lineEnd", desc := "(I)I" } : Jvm.MethodName)) ∈ lw_all := lw_g (lw_at lw_m5 237 rfl) rfl
theorem q1354 : (Jvm.Cond.privateMethod ({ cls := "WebHost$Requests", name := "lineEnd", desc := "(I)I" } : Jvm.MethodName)) ∈ lw_tbl := lw_at lw_m5 238 rfl
theorem q1355 : (Jvm.Cond.instanceMethod ({ cls := "WebHost$Requests", name := "lineEnd", desc := "(I)I" } : Jvm.MethodName)) ∈ lw_all := lw_g (lw_at lw_m5 239 rfl) rfl
theorem q1356 : (Jvm.Cond.code ({ cls := "WebHost$Requests", name := "lineEnd", desc := "(I)I" } : Jvm.MethodName) prog_11_method_4_code (3 : Nat) (Option.some Jvm.ClassFile.FieldType.int)) ∈ lw_all := lw_g (lw_at lw_m6 0 rfl) rfl
theorem q1357 : (Jvm.Cond.methodLink "WebHost$Requests" (166 : Nat) ({ cls := "WebHost$Requests", name := "textEnd", desc := "(II)I" } : Jvm.MethodName)) ∈ lw_all := lw_g (lw_at lw_m6 1 rfl) rfl
theorem q1358 : (Jvm.Cond.privateMethod ({ cls := "WebHost$Requests", name := "textEnd", desc := "(II)I" } : Jvm.MethodName)) ∈ lw_tbl := lw_at lw_m6 2 rfl
theorem q1359 : (Jvm.Cond.instanceMethod ({ cls := "WebHost$Requests", name := "textEnd", desc := "(II)I" } : Jvm.MethodName)) ∈ lw_all := lw_g (lw_at lw_m6 3 rfl) rfl
theorem q1360 : (Jvm.Cond.code ({ cls := "WebHost$Requests", name := "textEnd", desc := "(II)I" } : Jvm.MethodName) prog_11_method_5_code (3 : Nat) (Option.some Jvm.ClassFile.FieldType.int)) ∈ lw_all := lw_g (lw_at lw_m6 4 rfl) rfl
theorem q1361 : (Jvm.Cond.methodLink "WebHost$Requests" (170 : Nat) ({ cls := "WebHost$Requests", name := "isRequestLine", desc := "(I)Z" } : Jvm.MethodName)) ∈ lw_all := lw_g (lw_at lw_m6 5 rfl) rfl
theorem q1362 : (Jvm.Cond.privateMethod ({ cls := "WebHost$Requests", name := "isRequestLine", desc := "(I)Z" } : Jvm.MethodName)) ∈ lw_tbl := lw_at lw_m6 6 rfl
theorem q1363 : (Jvm.Cond.instanceMethod ({ cls := "WebHost$Requests", name := "isRequestLine", desc := "(I)Z" } : Jvm.MethodName)) ∈ lw_all := lw_g (lw_at lw_m6 7 rfl) rfl
theorem q1364 : (Jvm.Cond.code ({ cls := "WebHost$Requests", name := "isRequestLine", desc := "(I)Z" } : Jvm.MethodName) prog_11_method_10_code (3 : Nat) (Option.some Jvm.ClassFile.FieldType.boolean)) ∈ lw_all := lw_g (lw_at lw_m6 8 rfl) rfl
theorem q1365 : (Jvm.Cond.methodLink "WebHost$Requests" (60 : Nat) ({ cls := "WebHost$Requests", name := "isIn", desc := "(III)Z" } : Jvm.MethodName)) ∈ lw_all := lw_g (lw_at lw_m6 9 rfl) rfl
theorem q1366 : (Jvm.Cond.static ({ cls := "WebHost$Requests", name := "isIn", desc := "(III)Z" } : Jvm.MethodName)) ∈ lw_all := lw_g (lw_at lw_m6 10 rfl) rfl
theorem q1367 : (Jvm.Cond.code ({ cls := "WebHost$Requests", name := "isIn", desc := "(III)Z" } : Jvm.MethodName) prog_11_method_6_code (3 : Nat) (Option.some Jvm.ClassFile.FieldType.boolean)) ∈ lw_all := lw_g (lw_at lw_m6 11 rfl) rfl
theorem q1368 : (Jvm.Cond.stringRef "WebHost$Requests" (84 : Nat) "HTTP/1.1") ∈ lw_tbl := lw_at lw_m6 12 rfl
theorem q1369 : (Jvm.Cond.methodLink "WebHost$Requests" (86 : Nat) ({ cls := "WebHost$Requests", name := "isExactly", desc := "(IILjava/lang/String;)Z" } : Jvm.MethodName)) ∈ lw_all := lw_g (lw_at lw_m6 13 rfl) rfl
theorem q1370 : (Jvm.Cond.privateMethod ({ cls := "WebHost$Requests", name := "isExactly", desc := "(IILjava/lang/String;)Z" } : Jvm.MethodName)) ∈ lw_tbl := lw_at lw_m6 14 rfl
theorem q1371 : (Jvm.Cond.instanceMethod ({ cls := "WebHost$Requests", name := "isExactly", desc := "(IILjava/lang/String;)Z" } : Jvm.MethodName)) ∈ lw_all := lw_g (lw_at lw_m6 15 rfl) rfl
theorem q1372 : (Jvm.Cond.code ({ cls := "WebHost$Requests", name := "isExactly", desc := "(IILjava/lang/String;)Z" } : Jvm.MethodName) prog_11_method_9_code (5 : Nat) (Option.some Jvm.ClassFile.FieldType.boolean)) ∈ lw_all := lw_g (lw_at lw_m6 16 rfl) rfl
theorem q1373 : (Jvm.Cond.methodLink "WebHost$Requests" (74 : Nat) ({ cls := "java/lang/String", name := "charAt", desc := "(I)C" } : Jvm.MethodName)) ∈ lw_all := lw_g (lw_at lw_m6 17 rfl) rfl
theorem q1374 : (Jvm.Cond.stringRef "WebHost$Requests" (93 : Nat) "HTTP/1.0") ∈ lw_tbl := lw_at lw_m6 18 rfl
theorem q1375 : (Jvm.Cond.methodLink "WebHost$Requests" (173 : Nat) ({ cls := "WebHost$Requests", name := "bad", desc := "(LWebHost$Answer;)I" } : Jvm.MethodName)) ∈ lw_all := lw_g (lw_at lw_m6 19 rfl) rfl
theorem q1376 : (Jvm.Cond.privateMethod ({ cls := "WebHost$Requests", name := "bad", desc := "(LWebHost$Answer;)I" } : Jvm.MethodName)) ∈ lw_tbl := lw_at lw_m6 20 rfl
theorem q1377 : (Jvm.Cond.instanceMethod ({ cls := "WebHost$Requests", name := "bad", desc := "(LWebHost$Answer;)I" } : Jvm.MethodName)) ∈ lw_all := lw_g (lw_at lw_m6 21 rfl) rfl
theorem q1378 : (Jvm.Cond.code ({ cls := "WebHost$Requests", name := "bad", desc := "(LWebHost$Answer;)I" } : Jvm.MethodName) prog_11_method_18_code (2 : Nat) (Option.some Jvm.ClassFile.FieldType.int)) ∈ lw_all := lw_g (lw_at lw_m6 22 rfl) rfl
theorem q1379 : (Jvm.Cond.stringRef "WebHost$Requests" (233 : Nat) "Bad Request") ∈ lw_tbl := lw_at lw_m6 23 rfl
theorem q1380 : (Jvm.Cond.methodLink "WebHost$Requests" (185 : Nat) ({ cls := "WebHost$Requests", name := "last", desc := "(LWebHost$Answer;ILjava/lang/String;)I" } : Jvm.MethodName)) ∈ lw_all := lw_g (lw_at lw_m6 24 rfl) rfl
theorem q1381 : (Jvm.Cond.privateMethod ({ cls := "WebHost$Requests", name := "last", desc := "(LWebHost$Answer;ILjava/lang/String;)I" } : Jvm.MethodName)) ∈ lw_tbl := lw_at lw_m6 25 rfl
theorem q1382 : (Jvm.Cond.instanceMethod ({ cls := "WebHost$Requests", name := "last", desc := "(LWebHost$Answer;ILjava/lang/String;)I" } : Jvm.MethodName)) ∈ lw_all := lw_g (lw_at lw_m6 26 rfl) rfl
theorem q1383 : (Jvm.Cond.code ({ cls := "WebHost$Requests", name := "last", desc := "(LWebHost$Answer;ILjava/lang/String;)I" } : Jvm.MethodName) prog_11_method_19_code (4 : Nat) (Option.some Jvm.ClassFile.FieldType.int)) ∈ lw_all := lw_g (lw_at lw_m6 27 rfl) rfl
theorem q1384 : (Jvm.Cond.stringRef "WebHost$Requests" (177 : Nat) "HEAD") ∈ lw_tbl := lw_at lw_m6 28 rfl
theorem q1385 : (Jvm.Cond.methodLink "WebHost$Requests" (179 : Nat) ({ cls := "WebHost$Requests", name := "isField", desc := "(II)Z" } : Jvm.MethodName)) ∈ lw_all := lw_g (lw_at lw_m6 29 rfl) rfl
theorem q1386 : (Jvm.Cond.privateMethod ({ cls := "WebHost$Requests", name := "isField", desc := "(II)Z" } : Jvm.MethodName)) ∈ lw_tbl := lw_at lw_m6 30 rfl
theorem q1387 : (Jvm.Cond.instanceMethod ({ cls := "WebHost$Requests", name := "isField", desc := "(II)Z" } : Jvm.MethodName)) ∈ lw_all := lw_g (lw_at lw_m6 31 rfl) rfl
theorem q1388 : (Jvm.Cond.code ({ cls := "WebHost$Requests", name := "isField", desc := "(II)Z" } : Jvm.MethodName) prog_11_method_13_code (7 : Nat) (Option.some Jvm.ClassFile.FieldType.boolean)) ∈ lw_all := lw_g (lw_at lw_m6 32 rfl) rfl
theorem q1389 : (Jvm.Cond.methodLink "WebHost$Requests" (100 : Nat) ({ cls := "WebHost$Requests", name := "isNameCode", desc := "(I)Z" } : Jvm.MethodName)) ∈ lw_all := lw_g (lw_at lw_m6 33 rfl) rfl
theorem q1390 : (Jvm.Cond.static ({ cls := "WebHost$Requests", name := "isNameCode", desc := "(I)Z" } : Jvm.MethodName)) ∈ lw_all := lw_g (lw_at lw_m6 34 rfl) rfl
theorem q1391 : (Jvm.Cond.code ({ cls := "WebHost$Requests", name := "isNameCode", desc := "(I)Z" } : Jvm.MethodName) prog_11_method_11_code (1 : Nat) (Option.some Jvm.ClassFile.FieldType.boolean)) ∈ lw_all := lw_g (lw_at lw_m6 35 rfl) rfl
theorem q1392 : (Jvm.Cond.stringRef "WebHost$Requests" (95 : Nat) "-_.!#$%&'*+^`|~") ∈ lw_tbl := lw_at lw_m6 36 rfl
theorem q1393 : (Jvm.Cond.methodLink "WebHost$Requests" (97 : Nat) ({ cls := "java/lang/String", name := "indexOf", desc := "(I)I" } : Jvm.MethodName)) ∈ lw_all := lw_g (lw_at lw_m6 37 rfl) rfl
theorem q1394 : (Jvm.Cond.instanceMethod ({ cls := "java/lang/String", name := "indexOf", desc := "(I)I" } : Jvm.MethodName)) ∈ lw_all := lw_g (lw_at lw_m6 38 rfl) rfl
theorem q1395 : (Jvm.Cond.selects "java/lang/String" ({ cls := "java/lang/String", name := "indexOf", desc := "(I)I" } : Jvm.MethodName) ({ cls := "java/lang/String", name := "indexOf", desc := "(I)I" } : Jvm.MethodName)) ∈ lw_all := lw_g (lw_at lw_m6 39 rfl) rfl
theorem q1396 : (Jvm.Cond.code ({ cls := "java/lang/String", name := "indexOf", desc := "(I)I" } : Jvm.MethodName) prog_24_method_79_code (2 : Nat) (Option.some Jvm.ClassFile.FieldType.int)) ∈ lw_all := lw_g (lw_at lw_m6 40 rfl) rfl
theorem q1397 : (Jvm.Cond.methodLink "java/lang/String" (633 : Nat) ({ cls := "java/lang/String", name := "indexOf", desc := "(II)I" } : Jvm.MethodName)) ∈ lw_all := lw_g (lw_at lw_m6 41 rfl) rfl
theorem q1398 : (Jvm.Cond.instanceMethod ({ cls := "java/lang/String", name := "indexOf", desc := "(II)I" } : Jvm.MethodName)) ∈ lw_all := lw_g (lw_at lw_m6 42 rfl) rfl
theorem q1399 : (Jvm.Cond.selects "java/lang/String" ({ cls := "java/lang/String", name := "indexOf", desc := "(II)I" } : Jvm.MethodName) ({ cls := "java/lang/String", name := "indexOf", desc := "(II)I" } : Jvm.MethodName)) ∈ lw_all := lw_g (lw_at lw_m6 43 rfl) rfl
theorem q1400 : (Jvm.Cond.code ({ cls := "java/lang/String", name := "indexOf", desc := "(II)I" } : Jvm.MethodName) prog_24_method_80_code (3 : Nat) (Option.some Jvm.ClassFile.FieldType.int)) ∈ lw_all := lw_g (lw_at lw_m6 44 rfl) rfl
theorem q1401 : (Jvm.Cond.methodLink "java/lang/String" (505 : Nat) ({ cls := "java/lang/String", name := "length", desc := "()I" } : Jvm.MethodName)) ∈ lw_all := lw_g (lw_at lw_m6 45 rfl) rfl
theorem q1402 : (Jvm.Cond.methodLink "java/lang/String" (637 : Nat) ({ cls := "java/lang/StringLatin1", name := "indexOf", desc := "([BIII)I" } : Jvm.MethodName)) ∈ lw_all := lw_g (lw_at lw_m6 46 rfl) rfl
theorem q1403 : (Jvm.Cond.static ({ cls := "java/lang/StringLatin1", name := "indexOf", desc := "([BIII)I" } : Jvm.MethodName)) ∈ lw_all := lw_g (lw_at lw_m6 47 rfl) rfl
theorem q1404 : (Jvm.Cond.code ({ cls := "java/lang/StringLatin1", name := "indexOf", desc := "([BIII)I" } : Jvm.MethodName) prog_25_method_22_code (4 : Nat) (Option.some Jvm.ClassFile.FieldType.int)) ∈ lw_all := lw_g (lw_at lw_m6 48 rfl) rfl
theorem q1405 : (Jvm.Cond.methodLink "java/lang/StringLatin1" (88 : Nat) ({ cls := "java/lang/StringLatin1", name := "canEncode", desc := "(I)Z" } : Jvm.MethodName)) ∈ lw_all := lw_g (lw_at lw_m6 49 rfl) rfl
theorem q1406 : (Jvm.Cond.static ({ cls := "java/lang/StringLatin1", name := "canEncode", desc := "(I)Z" } : Jvm.MethodName)) ∈ lw_all := lw_g (lw_at lw_m6 50 rfl) rfl
theorem q1407 : (Jvm.Cond.code ({ cls := "java/lang/StringLatin1", name := "canEncode", desc := "(I)Z" } : Jvm.MethodName) prog_25_method_4_code (1 : Nat) (Option.some Jvm.ClassFile.FieldType.boolean)) ∈ lw_all := lw_g (lw_at lw_m6 51 rfl) rfl
theorem q1408 : (Jvm.Cond.methodLink "java/lang/StringLatin1" (92 : Nat) ({ cls := "java/lang/Math", name := "max", desc := "(II)I" } : Jvm.MethodName)) ∈ lw_all := lw_g (lw_at lw_m6 52 rfl) rfl
theorem q1409 : (Jvm.Cond.methodLink "java/lang/StringLatin1" (38 : Nat) ({ cls := "java/lang/Math", name := "min", desc := "(II)I" } : Jvm.MethodName)) ∈ lw_all := lw_g (lw_at lw_m6 53 rfl) rfl
theorem q1410 : (Jvm.Cond.methodLink "java/lang/StringLatin1" (95 : Nat) ({ cls := "java/lang/StringLatin1", name := "indexOfChar", desc := "([BIII)I" } : Jvm.MethodName)) ∈ lw_all := lw_g (lw_at lw_m6 54 rfl) rfl
theorem q1411 : (Jvm.Cond.static ({ cls := "java/lang/StringLatin1", name := "indexOfChar", desc := "([BIII)I" } : Jvm.MethodName)) ∈ lw_all := lw_g (lw_at lw_m6 55 rfl) rfl
theorem q1412 : (Jvm.Cond.code ({ cls := "java/lang/StringLatin1", name := "indexOfChar", desc := "([BIII)I" } : Jvm.MethodName) prog_25_method_23_code (6 : Nat) (Option.some Jvm.ClassFile.FieldType.int)) ∈ lw_all := lw_g (lw_at lw_m6 56 rfl) rfl
theorem q1413 : (Jvm.Cond.methodLink "java/lang/String" (640 : Nat) ({ cls := "java/lang/StringUTF16", name := "indexOf", desc := "([BIII)I" } : Jvm.MethodName)) ∈ lw_all := lw_g (lw_at lw_m6 57 rfl) rfl
theorem q1414 : (Jvm.Cond.static ({ cls := "java/lang/StringUTF16", name := "indexOf", desc := "([BIII)I" } : Jvm.MethodName)) ∈ lw_all := lw_g (lw_at lw_m6 58 rfl) rfl
theorem q1415 : (Jvm.Cond.code ({ cls := "java/lang/StringUTF16", name := "indexOf", desc := "([BIII)I" } : Jvm.MethodName) prog_26_method_40_code (4 : Nat) (Option.some Jvm.ClassFile.FieldType.int)) ∈ lw_all := lw_g (lw_at lw_m6 59 rfl) rfl
theorem q1416 : (Jvm.Cond.methodLink "java/lang/StringUTF16" (224 : Nat) ({ cls := "java/lang/Math", name := "max", desc := "(II)I" } : Jvm.MethodName)) ∈ lw_all := lw_g (lw_at lw_m6 60 rfl) rfl
theorem q1417 : (Jvm.Cond.methodLink "java/lang/StringUTF16" (183 : Nat) ({ cls := "java/lang/Math", name := "min", desc := "(II)I" } : Jvm.MethodName)) ∈ lw_all := lw_g (lw_at lw_m6 61 rfl) rfl
theorem q1418 : (Jvm.Cond.constant "java/lang/StringUTF16" (227 : Nat) (65536 : Int32)) ∈ lw_all := lw_g (lw_at lw_m6 62 rfl) rfl
theorem q1419 : (Jvm.Cond.methodLink "java/lang/StringUTF16" (228 : Nat) ({ cls := "java/lang/StringUTF16", name := "indexOfChar", desc := "([BIII)I" } : Jvm.MethodName)) ∈ lw_all := lw_g (lw_at lw_m6 63 rfl) rfl
theorem q1420 : (Jvm.Cond.static ({ cls := "java/lang/StringUTF16", name := "indexOfChar", desc := "([BIII)I" } : Jvm.MethodName)) ∈ lw_all := lw_g (lw_at lw_m6 64 rfl) rfl
theorem q1421 : (Jvm.Cond.code ({ cls := "java/lang/StringUTF16", name := "indexOfChar", desc := "([BIII)I" } : Jvm.MethodName) prog_26_method_47_code (4 : Nat) (Option.some Jvm.ClassFile.FieldType.int)) ∈ lw_all := lw_g (lw_at lw_m6 65 rfl) rfl
theorem q1422 : (Jvm.Cond.methodLink "java/lang/StringUTF16" (96 : Nat) ({ cls := "java/lang/StringUTF16", name := "checkBoundsBeginEnd", desc := "(II[B)V" } : Jvm.MethodName)) ∈ lw_all := lw_g (lw_at lw_m6 66 rfl) rfl
theorem q1423 : (Jvm.Cond.static ({ cls := "java/lang/StringUTF16", name := "checkBoundsBeginEnd", desc := "(II[B)V" } : Jvm.MethodName)) ∈ lw_all := lw_g (lw_at lw_m6 67 rfl) rfl
theorem q1424 : (Jvm.Cond.code ({ cls := "java/lang/StringUTF16", name := "checkBoundsBeginEnd", desc := "(II[B)V" } : Jvm.MethodName) prog_26_method_93_code (3 : Nat) (Option.none : Option Jvm.ClassFile.FieldType)) ∈ lw_all := lw_g (lw_at lw_m6 68 rfl) rfl
theorem q1425 : (Jvm.Cond.methodLink "java/lang/StringUTF16" (241 : Nat) ({ cls := "java/lang/String", name := "checkBoundsBeginEnd", desc := "(III)V" } : Jvm.MethodName)) ∈ lw_all := lw_g (lw_at lw_m6 69 rfl) rfl
theorem q1426 : (Jvm.Cond.static ({ cls := "java/lang/String", name := "checkBoundsBeginEnd", desc := "(III)V" } : Jvm.MethodName)) ∈ lw_all := lw_g (lw_at lw_m6 70 rfl) rfl
theorem q1427 : (Jvm.Cond.code ({ cls := "java/lang/String", name := "checkBoundsBeginEnd", desc := "(III)V" } : Jvm.MethodName) prog_24_method_158_code (3 : Nat) (Option.none : Option Jvm.ClassFile.FieldType)) ∈ lw_all := lw_g (lw_at lw_m6 71 rfl) rfl
theorem q1428 : (Jvm.Cond.methodLink "java/lang/String" (1062 : Nat) ({ cls := "jdk/internal/util/Preconditions", name := "checkFromToIndex", desc := "(IIILjava/util/function/BiFunction;)I" } : Jvm.MethodName)) ∈ lw_all := lw_g (lw_at lw_m6 72 rfl) rfl
theorem q1429 : (Jvm.Cond.static ({ cls := "jdk/internal/util/Preconditions", name := "checkFromToIndex", desc := "(IIILjava/util/function/BiFunction;)I" } : Jvm.MethodName)) ∈ lw_all := lw_g (lw_at lw_m6 73 rfl) rfl
theorem q1430 : (Jvm.Cond.code ({ cls := "jdk/internal/util/Preconditions", name := "checkFromToIndex", desc := "(IIILjava/util/function/BiFunction;)I" } : Jvm.MethodName) prog_27_method_12_code (4 : Nat) (Option.some Jvm.ClassFile.FieldType.int)) ∈ lw_all := lw_g (lw_at lw_m6 74 rfl) rfl
theorem q1431 : (Jvm.Cond.methodLink "java/lang/StringUTF16" (244 : Nat) ({ cls := "java/lang/StringUTF16", name := "indexOfCharUnsafe", desc := "([BIII)I" } : Jvm.MethodName)) ∈ lw_all := lw_g (lw_at lw_m6 75 rfl) rfl
theorem q1432 : (Jvm.Cond.static ({ cls := "java/lang/StringUTF16", name := "indexOfCharUnsafe", desc := "([BIII)I" } : Jvm.MethodName)) ∈ lw_all := lw_g (lw_at lw_m6 76 rfl) rfl
theorem q1433 : (Jvm.Cond.code ({ cls := "java/lang/StringUTF16", name := "indexOfCharUnsafe", desc := "([BIII)I" } : Jvm.MethodName) prog_26_method_48_code (5 : Nat) (Option.some Jvm.ClassFile.FieldType.int)) ∈ lw_all := lw_g (lw_at lw_m6 77 rfl) rfl
theorem q1434 : (Jvm.Cond.methodLink "java/lang/StringUTF16" (232 : Nat) ({ cls := "java/lang/StringUTF16", name := "indexOfSupplementary", desc := "([BIII)I" } : Jvm.MethodName)) ∈ lw_all := lw_g (lw_at lw_m6 78 rfl) rfl
theorem q1435 : (Jvm.Cond.static ({ cls := "java/lang/StringUTF16", name := "indexOfSupplementary", desc := "([BIII)I" } : Jvm.MethodName)) ∈ lw_all := lw_g (lw_at lw_m6 79 rfl) rfl
theorem q1436 : (Jvm.Cond.code ({ cls := "java/lang/StringUTF16", name := "indexOfSupplementary", desc := "([BIII)I" } : Jvm.MethodName) prog_26_method_49_code (7 : Nat) (Option.some Jvm.ClassFile.FieldType.int)) ∈ lw_all := lw_g (lw_at lw_m6 80 rfl) rfl
theorem q1437 : (Jvm.Cond.methodLink "java/lang/StringUTF16" (164 : Nat) ({ cls := "java/lang/Character", name := "isValidCodePoint", desc := "(I)Z" } : Jvm.MethodName)) ∈ lw_all := lw_g (lw_at lw_m6 81 rfl) rfl
theorem q1438 : (Jvm.Cond.static ({ cls := "java/lang/Character", name := "isValidCodePoint", desc := "(I)Z" } : Jvm.MethodName)) ∈ lw_all := lw_g (lw_at lw_m6 82 rfl) rfl
theorem q1439 : (Jvm.Cond.code ({ cls := "java/lang/Character", name := "isValidCodePoint", desc := "(I)Z" } : Jvm.MethodName) prog_22_method_11_code (2 : Nat) (Option.some Jvm.ClassFile.FieldType.boolean)) ∈ lw_all := lw_g (lw_at lw_m6 83 rfl) rfl
theorem q1440 : (Jvm.Cond.methodLink "java/lang/StringUTF16" (157 : Nat) ({ cls := "java/lang/Character", name := "highSurrogate", desc := "(I)C" } : Jvm.MethodName)) ∈ lw_all := lw_g (lw_at lw_m6 84 rfl) rfl
theorem q1441 : (Jvm.Cond.static ({ cls := "java/lang/Character", name := "highSurrogate", desc := "(I)C" } : Jvm.MethodName)) ∈ lw_all := lw_g (lw_at lw_m6 85 rfl) rfl
theorem q1442 : (Jvm.Cond.code ({ cls := "java/lang/Character", name := "highSurrogate", desc := "(I)C" } : Jvm.MethodName) prog_22_method_28_code (1 : Nat) (Option.some Jvm.ClassFile.FieldType.char)) ∈ lw_all := lw_g (lw_at lw_m6 86 rfl) rfl
theorem q1443 : (Jvm.Cond.constant "java/lang/Character" (110 : Nat) (55232 : Int32)) ∈ lw_all := lw_g (lw_at lw_m6 87 rfl) rfl
theorem q1444 : (Jvm.Cond.methodLink "java/lang/StringUTF16" (161 : Nat) ({ cls := "java/lang/Character", name := "lowSurrogate", desc := "(I)C" } : Jvm.MethodName)) ∈ lw_all := lw_g (lw_at lw_m6 88 rfl) rfl
theorem q1445 : (Jvm.Cond.static ({ cls := "java/lang/Character", name := "lowSurrogate", desc := "(I)C" } : Jvm.MethodName)) ∈ lw_all := lw_g (lw_at lw_m6 89 rfl) rfl
theorem q1446 : (Jvm.Cond.code ({ cls := "java/lang/Character", name := "lowSurrogate", desc := "(I)C" } : Jvm.MethodName) prog_22_method_29_code (1 : Nat) (Option.some Jvm.ClassFile.FieldType.char)) ∈ lw_all := lw_g (lw_at lw_m6 90 rfl) rfl
theorem q1447 : (Jvm.Cond.constant "java/lang/Character" (76 : Nat) (56320 : Int32)) ∈ lw_all := lw_g (lw_at lw_m6 91 rfl) rfl
theorem q1448 : (Jvm.Cond.methodLink "WebHost$Requests" (104 : Nat) ({ cls := "WebHost$Requests", name := "isBlank", desc := "(I)Z" } : Jvm.MethodName)) ∈ lw_all := lw_g (lw_at lw_m6 92 rfl) rfl
theorem q1449 : (Jvm.Cond.static ({ cls := "WebHost$Requests", name := "isBlank", desc := "(I)Z" } : Jvm.MethodName)) ∈ lw_all := lw_g (lw_at lw_m6 93 rfl) rfl
theorem q1450 : (Jvm.Cond.code ({ cls := "WebHost$Requests", name := "isBlank", desc := "(I)Z" } : Jvm.MethodName) prog_11_method_12_code (1 : Nat) (Option.some Jvm.ClassFile.FieldType.boolean)) ∈ lw_all := lw_g (lw_at lw_m6 94 rfl) rfl
theorem q1451 : (Jvm.Cond.methodLink "WebHost$Requests" (107 : Nat) ({ cls := "WebHost$Requests", name := "take", desc := "(IIII)V" } : Jvm.MethodName)) ∈ lw_all := lw_g (lw_at lw_m6 95 rfl) rfl
theorem q1452 : (Jvm.Cond.privateMethod ({ cls := "WebHost$Requests", name := "take", desc := "(IIII)V" } : Jvm.MethodName)) ∈ lw_tbl := lw_at lw_m6 96 rfl
theorem q1453 : (Jvm.Cond.instanceMethod ({ cls := "WebHost$Requests", name := "take", desc := "(IIII)V" } : Jvm.MethodName)) ∈ lw_all := lw_g (lw_at lw_m6 97 rfl) rfl
theorem q1454 : (Jvm.Cond.code ({ cls := "WebHost$Requests", name := "take", desc := "(IIII)V" } : Jvm.MethodName) prog_11_method_14_code (5 : Nat) (Option.none : Option Jvm.ClassFile.FieldType)) ∈ lw_all := lw_g (lw_at lw_m6 98 rfl) rfl
theorem q1455 : (Jvm.Cond.stringRef "WebHost$Requests" (110 : Nat) "host") ∈ lw_tbl := lw_at lw_m6 99 rfl
theorem q1456 : (Jvm.Cond.methodLink "WebHost$Requests" (112 : Nat) ({ cls := "WebHost$Requests", name := "is", desc := "(IILjava/lang/String;)Z" } : Jvm.MethodName)) ∈ lw_all := lw_g (lw_at lw_m6 100 rfl) rfl
theorem q1457 : (Jvm.Cond.privateMethod ({ cls := "WebHost$Requests", name := "is", desc := "(IILjava/lang/String;)Z" } : Jvm.MethodName)) ∈ lw_tbl := lw_at lw_m6 101 rfl
theorem q1458 : (Jvm.Cond.instanceMethod ({ cls := "WebHost$Requests", name := "is", desc := "(IILjava/lang/String;)Z" } : Jvm.MethodName)) ∈ lw_all := lw_g (lw_at lw_m6 102 rfl) rfl
theorem q1459 : (Jvm.Cond.code ({ cls := "WebHost$Requests", name := "is", desc := "(IILjava/lang/String;)Z" } : Jvm.MethodName) prog_11_method_8_code (5 : Nat) (Option.some Jvm.ClassFile.FieldType.boolean)) ∈ lw_all := lw_g (lw_at lw_m6 103 rfl) rfl
theorem q1460 : (Jvm.Cond.methodLink "WebHost$Requests" (70 : Nat) ({ cls := "WebHost$Requests", name := "small", desc := "(I)I" } : Jvm.MethodName)) ∈ lw_all := lw_g (lw_at lw_m6 104 rfl) rfl
theorem q1461 : (Jvm.Cond.static ({ cls := "WebHost$Requests", name := "small", desc := "(I)I" } : Jvm.MethodName)) ∈ lw_all := lw_g (lw_at lw_m6 105 rfl) rfl
theorem q1462 : (Jvm.Cond.code ({ cls := "WebHost$Requests", name := "small", desc := "(I)I" } : Jvm.MethodName) prog_11_method_7_code (1 : Nat) (Option.some Jvm.ClassFile.FieldType.int)) ∈ lw_all := lw_g (lw_at lw_m6 106 rfl) rfl
theorem q1463 : (Jvm.Cond.stringRef "WebHost$Requests" (118 : Nat) "transfer-encoding") ∈ lw_tbl := lw_at lw_m6 107 rfl
theorem q1464 : (Jvm.Cond.stringRef "WebHost$Requests" (123 : Nat) "content-length") ∈ lw_tbl := lw_at lw_m6 108 rfl
theorem q1465 : (Jvm.Cond.methodLink "WebHost$Requests" (125 : Nat) ({ cls := "WebHost$Requests", name := "length", desc := "(II)V" } : Jvm.MethodName)) ∈ lw_all := lw_g (lw_at lw_m6 109 rfl) rfl
theorem q1466 : (Jvm.Cond.privateMethod ({ cls := "WebHost$Requests", name := "length", desc := "(II)V" } : Jvm.MethodName)) ∈ lw_tbl := lw_at lw_m6 110 rfl
theorem q1467 : (Jvm.Cond.instanceMethod ({ cls := "WebHost$Requests", name := "length", desc := "(II)V" } : Jvm.MethodName)) ∈ lw_all := lw_g (lw_at lw_m6 111 rfl) rfl
theorem q1468 : (Jvm.Cond.code ({ cls := "WebHost$Requests", name := "length", desc := "(II)V" } : Jvm.MethodName) prog_11_method_15_code (4 : Nat) (Option.none : Option Jvm.ClassFile.FieldType)) ∈ lw_all := lw_g (lw_at lw_m6 112 rfl) rfl
theorem q1469 : (Jvm.Cond.stringRef "WebHost$Requests" (128 : Nat) "connection") ∈ lw_tbl := lw_at lw_m6 113 rfl
theorem q1470 : (Jvm.Cond.methodLink "WebHost$Requests" (130 : Nat) ({ cls := "WebHost$Requests", name := "words", desc := "(II)V" } : Jvm.MethodName)) ∈ lw_all := lw_g (lw_at lw_m6 114 rfl) rfl
theorem q1471 : (Jvm.Cond.privateMethod ({ cls := "WebHost$Requests", name := "words", desc := "(II)V" } : Jvm.MethodName)) ∈ lw_tbl := lw_at lw_m6 115 rfl
theorem q1472 : (Jvm.Cond.instanceMethod ({ cls := "WebHost$Requests", name := "words", desc := "(II)V" } : Jvm.MethodName)) ∈ lw_all := lw_g (lw_at lw_m6 116 rfl) rfl
theorem q1473 : (Jvm.Cond.code ({ cls := "WebHost$Requests", name := "words", desc := "(II)V" } : Jvm.MethodName) prog_11_method_16_code (5 : Nat) (Option.none : Option Jvm.ClassFile.FieldType)) ∈ lw_all := lw_g (lw_at lw_m6 117 rfl) rfl
theorem q1474 : (Jvm.Cond.stringRef "WebHost$Requests" (156 : Nat) "close") ∈ lw_tbl := lw_at lw_m6 118 rfl
theorem q1475 : (Jvm.Cond.stringRef "WebHost$Requests" (161 : Nat) "keep-alive") ∈ lw_tbl := lw_at lw_m6 119 rfl
theorem q1476 : (Jvm.Cond.stringRef "WebHost$Requests" (133 : Nat) "if-none-match") ∈ lw_tbl := lw_at lw_m6 120 rfl
theorem q1477 : (Jvm.Cond.stringRef "WebHost$Requests" (183 : Nat) "Not Implemented") ∈ lw_tbl := lw_at lw_m6 121 rfl
theorem q1478 : (Jvm.Cond.constant "WebHost$Requests" (189 : Nat) (65536 : Int32)) ∈ lw_all := lw_g (lw_at lw_m6 122 rfl) rfl
theorem q1479 : (Jvm.Cond.stringRef "WebHost$Requests" (190 : Nat) "Content Too Large") ∈ lw_tbl := lw_at lw_m6 123 rfl
theorem q1480 : (Jvm.Cond.stringRef "WebHost$Requests" (192 : Nat) "GET") ∈ lw_tbl := lw_at lw_m6 124 rfl
theorem q1481 : (Jvm.Cond.stringRef "WebHost$Requests" (194 : Nat) "Method Not Allowed") ∈ lw_tbl := lw_at lw_m6 125 rfl
theorem q1482 : (Jvm.Cond.methodLink "WebHost$Requests" (196 : Nat) ({ cls := "WebHost$Requests", name := "kept", desc := "(LWebHost$Inbox;LWebHost$Answer;ILjava/lang/String;Z)I" } : Jvm.MethodName)) ∈ lw_all := lw_g (lw_at lw_m6 126 rfl) rfl
theorem q1483 : (Jvm.Cond.privateMethod ({ cls := "WebHost$Requests", name := "kept", desc := "(LWebHost$Inbox;LWebHost$Answer;ILjava/lang/String;Z)I" } : Jvm.MethodName)) ∈ lw_tbl := lw_at lw_m6 127 rfl
theorem q1484 : (Jvm.Cond.instanceMethod ({ cls := "WebHost$Requests", name := "kept", desc := "(LWebHost$Inbox;LWebHost$Answer;ILjava/lang/String;Z)I" } : Jvm.MethodName)) ∈ lw_all := lw_g (lw_at lw_m6 128 rfl) rfl
theorem q1485 : (Jvm.Cond.code ({ cls := "WebHost$Requests", name := "kept", desc := "(LWebHost$Inbox;LWebHost$Answer;ILjava/lang/String;Z)I" } : Jvm.MethodName) prog_11_method_20_code (6 : Nat) (Option.some Jvm.ClassFile.FieldType.int)) ∈ lw_all := lw_g (lw_at lw_m6 129 rfl) rfl
theorem q1486 : (Jvm.Cond.methodLink "WebHost$Requests" (200 : Nat) ({ cls := "WebHost$Requests", name := "decode", desc := "()Z" } : Jvm.MethodName)) ∈ lw_all := lw_g (lw_at lw_m6 130 rfl) rfl
theorem q1487 : (Jvm.Cond.privateMethod ({ cls := "WebHost$Requests", name := "decode", desc := "()Z" } : Jvm.MethodName)) ∈ lw_tbl := lw_at lw_m6 131 rfl
theorem q1488 : (Jvm.Cond.instanceMethod ({ cls := "WebHost$Requests", name := "decode", desc := "()Z" } : Jvm.MethodName)) ∈ lw_all := lw_g (lw_at lw_m6 132 rfl) rfl
theorem q1489 : (Jvm.Cond.code ({ cls := "WebHost$Requests", name := "decode", desc := "()Z" } : Jvm.MethodName) prog_11_method_23_code (5 : Nat) (Option.some Jvm.ClassFile.FieldType.boolean)) ∈ lw_all := lw_g (lw_at lw_m6 133 rfl) rfl
theorem q1490 : (Jvm.Cond.methodLink "WebHost$Requests" (240 : Nat) ({ cls := "WebHost$Requests", name := "hexadecimal", desc := "(I)I" } : Jvm.MethodName)) ∈ lw_all := lw_g (lw_at lw_m6 134 rfl) rfl
theorem q1491 : (Jvm.Cond.static ({ cls := "WebHost$Requests", name := "hexadecimal", desc := "(I)I" } : Jvm.MethodName)) ∈ lw_all := lw_g (lw_at lw_m6 135 rfl) rfl
theorem q1492 : (Jvm.Cond.code ({ cls := "WebHost$Requests", name := "hexadecimal", desc := "(I)I" } : Jvm.MethodName) prog_11_method_21_code (1 : Nat) (Option.some Jvm.ClassFile.FieldType.int)) ∈ lw_all := lw_g (lw_at lw_m6 136 rfl) rfl
theorem q1493 : (Jvm.Cond.methodLink "WebHost$Requests" (243 : Nat) ({ cls := "WebHost$Requests", name := "step", desc := "(I)V" } : Jvm.MethodName)) ∈ lw_all := lw_g (lw_at lw_m6 137 rfl) rfl
theorem q1494 : (Jvm.Cond.privateMethod ({ cls := "WebHost$Requests", name := "step", desc := "(I)V" } : Jvm.MethodName)) ∈ lw_tbl := lw_at lw_m6 138 rfl
theorem q1495 : (Jvm.Cond.instanceMethod ({ cls := "WebHost$Requests", name := "step", desc := "(I)V" } : Jvm.MethodName)) ∈ lw_all := lw_g (lw_at lw_m6 139 rfl) rfl
theorem q1496 : (Jvm.Cond.code ({ cls := "WebHost$Requests", name := "step", desc := "(I)V" } : Jvm.MethodName) prog_11_method_22_code (2 : Nat) (Option.none : Option Jvm.ClassFile.FieldType)) ∈ lw_all := lw_g (lw_at lw_m6 140 rfl) rfl
theorem q1497 : (Jvm.Cond.methodLink "WebHost$Requests" (235 : Nat) ({ cls := "java/lang/Math", name := "min", desc := "(II)I" } : Jvm.MethodName)) ∈ lw_all := lw_g (lw_at lw_m6 141 rfl) rfl
theorem q1498 : (Jvm.Cond.stringRef "WebHost$Requests" (246 : Nat) "index.html") ∈ lw_tbl := lw_at lw_m6 142 rfl
theorem q1499 : (Jvm.Cond.methodLink "WebHost$Requests" (207 : Nat) ({ cls := "WebHost$Store", name := "find", desc := "([BI)I" } : Jvm.MethodName)) ∈ lw_all := lw_g (lw_at lw_m6 143 rfl) rfl
theorem q1500 : (Jvm.Cond.instanceMethod ({ cls := "WebHost$Store", name := "find", desc := "([BI)I" } : Jvm.MethodName)) ∈ lw_all := lw_g (lw_at lw_m6 144 rfl) rfl
theorem q1501 : (Jvm.Cond.selects "WebHost$Store" ({ cls := "WebHost$Store", name := "find", desc := "([BI)I" } : Jvm.MethodName) ({ cls := "WebHost$Store", name := "find", desc := "([BI)I" } : Jvm.MethodName)) ∈ lw_all := lw_g (lw_at lw_m6 145 rfl) rfl
theorem q1502 : (Jvm.Cond.code ({ cls := "WebHost$Store", name := "find", desc := "([BI)I" } : Jvm.MethodName) prog_13_method_12_code (4 : Nat) (Option.some Jvm.ClassFile.FieldType.int)) ∈ lw_all := lw_g (lw_at lw_m6 146 rfl) rfl
theorem q1503 : (Jvm.Cond.stringRef "WebHost$Requests" (213 : Nat) "Not Found") ∈ lw_tbl := lw_at lw_m6 147 rfl
theorem q1504 : (Jvm.Cond.methodLink "WebHost$Requests" (218 : Nat) ({ cls := "WebHost$Store", name := "isWhole", desc := "(I)Z" } : Jvm.MethodName)) ∈ lw_all := lw_g (lw_at lw_m6 148 rfl) rfl
theorem q1505 : (Jvm.Cond.instanceMethod ({ cls := "WebHost$Store", name := "isWhole", desc := "(I)Z" } : Jvm.MethodName)) ∈ lw_all := lw_g (lw_at lw_m6 149 rfl) rfl
theorem q1506 : (Jvm.Cond.selects "WebHost$Store" ({ cls := "WebHost$Store", name := "isWhole", desc := "(I)Z" } : Jvm.MethodName) ({ cls := "WebHost$Store", name := "isWhole", desc := "(I)Z" } : Jvm.MethodName)) ∈ lw_all := lw_g (lw_at lw_m6 150 rfl) rfl
theorem q1507 : (Jvm.Cond.code ({ cls := "WebHost$Store", name := "isWhole", desc := "(I)Z" } : Jvm.MethodName) prog_13_method_13_code (2 : Nat) (Option.some Jvm.ClassFile.FieldType.boolean)) ∈ lw_all := lw_g (lw_at lw_m6 151 rfl) rfl
theorem q1508 : (Jvm.Cond.methodLink "WebHost$Store" (66 : Nat) ({ cls := "WebHost$Store", name := "mark", desc := "(I)I" } : Jvm.MethodName)) ∈ lw_all := lw_g (lw_at lw_m6 152 rfl) rfl
theorem q1509 : (Jvm.Cond.instanceMethod ({ cls := "WebHost$Store", name := "mark", desc := "(I)I" } : Jvm.MethodName)) ∈ lw_all := lw_g (lw_at lw_m6 153 rfl) rfl
theorem q1510 : (Jvm.Cond.selects "WebHost$Store" ({ cls := "WebHost$Store", name := "mark", desc := "(I)I" } : Jvm.MethodName) ({ cls := "WebHost$Store", name := "mark", desc := "(I)I" } : Jvm.MethodName)) ∈ lw_all := lw_g (lw_at lw_m6 154 rfl) rfl
theorem q1511 : (Jvm.Cond.code ({ cls := "WebHost$Store", name := "mark", desc := "(I)I" } : Jvm.MethodName) prog_13_method_8_code (2 : Nat) (Option.some Jvm.ClassFile.FieldType.int)) ∈ lw_all := lw_g (lw_at lw_m6 155 rfl) rfl
theorem q1512 : (Jvm.Cond.stringRef "WebHost$Requests" (221 : Nat) "Internal Server Error") ∈ lw_tbl := lw_at lw_m6 156 rfl
theorem q1513 : (Jvm.Cond.methodLink "WebHost$Requests" (223 : Nat) ({ cls := "WebHost$Requests", name := "isMarked", desc := "(I)Z" } : Jvm.MethodName)) ∈ lw_all := lw_g (lw_at lw_m6 157 rfl) rfl
theorem q1514 : (Jvm.Cond.privateMethod ({ cls := "WebHost$Requests", name := "isMarked", desc := "(I)Z" } : Jvm.MethodName)) ∈ lw_tbl := lw_at lw_m6 158 rfl
theorem q1515 : (Jvm.Cond.instanceMethod ({ cls := "WebHost$Requests", name := "isMarked", desc := "(I)Z" } : Jvm.MethodName)) ∈ lw_all := lw_g (lw_at lw_m6 159 rfl) rfl
theorem q1516 : (Jvm.Cond.code ({ cls := "WebHost$Requests", name := "isMarked", desc := "(I)Z" } : Jvm.MethodName) prog_11_method_24_code (4 : Nat) (Option.some Jvm.ClassFile.FieldType.boolean)) ∈ lw_all := lw_g (lw_at lw_m6 160 rfl) rfl
theorem q1517 : (Jvm.Cond.stringRef "WebHost$Requests" (248 : Nat) "*") ∈ lw_tbl := lw_at lw_m6 161 rfl
theorem q1518 : (Jvm.Cond.methodLink "WebHost$Requests" (250 : Nat) ({ cls := "WebHost$Store", name := "mark", desc := "(I)I" } : Jvm.MethodName)) ∈ lw_all := lw_g (lw_at lw_m6 162 rfl) rfl
theorem q1519 : (Jvm.Cond.stringRef "WebHost$Requests" (253 : Nat) "0123456789abcdef") ∈ lw_tbl := lw_at lw_m6 163 rfl
theorem q1520 : (Jvm.Cond.methodLink "WebHost$Requests" (226 : Nat) ({ cls := "WebHost$Requests", name := "same", desc := "(LWebHost$Answer;IZ)V" } : Jvm.MethodName)) ∈ lw_all := lw_g (lw_at lw_m6 164 rfl) rfl
theorem q1521 : (Jvm.Cond.privateMethod ({ cls := "WebHost$Requests", name := "same", desc := "(LWebHost$Answer;IZ)V" } : Jvm.MethodName)) ∈ lw_tbl := lw_at lw_m6 165 rfl
theorem q1522 : (Jvm.Cond.instanceMethod ({ cls := "WebHost$Requests", name := "same", desc := "(LWebHost$Answer;IZ)V" } : Jvm.MethodName)) ∈ lw_all := lw_g (lw_at lw_m6 166 rfl) rfl
theorem q1523 : (Jvm.Cond.code ({ cls := "WebHost$Requests", name := "same", desc := "(LWebHost$Answer;IZ)V" } : Jvm.MethodName) prog_11_method_30_code (4 : Nat) (Option.none : Option Jvm.ClassFile.FieldType)) ∈ lw_all := lw_g (lw_at lw_m6 167 rfl) rfl
theorem q1524 : (Jvm.Cond.stringRef "WebHost$Requests" (300 : Nat) "Not Modified") ∈ lw_tbl := lw_at lw_m6 168 rfl
theorem q1525 : (Jvm.Cond.methodLink "WebHost$Requests" (302 : Nat) ({ cls := "WebHost$Requests", name := "mark", desc := "(LWebHost$Answer;I)V" } : Jvm.MethodName)) ∈ lw_all := lw_g (lw_at lw_m6 169 rfl) rfl
theorem q1526 : (Jvm.Cond.privateMethod ({ cls := "WebHost$Requests", name := "mark", desc := "(LWebHost$Answer;I)V" } : Jvm.MethodName)) ∈ lw_tbl := lw_at lw_m6 170 rfl
theorem q1527 : (Jvm.Cond.instanceMethod ({ cls := "WebHost$Requests", name := "mark", desc := "(LWebHost$Answer;I)V" } : Jvm.MethodName)) ∈ lw_all := lw_g (lw_at lw_m6 171 rfl) rfl
theorem q1528 : (Jvm.Cond.code ({ cls := "WebHost$Requests", name := "mark", desc := "(LWebHost$Answer;I)V" } : Jvm.MethodName) prog_11_method_29_code (3 : Nat) (Option.none : Option Jvm.ClassFile.FieldType)) ∈ lw_all := lw_g (lw_at lw_m6 172 rfl) rfl
theorem q1529 : (Jvm.Cond.stringRef "WebHost$Requests" (296 : Nat) "ETag: ") ∈ lw_tbl := lw_at lw_m6 173 rfl
theorem q1530 : (Jvm.Cond.methodLink "WebHost$Requests" (298 : Nat) ({ cls := "WebHost$Answer", name := "mark", desc := "(I)V" } : Jvm.MethodName)) ∈ lw_all := lw_g (lw_at lw_m6 174 rfl) rfl
theorem q1531 : (Jvm.Cond.instanceMethod ({ cls := "WebHost$Answer", name := "mark", desc := "(I)V" } : Jvm.MethodName)) ∈ lw_all := lw_g (lw_at lw_m6 175 rfl) rfl
theorem q1532 : (Jvm.Cond.selects "WebHost$Answer" ({ cls := "WebHost$Answer", name := "mark", desc := "(I)V" } : Jvm.MethodName) ({ cls := "WebHost$Answer", name := "mark", desc := "(I)V" } : Jvm.MethodName)) ∈ lw_all := lw_g (lw_at lw_m6 176 rfl) rfl
theorem q1533 : (Jvm.Cond.code ({ cls := "WebHost$Answer", name := "mark", desc := "(I)V" } : Jvm.MethodName) prog_2_method_7_code (3 : Nat) (Option.none : Option Jvm.ClassFile.FieldType)) ∈ lw_all := lw_g (lw_at lw_m6 177 rfl) rfl
theorem q1534 : (Jvm.Cond.stringRef "WebHost$Answer" (37 : Nat) "0123456789abcdef") ∈ lw_tbl := lw_at lw_m6 178 rfl
theorem q1535 : (Jvm.Cond.methodLink "WebHost$Requests" (230 : Nat) ({ cls := "WebHost$Requests", name := "file", desc := "(LWebHost$Answer;IZ)V" } : Jvm.MethodName)) ∈ lw_all := lw_g (lw_at lw_m6 179 rfl) rfl
theorem q1536 : (Jvm.Cond.privateMethod ({ cls := "WebHost$Requests", name := "file", desc := "(LWebHost$Answer;IZ)V" } : Jvm.MethodName)) ∈ lw_tbl := lw_at lw_m6 180 rfl
theorem q1537 : (Jvm.Cond.instanceMethod ({ cls := "WebHost$Requests", name := "file", desc := "(LWebHost$Answer;IZ)V" } : Jvm.MethodName)) ∈ lw_all := lw_g (lw_at lw_m6 181 rfl) rfl
theorem q1538 : (Jvm.Cond.code ({ cls := "WebHost$Requests", name := "file", desc := "(LWebHost$Answer;IZ)V" } : Jvm.MethodName) prog_11_method_32_code (6 : Nat) (Option.none : Option Jvm.ClassFile.FieldType)) ∈ lw_all := lw_g (lw_at lw_m6 182 rfl) rfl
theorem q1539 : (Jvm.Cond.stringRef "WebHost$Requests" (330 : Nat) "OK") ∈ lw_tbl := lw_at lw_m6 183 rfl
theorem q1540 : (Jvm.Cond.methodLink "WebHost$Requests" (332 : Nat) ({ cls := "WebHost$Store", name := "length", desc := "(I)I" } : Jvm.MethodName)) ∈ lw_all := lw_g (lw_at lw_m6 184 rfl) rfl
theorem q1541 : (Jvm.Cond.stringRef "WebHost$Requests" (334 : Nat) "Content-Type: ") ∈ lw_tbl := lw_at lw_m6 185 rfl
theorem q1542 : (Jvm.Cond.methodLink "WebHost$Requests" (336 : Nat) ({ cls := "WebHost$Requests", name := "kind", desc := "(I)Ljava/lang/String;" } : Jvm.MethodName)) ∈ lw_all := lw_g (lw_at lw_m6 186 rfl) rfl
theorem q1543 : (Jvm.Cond.privateMethod ({ cls := "WebHost$Requests", name := "kind", desc := "(I)Ljava/lang/String;" } : Jvm.MethodName)) ∈ lw_tbl := lw_at lw_m6 187 rfl
theorem q1544 : (Jvm.Cond.instanceMethod ({ cls := "WebHost$Requests", name := "kind", desc := "(I)Ljava/lang/String;" } : Jvm.MethodName)) ∈ lw_all := lw_g (lw_at lw_m6 188 rfl) rfl
theorem q1545 : (Jvm.Cond.code ({ cls := "WebHost$Requests", name := "kind", desc := "(I)Ljava/lang/String;" } : Jvm.MethodName) prog_11_method_31_code (2 : Nat) (Option.some (Jvm.ClassFile.FieldType.object "java/lang/String"))) ∈ lw_all := lw_g (lw_at lw_m6 189 rfl) rfl
theorem q1546 : (Jvm.Cond.stringRef "WebHost$Requests" (304 : Nat) ".html") ∈ lw_tbl := lw_at lw_m6 190 rfl
theorem q1547 : (Jvm.Cond.methodLink "WebHost$Requests" (306 : Nat) ({ cls := "WebHost$Store", name := "endsWith", desc := "(ILjava/lang/String;)Z" } : Jvm.MethodName)) ∈ lw_all := lw_g (lw_at lw_m6 191 rfl) rfl
theorem q1548 : (Jvm.Cond.instanceMethod ({ cls := "WebHost$Store", name := "endsWith", desc := "(ILjava/lang/String;)Z" } : Jvm.MethodName)) ∈ lw_all := lw_g (lw_at lw_m6 192 rfl) rfl
theorem q1549 : (Jvm.Cond.selects "WebHost$Store" ({ cls := "WebHost$Store", name := "endsWith", desc := "(ILjava/lang/String;)Z" } : Jvm.MethodName) ({ cls := "WebHost$Store", name := "endsWith", desc := "(ILjava/lang/String;)Z" } : Jvm.MethodName)) ∈ lw_all := lw_g (lw_at lw_m6 193 rfl) rfl
theorem q1550 : (Jvm.Cond.code ({ cls := "WebHost$Store", name := "endsWith", desc := "(ILjava/lang/String;)Z" } : Jvm.MethodName) prog_13_method_14_code (5 : Nat) (Option.some Jvm.ClassFile.FieldType.boolean)) ∈ lw_all := lw_g (lw_at lw_m6 194 rfl) rfl
theorem q1551 : (Jvm.Cond.methodLink "WebHost$Store" (69 : Nat) ({ cls := "java/lang/String", name := "length", desc := "()I" } : Jvm.MethodName)) ∈ lw_all := lw_g (lw_at lw_m6 195 rfl) rfl
theorem q1552 : (Jvm.Cond.methodLink "WebHost$Store" (74 : Nat) ({ cls := "java/lang/String", name := "charAt", desc := "(I)C" } : Jvm.MethodName)) ∈ lw_all := lw_g (lw_at lw_m6 196 rfl) rfl
theorem q1553 : (Jvm.Cond.stringRef "WebHost$Requests" (310 : Nat) "text/html") ∈ lw_tbl := lw_at lw_m6 197 rfl
theorem q1554 : (Jvm.Cond.stringRef "WebHost$Requests" (312 : Nat) ".css") ∈ lw_tbl := lw_at lw_m6 198 rfl
theorem q1555 : (Jvm.Cond.stringRef "WebHost$Requests" (314 : Nat) "text/css") ∈ lw_tbl := lw_at lw_m6 199 rfl
theorem q1556 : (Jvm.Cond.stringRef "WebHost$Requests" (316 : Nat) ".js") ∈ lw_tbl := lw_at lw_m6 200 rfl
theorem q1557 : (Jvm.Cond.stringRef "WebHost$Requests" (318 : Nat) "text/javascript") ∈ lw_tbl := lw_at lw_m6 201 rfl
theorem q1558 : (Jvm.Cond.stringRef "WebHost$Requests" (320 : Nat) ".txt") ∈ lw_tbl := lw_at lw_m6 202 rfl
theorem q1559 : (Jvm.Cond.stringRef "WebHost$Requests" (322 : Nat) "text/plain") ∈ lw_tbl := lw_at lw_m6 203 rfl
theorem q1560 : (Jvm.Cond.stringRef "WebHost$Requests" (324 : Nat) ".png") ∈ lw_tbl := lw_at lw_m6 204 rfl
theorem q1561 : (Jvm.Cond.stringRef "WebHost$Requests" (326 : Nat) "image/png") ∈ lw_tbl := lw_at lw_m6 205 rfl
theorem q1562 : (Jvm.Cond.stringRef "WebHost$Requests" (328 : Nat) "application/octet-stream") ∈ lw_tbl := lw_at lw_m6 206 rfl
theorem q1563 : (Jvm.Cond.methodLink "WebHost$Requests" (340 : Nat) ({ cls := "WebHost$Store", name := "place", desc := "(I)I" } : Jvm.MethodName)) ∈ lw_all := lw_g (lw_at lw_m6 207 rfl) rfl
theorem q1564 : (Jvm.Cond.methodLink "WebHost" (264 : Nat) ({ cls := "WebHost$Segment", name := "has", desc := "(I)Z" } : Jvm.MethodName)) ∈ lw_all := lw_g (lw_at lw_m6 208 rfl) rfl
theorem q1565 : (Jvm.Cond.methodLink "WebHost" (267 : Nat) ({ cls := "WebHost$Wire", name := "reset", desc := "(LWebHost$Segment;)V" } : Jvm.MethodName)) ∈ lw_all := lw_g (lw_at lw_m6 209 rfl) rfl
theorem q1566 : (Jvm.Cond.methodLink "WebHost" (273 : Nat) ({ cls := "WebHost$Connection", name := "begin", desc := "(LWebHost$Segment;I)V" } : Jvm.MethodName)) ∈ lw_all := lw_g (lw_at lw_m6 210 rfl) rfl
theorem q1567 : (Jvm.Cond.instanceMethod ({ cls := "WebHost$Connection", name := "begin", desc := "(LWebHost$Segment;I)V" } : Jvm.MethodName)) ∈ lw_all := lw_g (lw_at lw_m6 211 rfl) rfl
theorem q1568 : (Jvm.Cond.selects "WebHost$Connection" ({ cls := "WebHost$Connection", name := "begin", desc := "(LWebHost$Segment;I)V" } : Jvm.MethodName) ({ cls := "WebHost$Connection", name := "begin", desc := "(LWebHost$Segment;I)V" } : Jvm.MethodName)) ∈ lw_all := lw_g (lw_at lw_m6 212 rfl) rfl
theorem q1569 : (Jvm.Cond.code ({ cls := "WebHost$Connection", name := "begin", desc := "(LWebHost$Segment;I)V" } : Jvm.MethodName) prog_3_method_14_code (3 : Nat) (Option.none : Option Jvm.ClassFile.FieldType)) ∈ lw_all := lw_g (lw_at lw_m6 213 rfl) rfl
theorem q1570 : (Jvm.Cond.constant "WebHost$Connection" (164 : Nat) (64000 : Int32)) ∈ lw_all := lw_g (lw_at lw_m6 214 rfl) rfl
theorem q1571 : (Jvm.Cond.methodLink "WebHost$Connection" (192 : Nat) ({ cls := "WebHost$Inbox", name := "clear", desc := "()V" } : Jvm.MethodName)) ∈ lw_all := lw_g (lw_at lw_m6 215 rfl) rfl
theorem q1572 : (Jvm.Cond.instanceMethod ({ cls := "WebHost$Inbox", name := "clear", desc := "()V" } : Jvm.MethodName)) ∈ lw_all := lw_g (lw_at lw_m6 216 rfl) rfl
theorem q1573 : (Jvm.Cond.selects "WebHost$Inbox" ({ cls := "WebHost$Inbox", name := "clear", desc := "()V" } : Jvm.MethodName) ({ cls := "WebHost$Inbox", name := "clear", desc := "()V" } : Jvm.MethodName)) ∈ lw_all := lw_g (lw_at lw_m6 217 rfl) rfl
theorem q1574 : (Jvm.Cond.code ({ cls := "WebHost$Inbox", name := "clear", desc := "()V" } : Jvm.MethodName) prog_7_method_2_code (2 : Nat) (Option.none : Option Jvm.ClassFile.FieldType)) ∈ lw_all := lw_g (lw_at lw_m6 218 rfl) rfl
theorem q1575 : (Jvm.Cond.methodLink "WebHost" (215 : Nat) ({ cls := "WebHost$Fragments", name := "take", desc := "([BIIIIIIZI)LWebHost$Making;" } : Jvm.MethodName)) ∈ lw_all := lw_g (lw_at lw_m6 219 rfl) rfl
theorem q1576 : (Jvm.Cond.instanceMethod ({ cls := "WebHost$Fragments", name := "take", desc := "([BIIIIIIZI)LWebHost$Making;" } : Jvm.MethodName)) ∈ lw_all := lw_g (lw_at lw_m6 220 rfl) rfl
theorem q1577 : (Jvm.Cond.selects "WebHost$Fragments" ({ cls := "WebHost$Fragments", name := "take", desc := "([BIIIIIIZI)LWebHost$Making;" } : Jvm.MethodName) ({ cls := "WebHost$Fragments", name := "take", desc := "([BIIIIIIZI)LWebHost$Making;" } : Jvm.MethodName)) ∈ lw_all := lw_g (lw_at lw_m6 221 rfl) rfl
theorem q1578 : (Jvm.Cond.code ({ cls := "WebHost$Fragments", name := "take", desc := "([BIIIIIIZI)LWebHost$Making;" } : Jvm.MethodName) prog_5_method_6_code (12 : Nat) (Option.some (Jvm.ClassFile.FieldType.object "WebHost$Making"))) ∈ lw_all := lw_g (lw_at lw_m6 222 rfl) rfl
theorem q1579 : (Jvm.Cond.methodLink "WebHost$Fragments" (32 : Nat) ({ cls := "WebHost$Fragments", name := "find", desc := "(III)I" } : Jvm.MethodName)) ∈ lw_all := lw_g (lw_at lw_m6 223 rfl) rfl
theorem q1580 : (Jvm.Cond.privateMethod ({ cls := "WebHost$Fragments", name := "find", desc := "(III)I" } : Jvm.MethodName)) ∈ lw_tbl := lw_at lw_m6 224 rfl
theorem q1581 : (Jvm.Cond.instanceMethod ({ cls := "WebHost$Fragments", name := "find", desc := "(III)I" } : Jvm.MethodName)) ∈ lw_all := lw_g (lw_at lw_m6 225 rfl) rfl
theorem q1582 : (Jvm.Cond.code ({ cls := "WebHost$Fragments", name := "find", desc := "(III)I" } : Jvm.MethodName) prog_5_method_4_code (5 : Nat) (Option.some Jvm.ClassFile.FieldType.int)) ∈ lw_all := lw_g (lw_at lw_m6 226 rfl) rfl
theorem q1583 : (Jvm.Cond.methodLink "WebHost$Fragments" (36 : Nat) ({ cls := "WebHost$Making", name := "begin", desc := "(IIII)V" } : Jvm.MethodName)) ∈ lw_all := lw_g (lw_at lw_m6 227 rfl) rfl
theorem q1584 : (Jvm.Cond.instanceMethod ({ cls := "WebHost$Making", name := "begin", desc := "(IIII)V" } : Jvm.MethodName)) ∈ lw_all := lw_g (lw_at lw_m6 228 rfl) rfl
theorem q1585 : (Jvm.Cond.selects "WebHost$Making" ({ cls := "WebHost$Making", name := "begin", desc := "(IIII)V" } : Jvm.MethodName) ({ cls := "WebHost$Making", name := "begin", desc := "(IIII)V" } : Jvm.MethodName)) ∈ lw_all := lw_g (lw_at lw_m6 229 rfl) rfl
theorem q1586 : (Jvm.Cond.code ({ cls := "WebHost$Making", name := "begin", desc := "(IIII)V" } : Jvm.MethodName) prog_8_method_2_code (6 : Nat) (Option.none : Option Jvm.ClassFile.FieldType)) ∈ lw_all := lw_g (lw_at lw_m6 230 rfl) rfl
theorem q1587 : (Jvm.Cond.methodLink "WebHost$Fragments" (40 : Nat) ({ cls := "WebHost$Making", name := "add", desc := "([BIIIZ)Z" } : Jvm.MethodName)) ∈ lw_all := lw_g (lw_at lw_m6 231 rfl) rfl
theorem q1588 : (Jvm.Cond.instanceMethod ({ cls := "WebHost$Making", name := "add", desc := "([BIIIZ)Z" } : Jvm.MethodName)) ∈ lw_all := lw_g (lw_at lw_m6 232 rfl) rfl
theorem q1589 : (Jvm.Cond.selects "WebHost$Making" ({ cls := "WebHost$Making", name := "add", desc := "([BIIIZ)Z" } : Jvm.MethodName) ({ cls := "WebHost$Making", name := "add", desc := "([BIIIZ)Z" } : Jvm.MethodName)) ∈ lw_all := lw_g (lw_at lw_m6 233 rfl) rfl
theorem q1590 : (Jvm.Cond.code ({ cls := "WebHost$Making", name := "add", desc := "([BIIIZ)Z" } : Jvm.MethodName) prog_8_method_3_code (8 : Nat) (Option.some Jvm.ClassFile.FieldType.boolean)) ∈ lw_all := lw_g (lw_at lw_m6 234 rfl) rfl
theorem q1591 : (Jvm.Cond.methodLink "WebHost$Making" (36 : Nat) ({ cls := "java/lang/Math", name := "max", desc := "(II)I" } : Jvm.MethodName)) ∈ lw_all := lw_g (lw_at lw_m6 235 rfl) rfl
theorem q1592 : (Jvm.Cond.methodLink "WebHost$Fragments" (48 : Nat) ({ cls := "WebHost$Making", name := "isWhole", desc := "()Z" } : Jvm.MethodName)) ∈ lw_all := lw_g (lw_at lw_m6 236 rfl) rfl
theorem q1593 : (Jvm.Cond.instanceMethod ({ cls := "WebHost$Making", name := "isWhole", desc := "()Z" } : Jvm.MethodName)) ∈ lw_all := lw_g (lw_at lw_m6 237 rfl) rfl
theorem q1594 : (Jvm.Cond.selects "WebHost$Making" ({ cls := "WebHost$Making", name := "isWhole", desc := "()Z" } : Jvm.MethodName) ({ cls := "WebHost$Making", name := "isWhole", desc := "()Z" } : Jvm.MethodName)) ∈ lw_all := lw_g (lw_at lw_m6 238 rfl) rfl
theorem q1595 : (Jvm.Cond.code ({ cls := "WebHost$Making", name := "isWhole", desc := "()Z" } : Jvm.MethodName) prog_8_method_4_code (2 : Nat) (Option.some Jvm.ClassFile.FieldType.boolean)) ∈ lw_all := lw_g (lw_at lw_m6 239 rfl) rfl
theorem q1596 : (Jvm.Cond.methodLink "WebHostLaw" (40 : Nat) ({ cls := "WebHost", name := "now", desc := "()I" } : Jvm.MethodName)) ∈ lw_all := lw_g (lw_at lw_m7 0 rfl) rfl
theorem q1597 : (Jvm.Cond.instanceMethod ({ cls := "WebHost", name := "now", desc := "()I" } : Jvm.MethodName)) ∈ lw_all := lw_g (lw_at lw_m7 1 rfl) rfl
theorem q1598 : (Jvm.Cond.selects "WebHost" ({ cls := "WebHost", name := "now", desc := "()I" } : Jvm.MethodName) ({ cls := "WebHost", name := "now", desc := "()I" } : Jvm.MethodName)) ∈ lw_all := lw_g (lw_at lw_m7 2 rfl) rfl
theorem q1599 : (Jvm.Cond.code ({ cls := "WebHost", name := "now", desc := "()I" } : Jvm.MethodName) prog_1_method_18_code (1 : Nat) (Option.some Jvm.ClassFile.FieldType.int)) ∈ lw_all := lw_g (lw_at lw_m7 3 rfl) rfl
theorem q1600 : (Jvm.Cond.methodLink "WebHostLaw" (44 : Nat) ({ cls := "WebHost", name := "sent", desc := "()I" } : Jvm.MethodName)) ∈ lw_all := lw_g (lw_at lw_m7 4 rfl) rfl
theorem q1601 : (Jvm.Cond.instanceMethod ({ cls := "WebHost", name := "sent", desc := "()I" } : Jvm.MethodName)) ∈ lw_all := lw_g (lw_at lw_m7 5 rfl) rfl
theorem q1602 : (Jvm.Cond.selects "WebHost" ({ cls := "WebHost", name := "sent", desc := "()I" } : Jvm.MethodName) ({ cls := "WebHost", name := "sent", desc := "()I" } : Jvm.MethodName)) ∈ lw_all := lw_g (lw_at lw_m7 6 rfl) rfl
theorem q1603 : (Jvm.Cond.code ({ cls := "WebHost", name := "sent", desc := "()I" } : Jvm.MethodName) prog_1_method_19_code (1 : Nat) (Option.some Jvm.ClassFile.FieldType.int)) ∈ lw_all := lw_g (lw_at lw_m7 7 rfl) rfl
theorem q1604 : (Jvm.Cond.methodLink "WebHostLaw" (48 : Nat) ({ cls := "WebHost", name := "length", desc := "(I)I" } : Jvm.MethodName)) ∈ lw_all := lw_g (lw_at lw_m7 8 rfl) rfl
theorem q1605 : (Jvm.Cond.instanceMethod ({ cls := "WebHost", name := "length", desc := "(I)I" } : Jvm.MethodName)) ∈ lw_all := lw_g (lw_at lw_m7 9 rfl) rfl
theorem q1606 : (Jvm.Cond.selects "WebHost" ({ cls := "WebHost", name := "length", desc := "(I)I" } : Jvm.MethodName) ({ cls := "WebHost", name := "length", desc := "(I)I" } : Jvm.MethodName)) ∈ lw_all := lw_g (lw_at lw_m7 10 rfl) rfl
theorem q1607 : (Jvm.Cond.code ({ cls := "WebHost", name := "length", desc := "(I)I" } : Jvm.MethodName) prog_1_method_21_code (2 : Nat) (Option.some Jvm.ClassFile.FieldType.int)) ∈ lw_all := lw_g (lw_at lw_m7 11 rfl) rfl
theorem q1608 : (Jvm.Cond.methodLink "WebHost" (279 : Nat) ({ cls := "WebHost", name := "isKept", desc := "(I)Z" } : Jvm.MethodName)) ∈ lw_all := lw_g (lw_at lw_m7 12 rfl) rfl
theorem q1609 : (Jvm.Cond.privateMethod ({ cls := "WebHost", name := "isKept", desc := "(I)Z" } : Jvm.MethodName)) ∈ lw_tbl := lw_at lw_m7 13 rfl
theorem q1610 : (Jvm.Cond.instanceMethod ({ cls := "WebHost", name := "isKept", desc := "(I)Z" } : Jvm.MethodName)) ∈ lw_all := lw_g (lw_at lw_m7 14 rfl) rfl
theorem q1611 : (Jvm.Cond.code ({ cls := "WebHost", name := "isKept", desc := "(I)Z" } : Jvm.MethodName) prog_1_method_20_code (2 : Nat) (Option.some Jvm.ClassFile.FieldType.boolean)) ∈ lw_all := lw_g (lw_at lw_m7 15 rfl) rfl
theorem q1612 : (Jvm.Cond.methodLink "WebHost" (276 : Nat) ({ cls := "WebHost$Device", name := "isKept", desc := "(I)Z" } : Jvm.MethodName)) ∈ lw_all := lw_g (lw_at lw_m7 16 rfl) rfl
theorem q1613 : (Jvm.Cond.instanceMethod ({ cls := "WebHost$Device", name := "isKept", desc := "(I)Z" } : Jvm.MethodName)) ∈ lw_all := lw_g (lw_at lw_m7 17 rfl) rfl
theorem q1614 : (Jvm.Cond.selects "WebHost$Device" ({ cls := "WebHost$Device", name := "isKept", desc := "(I)Z" } : Jvm.MethodName) ({ cls := "WebHost$Device", name := "isKept", desc := "(I)Z" } : Jvm.MethodName)) ∈ lw_all := lw_g (lw_at lw_m7 18 rfl) rfl
theorem q1615 : (Jvm.Cond.code ({ cls := "WebHost$Device", name := "isKept", desc := "(I)Z" } : Jvm.MethodName) prog_4_method_4_code (2 : Nat) (Option.some Jvm.ClassFile.FieldType.boolean)) ∈ lw_all := lw_g (lw_at lw_m7 19 rfl) rfl
theorem q1616 : (Jvm.Cond.methodLink "WebHost" (280 : Nat) ({ cls := "WebHost$Device", name := "length", desc := "(I)I" } : Jvm.MethodName)) ∈ lw_all := lw_g (lw_at lw_m7 20 rfl) rfl
theorem q1617 : (Jvm.Cond.instanceMethod ({ cls := "WebHost$Device", name := "length", desc := "(I)I" } : Jvm.MethodName)) ∈ lw_all := lw_g (lw_at lw_m7 21 rfl) rfl
theorem q1618 : (Jvm.Cond.selects "WebHost$Device" ({ cls := "WebHost$Device", name := "length", desc := "(I)I" } : Jvm.MethodName) ({ cls := "WebHost$Device", name := "length", desc := "(I)I" } : Jvm.MethodName)) ∈ lw_all := lw_g (lw_at lw_m7 22 rfl) rfl
theorem q1619 : (Jvm.Cond.code ({ cls := "WebHost$Device", name := "length", desc := "(I)I" } : Jvm.MethodName) prog_4_method_6_code (2 : Nat) (Option.some Jvm.ClassFile.FieldType.int)) ∈ lw_all := lw_g (lw_at lw_m7 23 rfl) rfl
theorem q1620 : (Jvm.Cond.methodLink "WebHost$Device" (53 : Nat) ({ cls := "WebHost$Device", name := "slot", desc := "(I)I" } : Jvm.MethodName)) ∈ lw_all := lw_g (lw_at lw_m7 24 rfl) rfl
theorem q1621 : (Jvm.Cond.privateMethod ({ cls := "WebHost$Device", name := "slot", desc := "(I)I" } : Jvm.MethodName)) ∈ lw_tbl := lw_at lw_m7 25 rfl
theorem q1622 : (Jvm.Cond.instanceMethod ({ cls := "WebHost$Device", name := "slot", desc := "(I)I" } : Jvm.MethodName)) ∈ lw_all := lw_g (lw_at lw_m7 26 rfl) rfl
theorem q1623 : (Jvm.Cond.code ({ cls := "WebHost$Device", name := "slot", desc := "(I)I" } : Jvm.MethodName) prog_4_method_5_code (2 : Nat) (Option.some Jvm.ClassFile.FieldType.int)) ∈ lw_all := lw_g (lw_at lw_m7 27 rfl) rfl
theorem q1624 : (Jvm.Cond.methodLink "WebHostLaw" (52 : Nat) ({ cls := "WebHost", name := "at", desc := "(II)I" } : Jvm.MethodName)) ∈ lw_all := lw_g (lw_at lw_m7 28 rfl) rfl
theorem q1625 : (Jvm.Cond.instanceMethod ({ cls := "WebHost", name := "at", desc := "(II)I" } : Jvm.MethodName)) ∈ lw_all := lw_g (lw_at lw_m7 29 rfl) rfl
theorem q1626 : (Jvm.Cond.selects "WebHost" ({ cls := "WebHost", name := "at", desc := "(II)I" } : Jvm.MethodName) ({ cls := "WebHost", name := "at", desc := "(II)I" } : Jvm.MethodName)) ∈ lw_all := lw_g (lw_at lw_m7 30 rfl) rfl
theorem q1627 : (Jvm.Cond.code ({ cls := "WebHost", name := "at", desc := "(II)I" } : Jvm.MethodName) prog_1_method_22_code (3 : Nat) (Option.some Jvm.ClassFile.FieldType.int)) ∈ lw_all := lw_g (lw_at lw_m7 31 rfl) rfl
theorem q1628 : (Jvm.Cond.methodLink "WebHost" (283 : Nat) ({ cls := "WebHost$Device", name := "at", desc := "(II)I" } : Jvm.MethodName)) ∈ lw_all := lw_g (lw_at lw_m7 32 rfl) rfl
theorem q1629 : (Jvm.Cond.instanceMethod ({ cls := "WebHost$Device", name := "at", desc := "(II)I" } : Jvm.MethodName)) ∈ lw_all := lw_g (lw_at lw_m7 33 rfl) rfl
theorem q1630 : (Jvm.Cond.selects "WebHost$Device" ({ cls := "WebHost$Device", name := "at", desc := "(II)I" } : Jvm.MethodName) ({ cls := "WebHost$Device", name := "at", desc := "(II)I" } : Jvm.MethodName)) ∈ lw_all := lw_g (lw_at lw_m7 34 rfl) rfl
theorem q1631 : (Jvm.Cond.code ({ cls := "WebHost$Device", name := "at", desc := "(II)I" } : Jvm.MethodName) prog_4_method_8_code (3 : Nat) (Option.some Jvm.ClassFile.FieldType.int)) ∈ lw_all := lw_g (lw_at lw_m7 35 rfl) rfl
theorem q1632 : (Jvm.Cond.methodLink "WebHost$Device" (57 : Nat) ({ cls := "WebHost$Device", name := "length", desc := "(I)I" } : Jvm.MethodName)) ∈ lw_all := lw_g (lw_at lw_m7 36 rfl) rfl
theorem q1633 : (Jvm.Cond.methodLink "WebHostLaw" (57 : Nat) ({ cls := "WebHost", name := "time", desc := "(I)I" } : Jvm.MethodName)) ∈ lw_all := lw_g (lw_at lw_m7 37 rfl) rfl
theorem q1634 : (Jvm.Cond.instanceMethod ({ cls := "WebHost", name := "time", desc := "(I)I" } : Jvm.MethodName)) ∈ lw_all := lw_g (lw_at lw_m7 38 rfl) rfl
theorem q1635 : (Jvm.Cond.selects "WebHost" ({ cls := "WebHost", name := "time", desc := "(I)I" } : Jvm.MethodName) ({ cls := "WebHost", name := "time", desc := "(I)I" } : Jvm.MethodName)) ∈ lw_all := lw_g (lw_at lw_m7 39 rfl) rfl
theorem q1636 : (Jvm.Cond.code ({ cls := "WebHost", name := "time", desc := "(I)I" } : Jvm.MethodName) prog_1_method_23_code (2 : Nat) (Option.some Jvm.ClassFile.FieldType.int)) ∈ lw_all := lw_g (lw_at lw_m7 40 rfl) rfl
theorem q1637 : (Jvm.Cond.methodLink "WebHost" (286 : Nat) ({ cls := "WebHost$Device", name := "time", desc := "(I)I" } : Jvm.MethodName)) ∈ lw_all := lw_g (lw_at lw_m7 41 rfl) rfl
theorem q1638 : (Jvm.Cond.instanceMethod ({ cls := "WebHost$Device", name := "time", desc := "(I)I" } : Jvm.MethodName)) ∈ lw_all := lw_g (lw_at lw_m7 42 rfl) rfl
theorem q1639 : (Jvm.Cond.selects "WebHost$Device" ({ cls := "WebHost$Device", name := "time", desc := "(I)I" } : Jvm.MethodName) ({ cls := "WebHost$Device", name := "time", desc := "(I)I" } : Jvm.MethodName)) ∈ lw_all := lw_g (lw_at lw_m7 43 rfl) rfl
theorem q1640 : (Jvm.Cond.code ({ cls := "WebHost$Device", name := "time", desc := "(I)I" } : Jvm.MethodName) prog_4_method_7_code (2 : Nat) (Option.some Jvm.ClassFile.FieldType.int)) ∈ lw_all := lw_g (lw_at lw_m7 44 rfl) rfl
theorem q1641 : (Jvm.Cond.methodLink "WebHostLaw" (61 : Nat) ({ cls := "WebHost", name := "state", desc := "(I)I" } : Jvm.MethodName)) ∈ lw_all := lw_g (lw_at lw_m7 45 rfl) rfl
theorem q1642 : (Jvm.Cond.instanceMethod ({ cls := "WebHost", name := "state", desc := "(I)I" } : Jvm.MethodName)) ∈ lw_all := lw_g (lw_at lw_m7 46 rfl) rfl
theorem q1643 : (Jvm.Cond.selects "WebHost" ({ cls := "WebHost", name := "state", desc := "(I)I" } : Jvm.MethodName) ({ cls := "WebHost", name := "state", desc := "(I)I" } : Jvm.MethodName)) ∈ lw_all := lw_g (lw_at lw_m7 47 rfl) rfl
theorem q1644 : (Jvm.Cond.code ({ cls := "WebHost", name := "state", desc := "(I)I" } : Jvm.MethodName) prog_1_method_25_code (2 : Nat) (Option.some Jvm.ClassFile.FieldType.int)) ∈ lw_all := lw_g (lw_at lw_m7 48 rfl) rfl
theorem q1645 : (Jvm.Cond.methodLink "WebHost" (289 : Nat) ({ cls := "WebHost", name := "isPlace", desc := "(I)Z" } : Jvm.MethodName)) ∈ lw_all := lw_g (lw_at lw_m7 49 rfl) rfl
theorem q1646 : (Jvm.Cond.static ({ cls := "WebHost", name := "isPlace", desc := "(I)Z" } : Jvm.MethodName)) ∈ lw_all := lw_g (lw_at lw_m7 50 rfl) rfl
theorem q1647 : (Jvm.Cond.code ({ cls := "WebHost", name := "isPlace", desc := "(I)Z" } : Jvm.MethodName) prog_1_method_24_code (1 : Nat) (Option.some Jvm.ClassFile.FieldType.boolean)) ∈ lw_all := lw_g (lw_at lw_m7 51 rfl) rfl
theorem q1648 : (Jvm.Cond.methodLink "WebHostLaw" (65 : Nat) ({ cls := "WebHost", name := "look", desc := "(II)J" } : Jvm.MethodName)) ∈ lw_all := lw_g (lw_at lw_m7 52 rfl) rfl
theorem q1649 : (Jvm.Cond.instanceMethod ({ cls := "WebHost", name := "look", desc := "(II)J" } : Jvm.MethodName)) ∈ lw_all := lw_g (lw_at lw_m7 53 rfl) rfl
theorem q1650 : (Jvm.Cond.selects "WebHost" ({ cls := "WebHost", name := "look", desc := "(II)J" } : Jvm.MethodName) ({ cls := "WebHost", name := "look", desc := "(II)J" } : Jvm.MethodName)) ∈ lw_all := lw_g (lw_at lw_m7 54 rfl) rfl
theorem q1651 : (Jvm.Cond.code ({ cls := "WebHost", name := "look", desc := "(II)J" } : Jvm.MethodName) prog_1_method_26_code (4 : Nat) (Option.some Jvm.ClassFile.FieldType.long)) ∈ lw_all := lw_g (lw_at lw_m7 55 rfl) rfl
theorem q1652 : (Jvm.Cond.methodLink "WebHost" (292 : Nat) ({ cls := "WebHost", name := "state", desc := "(I)I" } : Jvm.MethodName)) ∈ lw_all := lw_g (lw_at lw_m7 56 rfl) rfl
theorem q1653 : (Jvm.Cond.constantLong "WebHost" (294 : Nat) (4294967296 : Int64)) ∈ lw_all := lw_g (lw_at lw_m7 57 rfl) rfl
theorem q1654 : (Jvm.Cond.constantLong "WebHost" (296 : Nat) (4294967295 : Int64)) ∈ lw_all := lw_g (lw_at lw_m7 58 rfl) rfl
theorem q1655 : (Jvm.Cond.methodLink "WebHost" (306 : Nat) ({ cls := "WebHost$Connection", name := "next", desc := "()I" } : Jvm.MethodName)) ∈ lw_all := lw_g (lw_at lw_m7 59 rfl) rfl
theorem q1656 : (Jvm.Cond.instanceMethod ({ cls := "WebHost$Connection", name := "next", desc := "()I" } : Jvm.MethodName)) ∈ lw_all := lw_g (lw_at lw_m7 60 rfl) rfl
theorem q1657 : (Jvm.Cond.selects "WebHost$Connection" ({ cls := "WebHost$Connection", name := "next", desc := "()I" } : Jvm.MethodName) ({ cls := "WebHost$Connection", name := "next", desc := "()I" } : Jvm.MethodName)) ∈ lw_all := lw_g (lw_at lw_m7 61 rfl) rfl
theorem q1658 : (Jvm.Cond.code ({ cls := "WebHost$Connection", name := "next", desc := "()I" } : Jvm.MethodName) prog_3_method_2_code (1 : Nat) (Option.some Jvm.ClassFile.FieldType.int)) ∈ lw_all := lw_g (lw_at lw_m7 62 rfl) rfl
theorem q1659 : (Jvm.Cond.methodLink "WebHost" (333 : Nat) ({ cls := "WebHost$Connection", name := "left", desc := "()I" } : Jvm.MethodName)) ∈ lw_all := lw_g (lw_at lw_m7 63 rfl) rfl
theorem q1660 : (Jvm.Cond.methodLink "WebHostLaw" (70 : Nat) ({ cls := "WebHost", name := "cached", desc := "(I)Z" } : Jvm.MethodName)) ∈ lw_all := lw_g (lw_at lw_m7 64 rfl) rfl
theorem q1661 : (Jvm.Cond.instanceMethod ({ cls := "WebHost", name := "cached", desc := "(I)Z" } : Jvm.MethodName)) ∈ lw_all := lw_g (lw_at lw_m7 65 rfl) rfl
theorem q1662 : (Jvm.Cond.selects "WebHost" ({ cls := "WebHost", name := "cached", desc := "(I)Z" } : Jvm.MethodName) ({ cls := "WebHost", name := "cached", desc := "(I)Z" } : Jvm.MethodName)) ∈ lw_all := lw_g (lw_at lw_m7 66 rfl) rfl
theorem q1663 : (Jvm.Cond.code ({ cls := "WebHost", name := "cached", desc := "(I)Z" } : Jvm.MethodName) prog_1_method_27_code (2 : Nat) (Option.some Jvm.ClassFile.FieldType.boolean)) ∈ lw_all := lw_g (lw_at lw_m7 67 rfl) rfl
theorem q1664 : (Jvm.Cond.methodLink "WebHost" (342 : Nat) ({ cls := "WebHost$Hops", name := "knows", desc := "(I)Z" } : Jvm.MethodName)) ∈ lw_all := lw_g (lw_at lw_m7 68 rfl) rfl
theorem q1665 : (Jvm.Cond.methodLink "WebHostLaw" (75 : Nat) ({ cls := "WebHost", name := "waiting", desc := "()I" } : Jvm.MethodName)) ∈ lw_all := lw_g (lw_at lw_m7 69 rfl) rfl
theorem q1666 : (Jvm.Cond.instanceMethod ({ cls := "WebHost", name := "waiting", desc := "()I" } : Jvm.MethodName)) ∈ lw_all := lw_g (lw_at lw_m7 70 rfl) rfl
theorem q1667 : (Jvm.Cond.selects "WebHost" ({ cls := "WebHost", name := "waiting", desc := "()I" } : Jvm.MethodName) ({ cls := "WebHost", name := "waiting", desc := "()I" } : Jvm.MethodName)) ∈ lw_all := lw_g (lw_at lw_m7 71 rfl) rfl
theorem q1668 : (Jvm.Cond.code ({ cls := "WebHost", name := "waiting", desc := "()I" } : Jvm.MethodName) prog_1_method_28_code (1 : Nat) (Option.some Jvm.ClassFile.FieldType.int)) ∈ lw_all := lw_g (lw_at lw_m7 72 rfl) rfl
theorem q1669 : (Jvm.Cond.methodLink "WebHostLaw" (79 : Nat) ({ cls := "WebHost", name := "counted", desc := "(I)I" } : Jvm.MethodName)) ∈ lw_all := lw_g (lw_at lw_m7 73 rfl) rfl
theorem q1670 : (Jvm.Cond.instanceMethod ({ cls := "WebHost", name := "counted", desc := "(I)I" } : Jvm.MethodName)) ∈ lw_all := lw_g (lw_at lw_m7 74 rfl) rfl
theorem q1671 : (Jvm.Cond.selects "WebHost" ({ cls := "WebHost", name := "counted", desc := "(I)I" } : Jvm.MethodName) ({ cls := "WebHost", name := "counted", desc := "(I)I" } : Jvm.MethodName)) ∈ lw_all := lw_g (lw_at lw_m7 75 rfl) rfl
theorem q1672 : (Jvm.Cond.code ({ cls := "WebHost", name := "counted", desc := "(I)I" } : Jvm.MethodName) prog_1_method_29_code (2 : Nat) (Option.some Jvm.ClassFile.FieldType.int)) ∈ lw_all := lw_g (lw_at lw_m7 76 rfl) rfl
theorem q1673 : (Jvm.Cond.methodLink "WebHostLaw" (83 : Nat) ({ cls := "WebHost", name := "damage", desc := "(II)Z" } : Jvm.MethodName)) ∈ lw_all := lw_g (lw_at lw_m7 77 rfl) rfl
theorem q1674 : (Jvm.Cond.instanceMethod ({ cls := "WebHost", name := "damage", desc := "(II)Z" } : Jvm.MethodName)) ∈ lw_all := lw_g (lw_at lw_m7 78 rfl) rfl
theorem q1675 : (Jvm.Cond.selects "WebHost" ({ cls := "WebHost", name := "damage", desc := "(II)Z" } : Jvm.MethodName) ({ cls := "WebHost", name := "damage", desc := "(II)Z" } : Jvm.MethodName)) ∈ lw_all := lw_g (lw_at lw_m7 79 rfl) rfl
theorem q1676 : (Jvm.Cond.code ({ cls := "WebHost", name := "damage", desc := "(II)Z" } : Jvm.MethodName) prog_1_method_30_code (4 : Nat) (Option.some Jvm.ClassFile.FieldType.boolean)) ∈ lw_all := lw_g (lw_at lw_m7 80 rfl) rfl
theorem q1677 : (Jvm.Cond.methodLink "WebHost" (365 : Nat) ({ cls := "WebHost$Connection", name := "isBusy", desc := "()Z" } : Jvm.MethodName)) ∈ lw_all := lw_g (lw_at lw_m7 81 rfl) rfl
theorem q1678 : (Jvm.Cond.instanceMethod ({ cls := "WebHost$Connection", name := "isBusy", desc := "()Z" } : Jvm.MethodName)) ∈ lw_all := lw_g (lw_at lw_m7 82 rfl) rfl
theorem q1679 : (Jvm.Cond.selects "WebHost$Connection" ({ cls := "WebHost$Connection", name := "isBusy", desc := "()Z" } : Jvm.MethodName) ({ cls := "WebHost$Connection", name := "isBusy", desc := "()Z" } : Jvm.MethodName)) ∈ lw_all := lw_g (lw_at lw_m7 83 rfl) rfl
theorem q1680 : (Jvm.Cond.code ({ cls := "WebHost$Connection", name := "isBusy", desc := "()Z" } : Jvm.MethodName) prog_3_method_8_code (1 : Nat) (Option.some Jvm.ClassFile.FieldType.boolean)) ∈ lw_all := lw_g (lw_at lw_m7 84 rfl) rfl
theorem q1681 : (Jvm.Cond.methodLink "WebHostLaw" (88 : Nat) ({ cls := "WebHost", name := "strays", desc := "()I" } : Jvm.MethodName)) ∈ lw_all := lw_g (lw_at lw_m7 85 rfl) rfl
theorem q1682 : (Jvm.Cond.instanceMethod ({ cls := "WebHost", name := "strays", desc := "()I" } : Jvm.MethodName)) ∈ lw_all := lw_g (lw_at lw_m7 86 rfl) rfl
theorem q1683 : (Jvm.Cond.selects "WebHost" ({ cls := "WebHost", name := "strays", desc := "()I" } : Jvm.MethodName) ({ cls := "WebHost", name := "strays", desc := "()I" } : Jvm.MethodName)) ∈ lw_all := lw_g (lw_at lw_m7 87 rfl) rfl
theorem q1684 : (Jvm.Cond.code ({ cls := "WebHost", name := "strays", desc := "()I" } : Jvm.MethodName) prog_1_method_31_code (1 : Nat) (Option.some Jvm.ClassFile.FieldType.int)) ∈ lw_all := lw_g (lw_at lw_m7 88 rfl) rfl
theorem q1685 : (Jvm.Cond.classLink "WebHostLaw" (10 : Nat) "WebHostModel") ∈ lw_all := lw_g (lw_at lw_m7 89 rfl) rfl
theorem q1686 : (Jvm.Cond.instantiable "WebHostModel" (63 : Nat)) ∈ lw_all := lw_g (lw_at lw_m7 90 rfl) rfl
theorem q1687 : (Jvm.Cond.methodLink "WebHostLaw" (12 : Nat) ({ cls := "WebHostModel", name := "<init>", desc := "()V" } : Jvm.MethodName)) ∈ lw_all := lw_g (lw_at lw_m7 91 rfl) rfl
theorem q1688 : (Jvm.Cond.instanceMethod ({ cls := "WebHostModel", name := "<init>", desc := "()V" } : Jvm.MethodName)) ∈ lw_all := lw_g (lw_at lw_m7 92 rfl) rfl
theorem q1689 : (Jvm.Cond.code ({ cls := "WebHostModel", name := "<init>", desc := "()V" } : Jvm.MethodName) prog_17_method_1_code (2 : Nat) (Option.none : Option Jvm.ClassFile.FieldType)) ∈ lw_all := lw_g (lw_at lw_m7 93 rfl) rfl
theorem q1690 : (Jvm.Cond.methodLink "WebHostModel" (1 : Nat) ({ cls := "java/lang/Object", name := "<init>", desc := "()V" } : Jvm.MethodName)) ∈ lw_all := lw_g (lw_at lw_m7 94 rfl) rfl
theorem q1691 : (Jvm.Cond.constant "WebHostModel" (9 : Nat) (65540 : Int32)) ∈ lw_all := lw_g (lw_at lw_m7 95 rfl) rfl
theorem q1692 : (Jvm.Cond.constant "WebHostModel" (14 : Nat) (65535 : Int32)) ∈ lw_all := lw_g (lw_at lw_m7 96 rfl) rfl
theorem q1693 : (Jvm.Cond.constant "WebHostModel" (37 : Nat) (48448 : Int32)) ∈ lw_all := lw_g (lw_at lw_m7 97 rfl) rfl
theorem q1694 : (Jvm.Cond.classLink "WebHostModel" (47 : Nat) "WebHostModel$Entry") ∈ lw_all := lw_g (lw_at lw_m7 98 rfl) rfl
theorem q1695 : (Jvm.Cond.arrayOver (Jvm.ClassFile.FieldType.object "WebHostModel$Entry")) ∈ lw_tbl := lw_at lw_m7 99 rfl
theorem q1696 : (Jvm.Cond.classLink "WebHostModel" (53 : Nat) "WebHostModel$Packet") ∈ lw_all := lw_g (lw_at lw_m7 100 rfl) rfl
theorem q1697 : (Jvm.Cond.arrayOver (Jvm.ClassFile.FieldType.object "WebHostModel$Packet")) ∈ lw_tbl := lw_at lw_m7 101 rfl
theorem q1698 : (Jvm.Cond.classLink "WebHostModel" (59 : Nat) "WebHostModel$Datagram") ∈ lw_all := lw_g (lw_at lw_m7 102 rfl) rfl
theorem q1699 : (Jvm.Cond.arrayOver (Jvm.ClassFile.FieldType.object "WebHostModel$Datagram")) ∈ lw_tbl := lw_at lw_m7 103 rfl
theorem q1700 : (Jvm.Cond.classLink "WebHostModel" (68 : Nat) "WebHostModel$Connection") ∈ lw_all := lw_g (lw_at lw_m7 104 rfl) rfl
theorem q1701 : (Jvm.Cond.arrayOver (Jvm.ClassFile.FieldType.object "WebHostModel$Connection")) ∈ lw_tbl := lw_at lw_m7 105 rfl
theorem q1702 : (Jvm.Cond.instantiable "WebHostModel$Connection" (46 : Nat)) ∈ lw_all := lw_g (lw_at lw_m7 106 rfl) rfl
theorem q1703 : (Jvm.Cond.methodLinkNest "WebHostModel" (80 : Nat) ({ cls := "WebHostModel$Connection", name := "<init>", desc := "()V" } : Jvm.MethodName) "WebHostModel") ∈ lw_tbl := lw_at lw_m7 107 rfl
theorem q1704 : (Jvm.Cond.instanceMethod ({ cls := "WebHostModel$Connection", name := "<init>", desc := "()V" } : Jvm.MethodName)) ∈ lw_all := lw_g (lw_at lw_m7 108 rfl) rfl
theorem q1705 : (Jvm.Cond.code ({ cls := "WebHostModel$Connection", name := "<init>", desc := "()V" } : Jvm.MethodName) prog_18_method_1_code (1 : Nat) (Option.none : Option Jvm.ClassFile.FieldType)) ∈ lw_all := lw_g (lw_at lw_m7 109 rfl) rfl
theorem q1706 : (Jvm.Cond.methodLink "WebHostModel$Connection" (3 : Nat) ({ cls := "java/lang/Object", name := "<init>", desc := "()V" } : Jvm.MethodName)) ∈ lw_all := lw_g (lw_at lw_m7 110 rfl) rfl
theorem q1707 : (Jvm.Cond.fieldLink "WebHostModel" (152 : Nat) "WebHostModel$Connection" "state" "I") ∈ lw_all := lw_g (lw_at lw_m7 111 rfl) rfl
theorem q1708 : (Jvm.Cond.fieldLink "WebHostModel" (314 : Nat) "WebHostModel$Connection" "number" "I") ∈ lw_all := lw_g (lw_at lw_m7 112 rfl) rfl
theorem q1709 : (Jvm.Cond.fieldLink "WebHostModel" (315 : Nat) "WebHostModel$Connection" "port" "I") ∈ lw_all := lw_g (lw_at lw_m7 113 rfl) rfl
theorem q1710 : (Jvm.Cond.fieldLink "WebHostModel" (354 : Nat) "WebHostModel$Connection" "iss" "I") ∈ lw_all := lw_g (lw_at lw_m7 114 rfl) rfl
theorem q1711 : (Jvm.Cond.fieldLink "WebHostModel" (428 : Nat) "WebHostModel$Connection" "una" "I") ∈ lw_all := lw_g (lw_at lw_m7 115 rfl) rfl
theorem q1712 : (Jvm.Cond.fieldLink "WebHostModel" (345 : Nat) "WebHostModel$Connection" "at" "I") ∈ lw_all := lw_g (lw_at lw_m7 116 rfl) rfl
theorem q1713 : (Jvm.Cond.fieldLink "WebHostModel" (361 : Nat) "WebHostModel$Connection" "max" "I") ∈ lw_all := lw_g (lw_at lw_m7 117 rfl) rfl
theorem q1714 : (Jvm.Cond.fieldLink "WebHostModel" (434 : Nat) "WebHostModel$Connection" "window" "I") ∈ lw_all := lw_g (lw_at lw_m7 118 rfl) rfl
theorem q1715 : (Jvm.Cond.fieldLink "WebHostModel" (448 : Nat) "WebHostModel$Connection" "wl1" "I") ∈ lw_all := lw_g (lw_at lw_m7 119 rfl) rfl
theorem q1716 : (Jvm.Cond.fieldLink "WebHostModel" (451 : Nat) "WebHostModel$Connection" "wl2" "I") ∈ lw_all := lw_g (lw_at lw_m7 120 rfl) rfl
theorem q1717 : (Jvm.Cond.fieldLink "WebHostModel" (405 : Nat) "WebHostModel$Connection" "mss" "I") ∈ lw_all := lw_g (lw_at lw_m7 121 rfl) rfl
theorem q1718 : (Jvm.Cond.fieldLink "WebHostModel" (431 : Nat) "WebHostModel$Connection" "cwnd" "I") ∈ lw_all := lw_g (lw_at lw_m7 122 rfl) rfl
theorem q1719 : (Jvm.Cond.fieldLink "WebHostModel" (457 : Nat) "WebHostModel$Connection" "ssthresh" "I") ∈ lw_all := lw_g (lw_at lw_m7 123 rfl) rfl
theorem q1720 : (Jvm.Cond.fieldLink "WebHostModel" (382 : Nat) "WebHostModel$Connection" "rto" "I") ∈ lw_all := lw_g (lw_at lw_m7 124 rfl) rfl
theorem q1721 : (Jvm.Cond.fieldLink "WebHostModel" (538 : Nat) "WebHostModel$Connection" "srtt" "I") ∈ lw_all := lw_g (lw_at lw_m7 125 rfl) rfl
theorem q1722 : (Jvm.Cond.fieldLink "WebHostModel" (541 : Nat) "WebHostModel$Connection" "var" "I") ∈ lw_all := lw_g (lw_at lw_m7 126 rfl) rfl
theorem q1723 : (Jvm.Cond.fieldLink "WebHostModel" (460 : Nat) "WebHostModel$Connection" "measured" "Z") ∈ lw_all := lw_g (lw_at lw_m7 127 rfl) rfl
theorem q1724 : (Jvm.Cond.fieldLink "WebHostModel" (367 : Nat) "WebHostModel$Connection" "timing" "Z") ∈ lw_all := lw_g (lw_at lw_m7 128 rfl) rfl
theorem q1725 : (Jvm.Cond.fieldLink "WebHostModel" (463 : Nat) "WebHostModel$Connection" "recovery" "Z") ∈ lw_all := lw_g (lw_at lw_m7 129 rfl) rfl
theorem q1726 : (Jvm.Cond.fieldLink "WebHostModel" (370 : Nat) "WebHostModel$Connection" "timedNumber" "I") ∈ lw_all := lw_g (lw_at lw_m7 130 rfl) rfl
theorem q1727 : (Jvm.Cond.fieldLink "WebHostModel" (373 : Nat) "WebHostModel$Connection" "timedAt" "I") ∈ lw_all := lw_g (lw_at lw_m7 131 rfl) rfl
theorem q1728 : (Jvm.Cond.fieldLink "WebHostModel" (376 : Nat) "WebHostModel$Connection" "timerOn" "Z") ∈ lw_all := lw_g (lw_at lw_m7 132 rfl) rfl
theorem q1729 : (Jvm.Cond.fieldLink "WebHostModel" (385 : Nat) "WebHostModel$Connection" "timer" "I") ∈ lw_all := lw_g (lw_at lw_m7 133 rfl) rfl
theorem q1730 : (Jvm.Cond.fieldLink "WebHostModel" (466 : Nat) "WebHostModel$Connection" "tries" "I") ∈ lw_all := lw_g (lw_at lw_m7 134 rfl) rfl
theorem q1731 : (Jvm.Cond.fieldLink "WebHostModel" (469 : Nat) "WebHostModel$Connection" "duplicates" "I") ∈ lw_all := lw_g (lw_at lw_m7 135 rfl) rfl
theorem q1732 : (Jvm.Cond.fieldLink "WebHostModel$Connection" (9 : Nat) "WebHostModel$Connection" "head" "[B") ∈ lw_all := lw_g (lw_at lw_m7 136 rfl) rfl
theorem q1733 : (Jvm.Cond.fieldLink "WebHostModel" (394 : Nat) "WebHostModel$Connection" "head" "[B") ∈ lw_all := lw_g (lw_at lw_m7 137 rfl) rfl
theorem q1734 : (Jvm.Cond.fieldLink "WebHostModel$Connection" (26 : Nat) "WebHostModel$Connection" "headLength" "I") ∈ lw_all := lw_g (lw_at lw_m7 138 rfl) rfl
theorem q1735 : (Jvm.Cond.fieldLink "WebHostModel" (391 : Nat) "WebHostModel$Connection" "headLength" "I") ∈ lw_all := lw_g (lw_at lw_m7 139 rfl) rfl
theorem q1736 : (Jvm.Cond.fieldLink "WebHostModel" (395 : Nat) "WebHostModel$Connection" "bodyPlace" "I") ∈ lw_all := lw_g (lw_at lw_m7 140 rfl) rfl
theorem q1737 : (Jvm.Cond.fieldLink "WebHostModel$Connection" (29 : Nat) "WebHostModel$Connection" "bodyLength" "I") ∈ lw_all := lw_g (lw_at lw_m7 141 rfl) rfl
theorem q1738 : (Jvm.Cond.fieldLink "WebHostModel" (472 : Nat) "WebHostModel$Connection" "bodyLength" "I") ∈ lw_all := lw_g (lw_at lw_m7 142 rfl) rfl
theorem q1739 : (Jvm.Cond.fieldLink "WebHostModel$Connection" (22 : Nat) "WebHostModel$Connection" "begin" "I") ∈ lw_all := lw_g (lw_at lw_m7 143 rfl) rfl
theorem q1740 : (Jvm.Cond.fieldLink "WebHostModel" (388 : Nat) "WebHostModel$Connection" "begin" "I") ∈ lw_all := lw_g (lw_at lw_m7 144 rfl) rfl
theorem q1741 : (Jvm.Cond.fieldLink "WebHostModel$Connection" (36 : Nat) "WebHostModel$Connection" "closing" "Z") ∈ lw_all := lw_g (lw_at lw_m7 145 rfl) rfl
theorem q1742 : (Jvm.Cond.fieldLink "WebHostModel" (418 : Nat) "WebHostModel$Connection" "closing" "Z") ∈ lw_all := lw_g (lw_at lw_m7 146 rfl) rfl
theorem q1743 : (Jvm.Cond.fieldLink "WebHostModel" (408 : Nat) "WebHostModel$Connection" "finished" "Z") ∈ lw_all := lw_g (lw_at lw_m7 147 rfl) rfl
theorem q1744 : (Jvm.Cond.fieldLink "WebHostModel$Connection" (15 : Nat) "WebHostModel$Connection" "row" "[B") ∈ lw_all := lw_g (lw_at lw_m7 148 rfl) rfl
theorem q1745 : (Jvm.Cond.fieldLink "WebHostModel" (560 : Nat) "WebHostModel$Connection" "row" "[B") ∈ lw_all := lw_g (lw_at lw_m7 149 rfl) rfl
theorem q1746 : (Jvm.Cond.fieldLink "WebHostModel$Connection" (18 : Nat) "WebHostModel$Connection" "there" "[Z") ∈ lw_all := lw_g (lw_at lw_m7 150 rfl) rfl
theorem q1747 : (Jvm.Cond.fieldLink "WebHostModel" (484 : Nat) "WebHostModel$Connection" "there" "[Z") ∈ lw_all := lw_g (lw_at lw_m7 151 rfl) rfl
theorem q1748 : (Jvm.Cond.fieldLink "WebHostModel" (441 : Nat) "WebHostModel$Connection" "irs" "I") ∈ lw_all := lw_g (lw_at lw_m7 152 rfl) rfl
theorem q1749 : (Jvm.Cond.fieldLink "WebHostModel$Connection" (43 : Nat) "WebHostModel$Connection" "read" "I") ∈ lw_all := lw_g (lw_at lw_m7 153 rfl) rfl
theorem q1750 : (Jvm.Cond.fieldLink "WebHostModel" (444 : Nat) "WebHostModel$Connection" "read" "I") ∈ lw_all := lw_g (lw_at lw_m7 154 rfl) rfl
theorem q1751 : (Jvm.Cond.fieldLink "WebHostModel$Connection" (40 : Nat) "WebHostModel$Connection" "next" "I") ∈ lw_all := lw_g (lw_at lw_m7 155 rfl) rfl
theorem q1752 : (Jvm.Cond.fieldLink "WebHostModel" (348 : Nat) "WebHostModel$Connection" "next" "I") ∈ lw_all := lw_g (lw_at lw_m7 156 rfl) rfl
theorem q1753 : (Jvm.Cond.fieldLink "WebHostModel" (342 : Nat) "WebHostModel$Connection" "told" "I") ∈ lw_all := lw_g (lw_at lw_m7 157 rfl) rfl
theorem q1754 : (Jvm.Cond.fieldLink "WebHostModel" (475 : Nat) "WebHostModel$Connection" "leave" "I") ∈ lw_all := lw_g (lw_at lw_m7 158 rfl) rfl
theorem q1755 : (Jvm.Cond.fieldLink "WebHostModel" (336 : Nat) "WebHostModel$Connection" "owed" "Z") ∈ lw_all := lw_g (lw_at lw_m7 159 rfl) rfl
theorem q1756 : (Jvm.Cond.fieldLink "WebHostModel" (478 : Nat) "WebHostModel$Connection" "finKnown" "Z") ∈ lw_all := lw_g (lw_at lw_m7 160 rfl) rfl
theorem q1757 : (Jvm.Cond.fieldLink "WebHostModel$Connection" (46 : Nat) "WebHostModel$Connection" "finTaken" "Z") ∈ lw_all := lw_g (lw_at lw_m7 161 rfl) rfl
theorem q1758 : (Jvm.Cond.fieldLink "WebHostModel" (481 : Nat) "WebHostModel$Connection" "finTaken" "Z") ∈ lw_all := lw_g (lw_at lw_m7 162 rfl) rfl
theorem q1759 : (Jvm.Cond.fieldLink "WebHostModel" (563 : Nat) "WebHostModel$Connection" "finNumber" "I") ∈ lw_all := lw_g (lw_at lw_m7 163 rfl) rfl
theorem q1760 : (Jvm.Cond.fieldLink "WebHostModel" (520 : Nat) "WebHostModel$Connection" "established" "I") ∈ lw_all := lw_g (lw_at lw_m7 164 rfl) rfl
theorem q1761 : (Jvm.Cond.fieldLink "WebHostModel" (523 : Nat) "WebHostModel$Connection" "latest" "I") ∈ lw_all := lw_g (lw_at lw_m7 165 rfl) rfl
theorem q1762 : (Jvm.Cond.fieldLink "WebHostModel" (499 : Nat) "WebHostModel$Connection" "since" "I") ∈ lw_all := lw_g (lw_at lw_m7 166 rfl) rfl
theorem q1763 : (Jvm.Cond.lays "WebHostModel$Connection" "WebHostModel$Connection" "state" "I") ∈ lw_all := lw_g (lw_at lw_m7 167 rfl) rfl
theorem q1764 : (Jvm.Cond.soleField "WebHostModel$Connection" "state") ∈ lw_all := lw_g (lw_at lw_m7 168 rfl) rfl
theorem q1765 : (Jvm.Cond.lays "WebHostModel$Connection" "WebHostModel$Connection" "number" "I") ∈ lw_all := lw_g (lw_at lw_m7 169 rfl) rfl
theorem q1766 : (Jvm.Cond.soleField "WebHostModel$Connection" "number") ∈ lw_all := lw_g (lw_at lw_m7 170 rfl) rfl
theorem q1767 : (Jvm.Cond.lays "WebHostModel$Connection" "WebHostModel$Connection" "port" "I") ∈ lw_all := lw_g (lw_at lw_m7 171 rfl) rfl
theorem q1768 : (Jvm.Cond.soleField "WebHostModel$Connection" "port") ∈ lw_all := lw_g (lw_at lw_m7 172 rfl) rfl
theorem q1769 : (Jvm.Cond.lays "WebHostModel$Connection" "WebHostModel$Connection" "iss" "I") ∈ lw_all := lw_g (lw_at lw_m7 173 rfl) rfl
theorem q1770 : (Jvm.Cond.soleField "WebHostModel$Connection" "iss") ∈ lw_all := lw_g (lw_at lw_m7 174 rfl) rfl
theorem q1771 : (Jvm.Cond.lays "WebHostModel$Connection" "WebHostModel$Connection" "una" "I") ∈ lw_all := lw_g (lw_at lw_m7 175 rfl) rfl
theorem q1772 : (Jvm.Cond.soleField "WebHostModel$Connection" "una") ∈ lw_all := lw_g (lw_at lw_m7 176 rfl) rfl
theorem q1773 : (Jvm.Cond.lays "WebHostModel$Connection" "WebHostModel$Connection" "at" "I") ∈ lw_all := lw_g (lw_at lw_m7 177 rfl) rfl
theorem q1774 : (Jvm.Cond.soleField "WebHostModel$Connection" "at") ∈ lw_all := lw_g (lw_at lw_m7 178 rfl) rfl
theorem q1775 : (Jvm.Cond.lays "WebHostModel$Connection" "WebHostModel$Connection" "max" "I") ∈ lw_all := lw_g (lw_at lw_m7 179 rfl) rfl
theorem q1776 : (Jvm.Cond.soleField "WebHostModel$Connection" "max") ∈ lw_all := lw_g (lw_at lw_m7 180 rfl) rfl
theorem q1777 : (Jvm.Cond.lays "WebHostModel$Connection" "WebHostModel$Connection" "window" "I") ∈ lw_all := lw_g (lw_at lw_m7 181 rfl) rfl
theorem q1778 : (Jvm.Cond.soleField "WebHostModel$Connection" "window") ∈ lw_all := lw_g (lw_at lw_m7 182 rfl) rfl
theorem q1779 : (Jvm.Cond.lays "WebHostModel$Connection" "WebHostModel$Connection" "wl1" "I") ∈ lw_all := lw_g (lw_at lw_m7 183 rfl) rfl
theorem q1780 : (Jvm.Cond.soleField "WebHostModel$Connection" "wl1") ∈ lw_all := lw_g (lw_at lw_m7 184 rfl) rfl
theorem q1781 : (Jvm.Cond.lays "WebHostModel$Connection" "WebHostModel$Connection" "wl2" "I") ∈ lw_all := lw_g (lw_at lw_m7 185 rfl) rfl
theorem q1782 : (Jvm.Cond.soleField "WebHostModel$Connection" "wl2") ∈ lw_all := lw_g (lw_at lw_m7 186 rfl) rfl
theorem q1783 : (Jvm.Cond.lays "WebHostModel$Connection" "WebHostModel$Connection" "mss" "I") ∈ lw_all := lw_g (lw_at lw_m7 187 rfl) rfl
theorem q1784 : (Jvm.Cond.soleField "WebHostModel$Connection" "mss") ∈ lw_all := lw_g (lw_at lw_m7 188 rfl) rfl
theorem q1785 : (Jvm.Cond.lays "WebHostModel$Connection" "WebHostModel$Connection" "cwnd" "I") ∈ lw_all := lw_g (lw_at lw_m7 189 rfl) rfl
theorem q1786 : (Jvm.Cond.soleField "WebHostModel$Connection" "cwnd") ∈ lw_all := lw_g (lw_at lw_m7 190 rfl) rfl
theorem q1787 : (Jvm.Cond.lays "WebHostModel$Connection" "WebHostModel$Connection" "ssthresh" "I") ∈ lw_all := lw_g (lw_at lw_m7 191 rfl) rfl
theorem q1788 : (Jvm.Cond.soleField "WebHostModel$Connection" "ssthresh") ∈ lw_all := lw_g (lw_at lw_m7 192 rfl) rfl
theorem q1789 : (Jvm.Cond.lays "WebHostModel$Connection" "WebHostModel$Connection" "rto" "I") ∈ lw_all := lw_g (lw_at lw_m7 193 rfl) rfl
theorem q1790 : (Jvm.Cond.soleField "WebHostModel$Connection" "rto") ∈ lw_all := lw_g (lw_at lw_m7 194 rfl) rfl
theorem q1791 : (Jvm.Cond.lays "WebHostModel$Connection" "WebHostModel$Connection" "srtt" "I") ∈ lw_all := lw_g (lw_at lw_m7 195 rfl) rfl
theorem q1792 : (Jvm.Cond.soleField "WebHostModel$Connection" "srtt") ∈ lw_all := lw_g (lw_at lw_m7 196 rfl) rfl
theorem q1793 : (Jvm.Cond.lays "WebHostModel$Connection" "WebHostModel$Connection" "var" "I") ∈ lw_all := lw_g (lw_at lw_m7 197 rfl) rfl
theorem q1794 : (Jvm.Cond.soleField "WebHostModel$Connection" "var") ∈ lw_all := lw_g (lw_at lw_m7 198 rfl) rfl
theorem q1795 : (Jvm.Cond.lays "WebHostModel$Connection" "WebHostModel$Connection" "measured" "Z") ∈ lw_all := lw_g (lw_at lw_m7 199 rfl) rfl
theorem q1796 : (Jvm.Cond.soleField "WebHostModel$Connection" "measured") ∈ lw_all := lw_g (lw_at lw_m7 200 rfl) rfl
theorem q1797 : (Jvm.Cond.lays "WebHostModel$Connection" "WebHostModel$Connection" "timing" "Z") ∈ lw_all := lw_g (lw_at lw_m7 201 rfl) rfl
theorem q1798 : (Jvm.Cond.soleField "WebHostModel$Connection" "timing") ∈ lw_all := lw_g (lw_at lw_m7 202 rfl) rfl
theorem q1799 : (Jvm.Cond.lays "WebHostModel$Connection" "WebHostModel$Connection" "recovery" "Z") ∈ lw_all := lw_g (lw_at lw_m7 203 rfl) rfl
theorem q1800 : (Jvm.Cond.soleField "WebHostModel$Connection" "recovery") ∈ lw_all := lw_g (lw_at lw_m7 204 rfl) rfl
theorem q1801 : (Jvm.Cond.lays "WebHostModel$Connection" "WebHostModel$Connection" "timedNumber" "I") ∈ lw_all := lw_g (lw_at lw_m7 205 rfl) rfl
theorem q1802 : (Jvm.Cond.soleField "WebHostModel$Connection" "timedNumber") ∈ lw_all := lw_g (lw_at lw_m7 206 rfl) rfl
theorem q1803 : (Jvm.Cond.lays "WebHostModel$Connection" "WebHostModel$Connection" "timedAt" "I") ∈ lw_all := lw_g (lw_at lw_m7 207 rfl) rfl
theorem q1804 : (Jvm.Cond.soleField "WebHostModel$Connection" "timedAt") ∈ lw_all := lw_g (lw_at lw_m7 208 rfl) rfl
theorem q1805 : (Jvm.Cond.lays "WebHostModel$Connection" "WebHostModel$Connection" "timerOn" "Z") ∈ lw_all := lw_g (lw_at lw_m7 209 rfl) rfl
theorem q1806 : (Jvm.Cond.soleField "WebHostModel$Connection" "timerOn") ∈ lw_all := lw_g (lw_at lw_m7 210 rfl) rfl
theorem q1807 : (Jvm.Cond.lays "WebHostModel$Connection" "WebHostModel$Connection" "timer" "I") ∈ lw_all := lw_g (lw_at lw_m7 211 rfl) rfl
theorem q1808 : (Jvm.Cond.soleField "WebHostModel$Connection" "timer") ∈ lw_all := lw_g (lw_at lw_m7 212 rfl) rfl
theorem q1809 : (Jvm.Cond.lays "WebHostModel$Connection" "WebHostModel$Connection" "tries" "I") ∈ lw_all := lw_g (lw_at lw_m7 213 rfl) rfl
theorem q1810 : (Jvm.Cond.soleField "WebHostModel$Connection" "tries") ∈ lw_all := lw_g (lw_at lw_m7 214 rfl) rfl
theorem q1811 : (Jvm.Cond.lays "WebHostModel$Connection" "WebHostModel$Connection" "duplicates" "I") ∈ lw_all := lw_g (lw_at lw_m7 215 rfl) rfl
theorem q1812 : (Jvm.Cond.soleField "WebHostModel$Connection" "duplicates") ∈ lw_all := lw_g (lw_at lw_m7 216 rfl) rfl
theorem q1813 : (Jvm.Cond.laysFinal "WebHostModel$Connection" "WebHostModel$Connection" "head" "[B") ∈ lw_all := lw_g (lw_at lw_m7 217 rfl) rfl
theorem q1814 : (Jvm.Cond.soleField "WebHostModel$Connection" "head") ∈ lw_all := lw_g (lw_at lw_m7 218 rfl) rfl
theorem q1815 : (Jvm.Cond.lays "WebHostModel$Connection" "WebHostModel$Connection" "headLength" "I") ∈ lw_all := lw_g (lw_at lw_m7 219 rfl) rfl
theorem q1816 : (Jvm.Cond.soleField "WebHostModel$Connection" "headLength") ∈ lw_all := lw_g (lw_at lw_m7 220 rfl) rfl
theorem q1817 : (Jvm.Cond.lays "WebHostModel$Connection" "WebHostModel$Connection" "bodyPlace" "I") ∈ lw_all := lw_g (lw_at lw_m7 221 rfl) rfl
theorem q1818 : (Jvm.Cond.soleField "WebHostModel$Connection" "bodyPlace") ∈ lw_all := lw_g (lw_at lw_m7 222 rfl) rfl
theorem q1819 : (Jvm.Cond.lays "WebHostModel$Connection" "WebHostModel$Connection" "bodyLength" "I") ∈ lw_all := lw_g (lw_at lw_m7 223 rfl) rfl
theorem q1820 : (Jvm.Cond.soleField "WebHostModel$Connection" "bodyLength") ∈ lw_all := lw_g (lw_at lw_m7 224 rfl) rfl
theorem q1821 : (Jvm.Cond.lays "WebHostModel$Connection" "WebHostModel$Connection" "begin" "I") ∈ lw_all := lw_g (lw_at lw_m7 225 rfl) rfl
theorem q1822 : (Jvm.Cond.soleField "WebHostModel$Connection" "begin") ∈ lw_all := lw_g (lw_at lw_m7 226 rfl) rfl
theorem q1823 : (Jvm.Cond.lays "WebHostModel$Connection" "WebHostModel$Connection" "closing" "Z") ∈ lw_all := lw_g (lw_at lw_m7 227 rfl) rfl
theorem q1824 : (Jvm.Cond.soleField "WebHostModel$Connection" "closing") ∈ lw_all := lw_g (lw_at lw_m7 228 rfl) rfl
theorem q1825 : (Jvm.Cond.lays "WebHostModel$Connection" "WebHostModel$Connection" "finished" "Z") ∈ lw_all := lw_g (lw_at lw_m7 229 rfl) rfl
theorem q1826 : (Jvm.Cond.soleField "WebHostModel$Connection" "finished") ∈ lw_all := lw_g (lw_at lw_m7 230 rfl) rfl
theorem q1827 : (Jvm.Cond.laysFinal "WebHostModel$Connection" "WebHostModel$Connection" "row" "[B") ∈ lw_all := lw_g (lw_at lw_m7 231 rfl) rfl
theorem q1828 : (Jvm.Cond.soleField "WebHostModel$Connection" "row") ∈ lw_all := lw_g (lw_at lw_m7 232 rfl) rfl
theorem q1829 : (Jvm.Cond.laysFinal "WebHostModel$Connection" "WebHostModel$Connection" "there" "[Z") ∈ lw_all := lw_g (lw_at lw_m7 233 rfl) rfl
theorem q1830 : (Jvm.Cond.soleField "WebHostModel$Connection" "there") ∈ lw_all := lw_g (lw_at lw_m7 234 rfl) rfl
theorem q1831 : (Jvm.Cond.lays "WebHostModel$Connection" "WebHostModel$Connection" "irs" "I") ∈ lw_all := lw_g (lw_at lw_m7 235 rfl) rfl
theorem q1832 : (Jvm.Cond.soleField "WebHostModel$Connection" "irs") ∈ lw_all := lw_g (lw_at lw_m7 236 rfl) rfl
theorem q1833 : (Jvm.Cond.lays "WebHostModel$Connection" "WebHostModel$Connection" "read" "I") ∈ lw_all := lw_g (lw_at lw_m7 237 rfl) rfl
theorem q1834 : (Jvm.Cond.soleField "WebHostModel$Connection" "read") ∈ lw_all := lw_g (lw_at lw_m7 238 rfl) rfl
theorem q1835 : (Jvm.Cond.lays "WebHostModel$Connection" "WebHostModel$Connection" "next" "I") ∈ lw_all := lw_g (lw_at lw_m7 239 rfl) rfl
theorem q1836 : (Jvm.Cond.soleField "WebHostModel$Connection" "next") ∈ lw_all := lw_g (lw_at lw_m8 0 rfl) rfl
theorem q1837 : (Jvm.Cond.lays "WebHostModel$Connection" "WebHostModel$Connection" "told" "I") ∈ lw_all := lw_g (lw_at lw_m8 1 rfl) rfl
theorem q1838 : (Jvm.Cond.soleField "WebHostModel$Connection" "told") ∈ lw_all := lw_g (lw_at lw_m8 2 rfl) rfl
theorem q1839 : (Jvm.Cond.lays "WebHostModel$Connection" "WebHostModel$Connection" "leave" "I") ∈ lw_all := lw_g (lw_at lw_m8 3 rfl) rfl
theorem q1840 : (Jvm.Cond.soleField "WebHostModel$Connection" "leave") ∈ lw_all := lw_g (lw_at lw_m8 4 rfl) rfl
theorem q1841 : (Jvm.Cond.lays "WebHostModel$Connection" "WebHostModel$Connection" "owed" "Z") ∈ lw_all := lw_g (lw_at lw_m8 5 rfl) rfl
theorem q1842 : (Jvm.Cond.soleField "WebHostModel$Connection" "owed") ∈ lw_all := lw_g (lw_at lw_m8 6 rfl) rfl
theorem q1843 : (Jvm.Cond.lays "WebHostModel$Connection" "WebHostModel$Connection" "finKnown" "Z") ∈ lw_all := lw_g (lw_at lw_m8 7 rfl) rfl
theorem q1844 : (Jvm.Cond.soleField "WebHostModel$Connection" "finKnown") ∈ lw_all := lw_g (lw_at lw_m8 8 rfl) rfl
theorem q1845 : (Jvm.Cond.lays "WebHostModel$Connection" "WebHostModel$Connection" "finTaken" "Z") ∈ lw_all := lw_g (lw_at lw_m8 9 rfl) rfl
theorem q1846 : (Jvm.Cond.soleField "WebHostModel$Connection" "finTaken") ∈ lw_all := lw_g (lw_at lw_m8 10 rfl) rfl
theorem q1847 : (Jvm.Cond.lays "WebHostModel$Connection" "WebHostModel$Connection" "finNumber" "I") ∈ lw_all := lw_g (lw_at lw_m8 11 rfl) rfl
theorem q1848 : (Jvm.Cond.soleField "WebHostModel$Connection" "finNumber") ∈ lw_all := lw_g (lw_at lw_m8 12 rfl) rfl
theorem q1849 : (Jvm.Cond.lays "WebHostModel$Connection" "WebHostModel$Connection" "established" "I") ∈ lw_all := lw_g (lw_at lw_m8 13 rfl) rfl
theorem q1850 : (Jvm.Cond.soleField "WebHostModel$Connection" "established") ∈ lw_all := lw_g (lw_at lw_m8 14 rfl) rfl
theorem q1851 : (Jvm.Cond.lays "WebHostModel$Connection" "WebHostModel$Connection" "latest" "I") ∈ lw_all := lw_g (lw_at lw_m8 15 rfl) rfl
theorem q1852 : (Jvm.Cond.soleField "WebHostModel$Connection" "latest") ∈ lw_all := lw_g (lw_at lw_m8 16 rfl) rfl
theorem q1853 : (Jvm.Cond.lays "WebHostModel$Connection" "WebHostModel$Connection" "since" "I") ∈ lw_all := lw_g (lw_at lw_m8 17 rfl) rfl
theorem q1854 : (Jvm.Cond.soleField "WebHostModel$Connection" "since") ∈ lw_all := lw_g (lw_at lw_m8 18 rfl) rfl
theorem q1855 : (Jvm.Cond.superclass "WebHostModel$Connection" "java/lang/Object") ∈ lw_all := lw_g (lw_at lw_m8 19 rfl) rfl
theorem q1856 : (Jvm.Cond.instantiable "WebHostModel$Entry" (5 : Nat)) ∈ lw_all := lw_g (lw_at lw_m8 20 rfl) rfl
theorem q1857 : (Jvm.Cond.methodLinkNest "WebHostModel" (81 : Nat) ({ cls := "WebHostModel$Entry", name := "<init>", desc := "()V" } : Jvm.MethodName) "WebHostModel") ∈ lw_tbl := lw_at lw_m8 21 rfl
theorem q1858 : (Jvm.Cond.instanceMethod ({ cls := "WebHostModel$Entry", name := "<init>", desc := "()V" } : Jvm.MethodName)) ∈ lw_all := lw_g (lw_at lw_m8 22 rfl) rfl
theorem q1859 : (Jvm.Cond.code ({ cls := "WebHostModel$Entry", name := "<init>", desc := "()V" } : Jvm.MethodName) prog_20_method_1_code (1 : Nat) (Option.none : Option Jvm.ClassFile.FieldType)) ∈ lw_all := lw_g (lw_at lw_m8 23 rfl) rfl
theorem q1860 : (Jvm.Cond.methodLink "WebHostModel$Entry" (1 : Nat) ({ cls := "java/lang/Object", name := "<init>", desc := "()V" } : Jvm.MethodName)) ∈ lw_all := lw_g (lw_at lw_m8 24 rfl) rfl
theorem q1861 : (Jvm.Cond.fieldLink "WebHostModel" (155 : Nat) "WebHostModel$Entry" "used" "Z") ∈ lw_all := lw_g (lw_at lw_m8 25 rfl) rfl
theorem q1862 : (Jvm.Cond.fieldLink "WebHostModel" (171 : Nat) "WebHostModel$Entry" "number" "I") ∈ lw_all := lw_g (lw_at lw_m8 26 rfl) rfl
theorem q1863 : (Jvm.Cond.fieldLink "WebHostModel" (185 : Nat) "WebHostModel$Entry" "high" "I") ∈ lw_all := lw_g (lw_at lw_m8 27 rfl) rfl
theorem q1864 : (Jvm.Cond.fieldLink "WebHostModel" (186 : Nat) "WebHostModel$Entry" "low" "I") ∈ lw_all := lw_g (lw_at lw_m8 28 rfl) rfl
theorem q1865 : (Jvm.Cond.fieldLink "WebHostModel" (178 : Nat) "WebHostModel$Entry" "time" "I") ∈ lw_all := lw_g (lw_at lw_m8 29 rfl) rfl
theorem q1866 : (Jvm.Cond.lays "WebHostModel$Entry" "WebHostModel$Entry" "used" "Z") ∈ lw_all := lw_g (lw_at lw_m8 30 rfl) rfl
theorem q1867 : (Jvm.Cond.soleField "WebHostModel$Entry" "used") ∈ lw_all := lw_g (lw_at lw_m8 31 rfl) rfl
theorem q1868 : (Jvm.Cond.lays "WebHostModel$Entry" "WebHostModel$Entry" "number" "I") ∈ lw_all := lw_g (lw_at lw_m8 32 rfl) rfl
theorem q1869 : (Jvm.Cond.soleField "WebHostModel$Entry" "number") ∈ lw_all := lw_g (lw_at lw_m8 33 rfl) rfl
theorem q1870 : (Jvm.Cond.lays "WebHostModel$Entry" "WebHostModel$Entry" "high" "I") ∈ lw_all := lw_g (lw_at lw_m8 34 rfl) rfl
theorem q1871 : (Jvm.Cond.soleField "WebHostModel$Entry" "high") ∈ lw_all := lw_g (lw_at lw_m8 35 rfl) rfl
theorem q1872 : (Jvm.Cond.lays "WebHostModel$Entry" "WebHostModel$Entry" "low" "I") ∈ lw_all := lw_g (lw_at lw_m8 36 rfl) rfl
theorem q1873 : (Jvm.Cond.soleField "WebHostModel$Entry" "low") ∈ lw_all := lw_g (lw_at lw_m8 37 rfl) rfl
theorem q1874 : (Jvm.Cond.lays "WebHostModel$Entry" "WebHostModel$Entry" "time" "I") ∈ lw_all := lw_g (lw_at lw_m8 38 rfl) rfl
theorem q1875 : (Jvm.Cond.soleField "WebHostModel$Entry" "time") ∈ lw_all := lw_g (lw_at lw_m8 39 rfl) rfl
theorem q1876 : (Jvm.Cond.superclass "WebHostModel$Entry" "java/lang/Object") ∈ lw_all := lw_g (lw_at lw_m8 40 rfl) rfl
theorem q1877 : (Jvm.Cond.instantiable "WebHostModel$Packet" (7 : Nat)) ∈ lw_all := lw_g (lw_at lw_m8 41 rfl) rfl
theorem q1878 : (Jvm.Cond.methodLinkNest "WebHostModel" (82 : Nat) ({ cls := "WebHostModel$Packet", name := "<init>", desc := "()V" } : Jvm.MethodName) "WebHostModel") ∈ lw_tbl := lw_at lw_m8 42 rfl
theorem q1879 : (Jvm.Cond.instanceMethod ({ cls := "WebHostModel$Packet", name := "<init>", desc := "()V" } : Jvm.MethodName)) ∈ lw_all := lw_g (lw_at lw_m8 43 rfl) rfl
theorem q1880 : (Jvm.Cond.code ({ cls := "WebHostModel$Packet", name := "<init>", desc := "()V" } : Jvm.MethodName) prog_21_method_1_code (1 : Nat) (Option.none : Option Jvm.ClassFile.FieldType)) ∈ lw_all := lw_g (lw_at lw_m8 44 rfl) rfl
theorem q1881 : (Jvm.Cond.methodLink "WebHostModel$Packet" (1 : Nat) ({ cls := "java/lang/Object", name := "<init>", desc := "()V" } : Jvm.MethodName)) ∈ lw_all := lw_g (lw_at lw_m8 45 rfl) rfl
theorem q1882 : (Jvm.Cond.fieldLink "WebHostModel" (158 : Nat) "WebHostModel$Packet" "used" "Z") ∈ lw_all := lw_g (lw_at lw_m8 46 rfl) rfl
theorem q1883 : (Jvm.Cond.fieldLink "WebHostModel" (182 : Nat) "WebHostModel$Packet" "hop" "I") ∈ lw_all := lw_g (lw_at lw_m8 47 rfl) rfl
theorem q1884 : (Jvm.Cond.fieldLink "WebHostModel" (191 : Nat) "WebHostModel$Packet" "length" "I") ∈ lw_all := lw_g (lw_at lw_m8 48 rfl) rfl
theorem q1885 : (Jvm.Cond.fieldLink "WebHostModel" (230 : Nat) "WebHostModel$Packet" "asked" "I") ∈ lw_all := lw_g (lw_at lw_m8 49 rfl) rfl
theorem q1886 : (Jvm.Cond.fieldLink "WebHostModel" (233 : Nat) "WebHostModel$Packet" "asks" "I") ∈ lw_all := lw_g (lw_at lw_m8 50 rfl) rfl
theorem q1887 : (Jvm.Cond.fieldLink "WebHostModel" (236 : Nat) "WebHostModel$Packet" "order" "I") ∈ lw_all := lw_g (lw_at lw_m8 51 rfl) rfl
theorem q1888 : (Jvm.Cond.fieldLink "WebHostModel$Packet" (7 : Nat) "WebHostModel$Packet" "bytes" "[B") ∈ lw_all := lw_g (lw_at lw_m8 52 rfl) rfl
theorem q1889 : (Jvm.Cond.fieldLink "WebHostModel" (194 : Nat) "WebHostModel$Packet" "bytes" "[B") ∈ lw_all := lw_g (lw_at lw_m8 53 rfl) rfl
theorem q1890 : (Jvm.Cond.lays "WebHostModel$Packet" "WebHostModel$Packet" "used" "Z") ∈ lw_all := lw_g (lw_at lw_m8 54 rfl) rfl
theorem q1891 : (Jvm.Cond.soleField "WebHostModel$Packet" "used") ∈ lw_all := lw_g (lw_at lw_m8 55 rfl) rfl
theorem q1892 : (Jvm.Cond.lays "WebHostModel$Packet" "WebHostModel$Packet" "hop" "I") ∈ lw_all := lw_g (lw_at lw_m8 56 rfl) rfl
theorem q1893 : (Jvm.Cond.soleField "WebHostModel$Packet" "hop") ∈ lw_all := lw_g (lw_at lw_m8 57 rfl) rfl
theorem q1894 : (Jvm.Cond.lays "WebHostModel$Packet" "WebHostModel$Packet" "length" "I") ∈ lw_all := lw_g (lw_at lw_m8 58 rfl) rfl
theorem q1895 : (Jvm.Cond.soleField "WebHostModel$Packet" "length") ∈ lw_all := lw_g (lw_at lw_m8 59 rfl) rfl
theorem q1896 : (Jvm.Cond.lays "WebHostModel$Packet" "WebHostModel$Packet" "asked" "I") ∈ lw_all := lw_g (lw_at lw_m8 60 rfl) rfl
theorem q1897 : (Jvm.Cond.soleField "WebHostModel$Packet" "asked") ∈ lw_all := lw_g (lw_at lw_m8 61 rfl) rfl
theorem q1898 : (Jvm.Cond.lays "WebHostModel$Packet" "WebHostModel$Packet" "asks" "I") ∈ lw_all := lw_g (lw_at lw_m8 62 rfl) rfl
theorem q1899 : (Jvm.Cond.soleField "WebHostModel$Packet" "asks") ∈ lw_all := lw_g (lw_at lw_m8 63 rfl) rfl
theorem q1900 : (Jvm.Cond.lays "WebHostModel$Packet" "WebHostModel$Packet" "order" "I") ∈ lw_all := lw_g (lw_at lw_m8 64 rfl) rfl
theorem q1901 : (Jvm.Cond.soleField "WebHostModel$Packet" "order") ∈ lw_all := lw_g (lw_at lw_m8 65 rfl) rfl
theorem q1902 : (Jvm.Cond.laysFinal "WebHostModel$Packet" "WebHostModel$Packet" "bytes" "[B") ∈ lw_all := lw_g (lw_at lw_m8 66 rfl) rfl
theorem q1903 : (Jvm.Cond.soleField "WebHostModel$Packet" "bytes") ∈ lw_all := lw_g (lw_at lw_m8 67 rfl) rfl
theorem q1904 : (Jvm.Cond.superclass "WebHostModel$Packet" "java/lang/Object") ∈ lw_all := lw_g (lw_at lw_m8 68 rfl) rfl
theorem q1905 : (Jvm.Cond.instantiable "WebHostModel$Datagram" (9 : Nat)) ∈ lw_all := lw_g (lw_at lw_m8 69 rfl) rfl
theorem q1906 : (Jvm.Cond.methodLinkNest "WebHostModel" (83 : Nat) ({ cls := "WebHostModel$Datagram", name := "<init>", desc := "()V" } : Jvm.MethodName) "WebHostModel") ∈ lw_tbl := lw_at lw_m8 70 rfl
theorem q1907 : (Jvm.Cond.instanceMethod ({ cls := "WebHostModel$Datagram", name := "<init>", desc := "()V" } : Jvm.MethodName)) ∈ lw_all := lw_g (lw_at lw_m8 71 rfl) rfl
theorem q1908 : (Jvm.Cond.code ({ cls := "WebHostModel$Datagram", name := "<init>", desc := "()V" } : Jvm.MethodName) prog_19_method_1_code (1 : Nat) (Option.none : Option Jvm.ClassFile.FieldType)) ∈ lw_all := lw_g (lw_at lw_m8 72 rfl) rfl
theorem q1909 : (Jvm.Cond.methodLink "WebHostModel$Datagram" (1 : Nat) ({ cls := "java/lang/Object", name := "<init>", desc := "()V" } : Jvm.MethodName)) ∈ lw_all := lw_g (lw_at lw_m8 73 rfl) rfl
theorem q1910 : (Jvm.Cond.fieldLink "WebHostModel" (159 : Nat) "WebHostModel$Datagram" "used" "Z") ∈ lw_all := lw_g (lw_at lw_m8 74 rfl) rfl
theorem q1911 : (Jvm.Cond.fieldLink "WebHostModel" (251 : Nat) "WebHostModel$Datagram" "sender" "I") ∈ lw_all := lw_g (lw_at lw_m8 75 rfl) rfl
theorem q1912 : (Jvm.Cond.fieldLink "WebHostModel" (252 : Nat) "WebHostModel$Datagram" "identification" "I") ∈ lw_all := lw_g (lw_at lw_m8 76 rfl) rfl
theorem q1913 : (Jvm.Cond.fieldLink "WebHostModel" (253 : Nat) "WebHostModel$Datagram" "protocol" "I") ∈ lw_all := lw_g (lw_at lw_m8 77 rfl) rfl
theorem q1914 : (Jvm.Cond.fieldLink "WebHostModel" (256 : Nat) "WebHostModel$Datagram" "end" "I") ∈ lw_all := lw_g (lw_at lw_m8 78 rfl) rfl
theorem q1915 : (Jvm.Cond.fieldLink "WebHostModel" (259 : Nat) "WebHostModel$Datagram" "begun" "I") ∈ lw_all := lw_g (lw_at lw_m8 79 rfl) rfl
theorem q1916 : (Jvm.Cond.fieldLink "WebHostModel" (262 : Nat) "WebHostModel$Datagram" "order" "I") ∈ lw_all := lw_g (lw_at lw_m8 80 rfl) rfl
theorem q1917 : (Jvm.Cond.fieldLink "WebHostModel$Datagram" (7 : Nat) "WebHostModel$Datagram" "bytes" "[B") ∈ lw_all := lw_g (lw_at lw_m8 81 rfl) rfl
theorem q1918 : (Jvm.Cond.fieldLink "WebHostModel" (267 : Nat) "WebHostModel$Datagram" "bytes" "[B") ∈ lw_all := lw_g (lw_at lw_m8 82 rfl) rfl
theorem q1919 : (Jvm.Cond.fieldLink "WebHostModel$Datagram" (13 : Nat) "WebHostModel$Datagram" "there" "[Z") ∈ lw_all := lw_g (lw_at lw_m8 83 rfl) rfl
theorem q1920 : (Jvm.Cond.fieldLink "WebHostModel" (263 : Nat) "WebHostModel$Datagram" "there" "[Z") ∈ lw_all := lw_g (lw_at lw_m8 84 rfl) rfl
theorem q1921 : (Jvm.Cond.lays "WebHostModel$Datagram" "WebHostModel$Datagram" "used" "Z") ∈ lw_all := lw_g (lw_at lw_m8 85 rfl) rfl
theorem q1922 : (Jvm.Cond.soleField "WebHostModel$Datagram" "used") ∈ lw_all := lw_g (lw_at lw_m8 86 rfl) rfl
theorem q1923 : (Jvm.Cond.lays "WebHostModel$Datagram" "WebHostModel$Datagram" "sender" "I") ∈ lw_all := lw_g (lw_at lw_m8 87 rfl) rfl
theorem q1924 : (Jvm.Cond.soleField "WebHostModel$Datagram" "sender") ∈ lw_all := lw_g (lw_at lw_m8 88 rfl) rfl
theorem q1925 : (Jvm.Cond.lays "WebHostModel$Datagram" "WebHostModel$Datagram" "identification" "I") ∈ lw_all := lw_g (lw_at lw_m8 89 rfl) rfl
theorem q1926 : (Jvm.Cond.soleField "WebHostModel$Datagram" "identification") ∈ lw_all := lw_g (lw_at lw_m8 90 rfl) rfl
theorem q1927 : (Jvm.Cond.lays "WebHostModel$Datagram" "WebHostModel$Datagram" "protocol" "I") ∈ lw_all := lw_g (lw_at lw_m8 91 rfl) rfl
theorem q1928 : (Jvm.Cond.soleField "WebHostModel$Datagram" "protocol") ∈ lw_all := lw_g (lw_at lw_m8 92 rfl) rfl
theorem q1929 : (Jvm.Cond.lays "WebHostModel$Datagram" "WebHostModel$Datagram" "end" "I") ∈ lw_all := lw_g (lw_at lw_m8 93 rfl) rfl
theorem q1930 : (Jvm.Cond.soleField "WebHostModel$Datagram" "end") ∈ lw_all := lw_g (lw_at lw_m8 94 rfl) rfl
theorem q1931 : (Jvm.Cond.lays "WebHostModel$Datagram" "WebHostModel$Datagram" "begun" "I") ∈ lw_all := lw_g (lw_at lw_m8 95 rfl) rfl
theorem q1932 : (Jvm.Cond.soleField "WebHostModel$Datagram" "begun") ∈ lw_all := lw_g (lw_at lw_m8 96 rfl) rfl
theorem q1933 : (Jvm.Cond.lays "WebHostModel$Datagram" "WebHostModel$Datagram" "order" "I") ∈ lw_all := lw_g (lw_at lw_m8 97 rfl) rfl
theorem q1934 : (Jvm.Cond.soleField "WebHostModel$Datagram" "order") ∈ lw_all := lw_g (lw_at lw_m8 98 rfl) rfl
theorem q1935 : (Jvm.Cond.laysFinal "WebHostModel$Datagram" "WebHostModel$Datagram" "bytes" "[B") ∈ lw_all := lw_g (lw_at lw_m8 99 rfl) rfl
theorem q1936 : (Jvm.Cond.soleField "WebHostModel$Datagram" "bytes") ∈ lw_all := lw_g (lw_at lw_m8 100 rfl) rfl
theorem q1937 : (Jvm.Cond.laysFinal "WebHostModel$Datagram" "WebHostModel$Datagram" "there" "[Z") ∈ lw_all := lw_g (lw_at lw_m8 101 rfl) rfl
theorem q1938 : (Jvm.Cond.soleField "WebHostModel$Datagram" "there") ∈ lw_all := lw_g (lw_at lw_m8 102 rfl) rfl
theorem q1939 : (Jvm.Cond.superclass "WebHostModel$Datagram" "java/lang/Object") ∈ lw_all := lw_g (lw_at lw_m8 103 rfl) rfl
theorem q1940 : (Jvm.Cond.fieldLink "WebHostModel" (10 : Nat) "WebHostModel" "tray" "[B") ∈ lw_all := lw_g (lw_at lw_m8 104 rfl) rfl
theorem q1941 : (Jvm.Cond.fieldLink "WebHostModel" (84 : Nat) "WebHostModel" "trayed" "I") ∈ lw_all := lw_g (lw_at lw_m8 105 rfl) rfl
theorem q1942 : (Jvm.Cond.fieldLink "WebHostModel" (15 : Nat) "WebHostModel" "image" "[B") ∈ lw_all := lw_g (lw_at lw_m8 106 rfl) rfl
theorem q1943 : (Jvm.Cond.fieldLink "WebHostModel" (92 : Nat) "WebHostModel" "imageSize" "I") ∈ lw_all := lw_g (lw_at lw_m8 107 rfl) rfl
theorem q1944 : (Jvm.Cond.fieldLink "WebHostModel" (95 : Nat) "WebHostModel" "booted" "Z") ∈ lw_all := lw_g (lw_at lw_m8 108 rfl) rfl
theorem q1945 : (Jvm.Cond.fieldLink "WebHostModel" (119 : Nat) "WebHostModel" "ip" "I") ∈ lw_all := lw_g (lw_at lw_m8 109 rfl) rfl
theorem q1946 : (Jvm.Cond.fieldLink "WebHostModel" (108 : Nat) "WebHostModel" "bits" "I") ∈ lw_all := lw_g (lw_at lw_m8 110 rfl) rfl
theorem q1947 : (Jvm.Cond.fieldLink "WebHostModel" (122 : Nat) "WebHostModel" "gateway" "I") ∈ lw_all := lw_g (lw_at lw_m8 111 rfl) rfl
theorem q1948 : (Jvm.Cond.fieldLink "WebHostModel" (125 : Nat) "WebHostModel" "high" "I") ∈ lw_all := lw_g (lw_at lw_m8 112 rfl) rfl
theorem q1949 : (Jvm.Cond.fieldLink "WebHostModel" (128 : Nat) "WebHostModel" "low" "I") ∈ lw_all := lw_g (lw_at lw_m8 113 rfl) rfl
theorem q1950 : (Jvm.Cond.fieldLink "WebHostModel" (134 : Nat) "WebHostModel" "now" "I") ∈ lw_all := lw_g (lw_at lw_m8 114 rfl) rfl
theorem q1951 : (Jvm.Cond.fieldLink "WebHostModel" (131 : Nat) "WebHostModel" "fileCount" "I") ∈ lw_all := lw_g (lw_at lw_m8 115 rfl) rfl
theorem q1952 : (Jvm.Cond.fieldLink "WebHostModel" (143 : Nat) "WebHostModel" "began" "I") ∈ lw_all := lw_g (lw_at lw_m8 116 rfl) rfl
theorem q1953 : (Jvm.Cond.fieldLink "WebHostModel" (18 : Nat) "WebHostModel" "names" "[B") ∈ lw_all := lw_g (lw_at lw_m8 117 rfl) rfl
theorem q1954 : (Jvm.Cond.fieldLink "WebHostModel" (21 : Nat) "WebHostModel" "filePlaces" "[I") ∈ lw_all := lw_g (lw_at lw_m8 118 rfl) rfl
theorem q1955 : (Jvm.Cond.fieldLink "WebHostModel" (25 : Nat) "WebHostModel" "fileLengths" "[I") ∈ lw_all := lw_g (lw_at lw_m8 119 rfl) rfl
theorem q1956 : (Jvm.Cond.fieldLink "WebHostModel" (28 : Nat) "WebHostModel" "fileChecks" "[I") ∈ lw_all := lw_g (lw_at lw_m8 120 rfl) rfl
theorem q1957 : (Jvm.Cond.fieldLink "WebHostModel" (31 : Nat) "WebHostModel" "counts" "[I") ∈ lw_all := lw_g (lw_at lw_m8 121 rfl) rfl
theorem q1958 : (Jvm.Cond.fieldLink "WebHostModel" (146 : Nat) "WebHostModel" "strays" "I") ∈ lw_all := lw_g (lw_at lw_m8 122 rfl) rfl
theorem q1959 : (Jvm.Cond.fieldLink "WebHostModel" (34 : Nat) "WebHostModel" "frame" "[B") ∈ lw_all := lw_g (lw_at lw_m8 123 rfl) rfl
theorem q1960 : (Jvm.Cond.fieldLink "WebHostModel" (38 : Nat) "WebHostModel" "kept" "[B") ∈ lw_all := lw_g (lw_at lw_m8 124 rfl) rfl
theorem q1961 : (Jvm.Cond.fieldLink "WebHostModel" (41 : Nat) "WebHostModel" "keptLengths" "[I") ∈ lw_all := lw_g (lw_at lw_m8 125 rfl) rfl
theorem q1962 : (Jvm.Cond.fieldLink "WebHostModel" (44 : Nat) "WebHostModel" "keptTimes" "[I") ∈ lw_all := lw_g (lw_at lw_m8 126 rfl) rfl
theorem q1963 : (Jvm.Cond.fieldLink "WebHostModel" (137 : Nat) "WebHostModel" "sent" "I") ∈ lw_all := lw_g (lw_at lw_m8 127 rfl) rfl
theorem q1964 : (Jvm.Cond.fieldLink "WebHostModel" (140 : Nat) "WebHostModel" "identification" "I") ∈ lw_all := lw_g (lw_at lw_m8 128 rfl) rfl
theorem q1965 : (Jvm.Cond.fieldLink "WebHostModel" (149 : Nat) "WebHostModel" "order" "I") ∈ lw_all := lw_g (lw_at lw_m8 129 rfl) rfl
theorem q1966 : (Jvm.Cond.fieldLink "WebHostModel" (49 : Nat) "WebHostModel" "cache" "[LWebHostModel$Entry;") ∈ lw_all := lw_g (lw_at lw_m8 130 rfl) rfl
theorem q1967 : (Jvm.Cond.fieldLink "WebHostModel" (55 : Nat) "WebHostModel" "packets" "[LWebHostModel$Packet;") ∈ lw_all := lw_g (lw_at lw_m8 131 rfl) rfl
theorem q1968 : (Jvm.Cond.fieldLink "WebHostModel" (61 : Nat) "WebHostModel" "datagrams" "[LWebHostModel$Datagram;") ∈ lw_all := lw_g (lw_at lw_m8 132 rfl) rfl
theorem q1969 : (Jvm.Cond.fieldLink "WebHostModel" (65 : Nat) "WebHostModel" "whole" "[B") ∈ lw_all := lw_g (lw_at lw_m8 133 rfl) rfl
theorem q1970 : (Jvm.Cond.fieldLink "WebHostModel" (240 : Nat) "WebHostModel" "sender" "I") ∈ lw_all := lw_g (lw_at lw_m8 134 rfl) rfl
theorem q1971 : (Jvm.Cond.fieldLink "WebHostModel" (70 : Nat) "WebHostModel" "connections" "[LWebHostModel$Connection;") ∈ lw_all := lw_g (lw_at lw_m8 135 rfl) rfl
theorem q1972 : (Jvm.Cond.fieldLink "WebHostModel" (289 : Nat) "WebHostModel" "fromPort" "I") ∈ lw_all := lw_g (lw_at lw_m8 136 rfl) rfl
theorem q1973 : (Jvm.Cond.fieldLink "WebHostModel" (292 : Nat) "WebHostModel" "toPort" "I") ∈ lw_all := lw_g (lw_at lw_m8 137 rfl) rfl
theorem q1974 : (Jvm.Cond.fieldLink "WebHostModel" (298 : Nat) "WebHostModel" "number" "I") ∈ lw_all := lw_g (lw_at lw_m8 138 rfl) rfl
theorem q1975 : (Jvm.Cond.fieldLink "WebHostModel" (299 : Nat) "WebHostModel" "acknowledged" "I") ∈ lw_all := lw_g (lw_at lw_m8 139 rfl) rfl
theorem q1976 : (Jvm.Cond.fieldLink "WebHostModel" (302 : Nat) "WebHostModel" "flags" "I") ∈ lw_all := lw_g (lw_at lw_m8 140 rfl) rfl
theorem q1977 : (Jvm.Cond.fieldLink "WebHostModel" (305 : Nat) "WebHostModel" "window" "I") ∈ lw_all := lw_g (lw_at lw_m8 141 rfl) rfl
theorem q1978 : (Jvm.Cond.fieldLink "WebHostModel" (308 : Nat) "WebHostModel" "dataAt" "I") ∈ lw_all := lw_g (lw_at lw_m8 142 rfl) rfl
theorem q1979 : (Jvm.Cond.fieldLink "WebHostModel" (311 : Nat) "WebHostModel" "dataLength" "I") ∈ lw_all := lw_g (lw_at lw_m8 143 rfl) rfl
theorem q1980 : (Jvm.Cond.fieldLink "WebHostModel" (282 : Nat) "WebHostModel" "headEnd" "I") ∈ lw_all := lw_g (lw_at lw_m8 144 rfl) rfl
theorem q1981 : (Jvm.Cond.fieldLink "WebHostModel" (74 : Nat) "WebHostModel" "head" "[B") ∈ lw_all := lw_g (lw_at lw_m8 145 rfl) rfl
theorem q1982 : (Jvm.Cond.fieldLink "WebHostModel" (644 : Nat) "WebHostModel" "headLength" "I") ∈ lw_all := lw_g (lw_at lw_m8 146 rfl) rfl
theorem q1983 : (Jvm.Cond.fieldLink "WebHostModel" (637 : Nat) "WebHostModel" "status" "I") ∈ lw_all := lw_g (lw_at lw_m8 147 rfl) rfl
theorem q1984 : (Jvm.Cond.fieldLink "WebHostModel" (634 : Nat) "WebHostModel" "isHead" "Z") ∈ lw_all := lw_g (lw_at lw_m8 148 rfl) rfl
theorem q1985 : (Jvm.Cond.fieldLink "WebHostModel" (645 : Nat) "WebHostModel" "oldVersion" "Z") ∈ lw_all := lw_g (lw_at lw_m8 149 rfl) rfl
theorem q1986 : (Jvm.Cond.fieldLink "WebHostModel" (648 : Nat) "WebHostModel" "close" "Z") ∈ lw_all := lw_g (lw_at lw_m8 150 rfl) rfl
theorem q1987 : (Jvm.Cond.fieldLink "WebHostModel" (651 : Nat) "WebHostModel" "keep" "Z") ∈ lw_all := lw_g (lw_at lw_m8 151 rfl) rfl
theorem q1988 : (Jvm.Cond.fieldLink "WebHostModel" (654 : Nat) "WebHostModel" "hosts" "I") ∈ lw_all := lw_g (lw_at lw_m8 152 rfl) rfl
theorem q1989 : (Jvm.Cond.fieldLink "WebHostModel" (657 : Nat) "WebHostModel" "lengths" "I") ∈ lw_all := lw_g (lw_at lw_m8 153 rfl) rfl
theorem q1990 : (Jvm.Cond.fieldLink "WebHostModel" (660 : Nat) "WebHostModel" "marks" "I") ∈ lw_all := lw_g (lw_at lw_m8 154 rfl) rfl
theorem q1991 : (Jvm.Cond.fieldLink "WebHostModel" (663 : Nat) "WebHostModel" "bodyLeft" "I") ∈ lw_all := lw_g (lw_at lw_m8 155 rfl) rfl
theorem q1992 : (Jvm.Cond.fieldLink "WebHostModel" (666 : Nat) "WebHostModel" "badLength" "Z") ∈ lw_all := lw_g (lw_at lw_m8 156 rfl) rfl
theorem q1993 : (Jvm.Cond.fieldLink "WebHostModel" (669 : Nat) "WebHostModel" "greatLength" "Z") ∈ lw_all := lw_g (lw_at lw_m8 157 rfl) rfl
theorem q1994 : (Jvm.Cond.fieldLink "WebHostModel" (672 : Nat) "WebHostModel" "encoded" "Z") ∈ lw_all := lw_g (lw_at lw_m8 158 rfl) rfl
theorem q1995 : (Jvm.Cond.fieldLink "WebHostModel" (675 : Nat) "WebHostModel" "sameMark" "Z") ∈ lw_all := lw_g (lw_at lw_m8 159 rfl) rfl
theorem q1996 : (Jvm.Cond.fieldLink "WebHostModel" (711 : Nat) "WebHostModel" "targetAt" "I") ∈ lw_all := lw_g (lw_at lw_m8 160 rfl) rfl
theorem q1997 : (Jvm.Cond.fieldLink "WebHostModel" (714 : Nat) "WebHostModel" "targetEnd" "I") ∈ lw_all := lw_g (lw_at lw_m8 161 rfl) rfl
theorem q1998 : (Jvm.Cond.fieldLink "WebHostModel" (77 : Nat) "WebHostModel" "path" "[B") ∈ lw_all := lw_g (lw_at lw_m8 162 rfl) rfl
theorem q1999 : (Jvm.Cond.fieldLink "WebHostModel" (776 : Nat) "WebHostModel" "pathLength" "I") ∈ lw_all := lw_g (lw_at lw_m8 163 rfl) rfl
theorem q2000 : (Jvm.Cond.fieldLink "WebHostModel" (708 : Nat) "WebHostModel" "other" "Z") ∈ lw_all := lw_g (lw_at lw_m8 164 rfl) rfl
theorem q2001 : (Jvm.Cond.fieldLink "WebHostModel" (756 : Nat) "WebHostModel" "markAt" "I") ∈ lw_all := lw_g (lw_at lw_m8 165 rfl) rfl
theorem q2002 : (Jvm.Cond.fieldLink "WebHostModel" (759 : Nat) "WebHostModel" "markEnd" "I") ∈ lw_all := lw_g (lw_at lw_m8 166 rfl) rfl
theorem q2003 : (Jvm.Cond.laysFinal "WebHostModel" "WebHostModel" "tray" "[B") ∈ lw_all := lw_g (lw_at lw_m8 167 rfl) rfl
theorem q2004 : (Jvm.Cond.soleField "WebHostModel" "tray") ∈ lw_all := lw_g (lw_at lw_m8 168 rfl) rfl
theorem q2005 : (Jvm.Cond.lays "WebHostModel" "WebHostModel" "trayed" "I") ∈ lw_all := lw_g (lw_at lw_m8 169 rfl) rfl
theorem q2006 : (Jvm.Cond.soleField "WebHostModel" "trayed") ∈ lw_all := lw_g (lw_at lw_m8 170 rfl) rfl
theorem q2007 : (Jvm.Cond.laysFinal "WebHostModel" "WebHostModel" "image" "[B") ∈ lw_all := lw_g (lw_at lw_m8 171 rfl) rfl
theorem q2008 : (Jvm.Cond.soleField "WebHostModel" "image") ∈ lw_all := lw_g (lw_at lw_m8 172 rfl) rfl
theorem q2009 : (Jvm.Cond.lays "WebHostModel" "WebHostModel" "imageSize" "I") ∈ lw_all := lw_g (lw_at lw_m8 173 rfl) rfl
theorem q2010 : (Jvm.Cond.soleField "WebHostModel" "imageSize") ∈ lw_all := lw_g (lw_at lw_m8 174 rfl) rfl
theorem q2011 : (Jvm.Cond.lays "WebHostModel" "WebHostModel" "booted" "Z") ∈ lw_all := lw_g (lw_at lw_m8 175 rfl) rfl
theorem q2012 : (Jvm.Cond.soleField "WebHostModel" "booted") ∈ lw_all := lw_g (lw_at lw_m8 176 rfl) rfl
theorem q2013 : (Jvm.Cond.lays "WebHostModel" "WebHostModel" "ip" "I") ∈ lw_all := lw_g (lw_at lw_m8 177 rfl) rfl
theorem q2014 : (Jvm.Cond.soleField "WebHostModel" "ip") ∈ lw_all := lw_g (lw_at lw_m8 178 rfl) rfl
theorem q2015 : (Jvm.Cond.lays "WebHostModel" "WebHostModel" "bits" "I") ∈ lw_all := lw_g (lw_at lw_m8 179 rfl) rfl
theorem q2016 : (Jvm.Cond.soleField "WebHostModel" "bits") ∈ lw_all := lw_g (lw_at lw_m8 180 rfl) rfl
theorem q2017 : (Jvm.Cond.lays "WebHostModel" "WebHostModel" "gateway" "I") ∈ lw_all := lw_g (lw_at lw_m8 181 rfl) rfl
theorem q2018 : (Jvm.Cond.soleField "WebHostModel" "gateway") ∈ lw_all := lw_g (lw_at lw_m8 182 rfl) rfl
theorem q2019 : (Jvm.Cond.lays "WebHostModel" "WebHostModel" "high" "I") ∈ lw_all := lw_g (lw_at lw_m8 183 rfl) rfl
theorem q2020 : (Jvm.Cond.soleField "WebHostModel" "high") ∈ lw_all := lw_g (lw_at lw_m8 184 rfl) rfl
theorem q2021 : (Jvm.Cond.lays "WebHostModel" "WebHostModel" "low" "I") ∈ lw_all := lw_g (lw_at lw_m8 185 rfl) rfl
theorem q2022 : (Jvm.Cond.soleField "WebHostModel" "low") ∈ lw_all := lw_g (lw_at lw_m8 186 rfl) rfl
theorem q2023 : (Jvm.Cond.lays "WebHostModel" "WebHostModel" "now" "I") ∈ lw_all := lw_g (lw_at lw_m8 187 rfl) rfl
theorem q2024 : (Jvm.Cond.soleField "WebHostModel" "now") ∈ lw_all := lw_g (lw_at lw_m8 188 rfl) rfl
theorem q2025 : (Jvm.Cond.lays "WebHostModel" "WebHostModel" "fileCount" "I") ∈ lw_all := lw_g (lw_at lw_m8 189 rfl) rfl
theorem q2026 : (Jvm.Cond.soleField "WebHostModel" "fileCount") ∈ lw_all := lw_g (lw_at lw_m8 190 rfl) rfl
theorem q2027 : (Jvm.Cond.lays "WebHostModel" "WebHostModel" "began" "I") ∈ lw_all := lw_g (lw_at lw_m8 191 rfl) rfl
theorem q2028 : (Jvm.Cond.soleField "WebHostModel" "began") ∈ lw_all := lw_g (lw_at lw_m8 192 rfl) rfl
theorem q2029 : (Jvm.Cond.laysFinal "WebHostModel" "WebHostModel" "names" "[B") ∈ lw_all := lw_g (lw_at lw_m8 193 rfl) rfl
theorem q2030 : (Jvm.Cond.soleField "WebHostModel" "names") ∈ lw_all := lw_g (lw_at lw_m8 194 rfl) rfl
theorem q2031 : (Jvm.Cond.laysFinal "WebHostModel" "WebHostModel" "filePlaces" "[I") ∈ lw_all := lw_g (lw_at lw_m8 195 rfl) rfl
theorem q2032 : (Jvm.Cond.soleField "WebHostModel" "filePlaces") ∈ lw_all := lw_g (lw_at lw_m8 196 rfl) rfl
theorem q2033 : (Jvm.Cond.laysFinal "WebHostModel" "WebHostModel" "fileLengths" "[I") ∈ lw_all := lw_g (lw_at lw_m8 197 rfl) rfl
theorem q2034 : (Jvm.Cond.soleField "WebHostModel" "fileLengths") ∈ lw_all := lw_g (lw_at lw_m8 198 rfl) rfl
theorem q2035 : (Jvm.Cond.laysFinal "WebHostModel" "WebHostModel" "fileChecks" "[I") ∈ lw_all := lw_g (lw_at lw_m8 199 rfl) rfl
theorem q2036 : (Jvm.Cond.soleField "WebHostModel" "fileChecks") ∈ lw_all := lw_g (lw_at lw_m8 200 rfl) rfl
theorem q2037 : (Jvm.Cond.laysFinal "WebHostModel" "WebHostModel" "counts" "[I") ∈ lw_all := lw_g (lw_at lw_m8 201 rfl) rfl
theorem q2038 : (Jvm.Cond.soleField "WebHostModel" "counts") ∈ lw_all := lw_g (lw_at lw_m8 202 rfl) rfl
theorem q2039 : (Jvm.Cond.lays "WebHostModel" "WebHostModel" "strays" "I") ∈ lw_all := lw_g (lw_at lw_m8 203 rfl) rfl
theorem q2040 : (Jvm.Cond.soleField "WebHostModel" "strays") ∈ lw_all := lw_g (lw_at lw_m8 204 rfl) rfl
theorem q2041 : (Jvm.Cond.laysFinal "WebHostModel" "WebHostModel" "frame" "[B") ∈ lw_all := lw_g (lw_at lw_m8 205 rfl) rfl
theorem q2042 : (Jvm.Cond.soleField "WebHostModel" "frame") ∈ lw_all := lw_g (lw_at lw_m8 206 rfl) rfl
theorem q2043 : (Jvm.Cond.laysFinal "WebHostModel" "WebHostModel" "kept" "[B") ∈ lw_all := lw_g (lw_at lw_m8 207 rfl) rfl
theorem q2044 : (Jvm.Cond.soleField "WebHostModel" "kept") ∈ lw_all := lw_g (lw_at lw_m8 208 rfl) rfl
theorem q2045 : (Jvm.Cond.laysFinal "WebHostModel" "WebHostModel" "keptLengths" "[I") ∈ lw_all := lw_g (lw_at lw_m8 209 rfl) rfl
theorem q2046 : (Jvm.Cond.soleField "WebHostModel" "keptLengths") ∈ lw_all := lw_g (lw_at lw_m8 210 rfl) rfl
theorem q2047 : (Jvm.Cond.laysFinal "WebHostModel" "WebHostModel" "keptTimes" "[I") ∈ lw_all := lw_g (lw_at lw_m8 211 rfl) rfl
theorem q2048 : (Jvm.Cond.soleField "WebHostModel" "keptTimes") ∈ lw_all := lw_g (lw_at lw_m8 212 rfl) rfl
theorem q2049 : (Jvm.Cond.lays "WebHostModel" "WebHostModel" "sent" "I") ∈ lw_all := lw_g (lw_at lw_m8 213 rfl) rfl
theorem q2050 : (Jvm.Cond.soleField "WebHostModel" "sent") ∈ lw_all := lw_g (lw_at lw_m8 214 rfl) rfl
theorem q2051 : (Jvm.Cond.lays "WebHostModel" "WebHostModel" "identification" "I") ∈ lw_all := lw_g (lw_at lw_m8 215 rfl) rfl
theorem q2052 : (Jvm.Cond.soleField "WebHostModel" "identification") ∈ lw_all := lw_g (lw_at lw_m8 216 rfl) rfl
theorem q2053 : (Jvm.Cond.lays "WebHostModel" "WebHostModel" "order" "I") ∈ lw_all := lw_g (lw_at lw_m8 217 rfl) rfl
theorem q2054 : (Jvm.Cond.soleField "WebHostModel" "order") ∈ lw_all := lw_g (lw_at lw_m8 218 rfl) rfl
theorem q2055 : (Jvm.Cond.laysFinal "WebHostModel" "WebHostModel" "cache" "[LWebHostModel$Entry;") ∈ lw_all := lw_g (lw_at lw_m8 219 rfl) rfl
theorem q2056 : (Jvm.Cond.soleField "WebHostModel" "cache") ∈ lw_all := lw_g (lw_at lw_m8 220 rfl) rfl
theorem q2057 : (Jvm.Cond.laysFinal "WebHostModel" "WebHostModel" "packets" "[LWebHostModel$Packet;") ∈ lw_all := lw_g (lw_at lw_m8 221 rfl) rfl
theorem q2058 : (Jvm.Cond.soleField "WebHostModel" "packets") ∈ lw_all := lw_g (lw_at lw_m8 222 rfl) rfl
theorem q2059 : (Jvm.Cond.laysFinal "WebHostModel" "WebHostModel" "datagrams" "[LWebHostModel$Datagram;") ∈ lw_all := lw_g (lw_at lw_m8 223 rfl) rfl
theorem q2060 : (Jvm.Cond.soleField "WebHostModel" "datagrams") ∈ lw_all := lw_g (lw_at lw_m8 224 rfl) rfl
theorem q2061 : (Jvm.Cond.laysFinal "WebHostModel" "WebHostModel" "whole" "[B") ∈ lw_all := lw_g (lw_at lw_m8 225 rfl) rfl
theorem q2062 : (Jvm.Cond.soleField "WebHostModel" "whole") ∈ lw_all := lw_g (lw_at lw_m8 226 rfl) rfl
theorem q2063 : (Jvm.Cond.lays "WebHostModel" "WebHostModel" "sender" "I") ∈ lw_all := lw_g (lw_at lw_m8 227 rfl) rfl
theorem q2064 : (Jvm.Cond.soleField "WebHostModel" "sender") ∈ lw_all := lw_g (lw_at lw_m8 228 rfl) rfl
theorem q2065 : (Jvm.Cond.laysFinal "WebHostModel" "WebHostModel" "connections" "[LWebHostModel$Connection;") ∈ lw_all := lw_g (lw_at lw_m8 229 rfl) rfl
theorem q2066 : (Jvm.Cond.soleField "WebHostModel" "connections") ∈ lw_all := lw_g (lw_at lw_m8 230 rfl) rfl
theorem q2067 : (Jvm.Cond.lays "WebHostModel" "WebHostModel" "fromPort" "I") ∈ lw_all := lw_g (lw_at lw_m8 231 rfl) rfl
theorem q2068 : (Jvm.Cond.soleField "WebHostModel" "fromPort") ∈ lw_all := lw_g (lw_at lw_m8 232 rfl) rfl
theorem q2069 : (Jvm.Cond.lays "WebHostModel" "WebHostModel" "toPort" "I") ∈ lw_all := lw_g (lw_at lw_m8 233 rfl) rfl
theorem q2070 : (Jvm.Cond.soleField "WebHostModel" "toPort") ∈ lw_all := lw_g (lw_at lw_m8 234 rfl) rfl
theorem q2071 : (Jvm.Cond.lays "WebHostModel" "WebHostModel" "number" "I") ∈ lw_all := lw_g (lw_at lw_m8 235 rfl) rfl
theorem q2072 : (Jvm.Cond.soleField "WebHostModel" "number") ∈ lw_all := lw_g (lw_at lw_m8 236 rfl) rfl
theorem q2073 : (Jvm.Cond.lays "WebHostModel" "WebHostModel" "acknowledged" "I") ∈ lw_all := lw_g (lw_at lw_m8 237 rfl) rfl
theorem q2074 : (Jvm.Cond.soleField "WebHostModel" "acknowledged") ∈ lw_all := lw_g (lw_at lw_m8 238 rfl) rfl
theorem q2075 : (Jvm.Cond.lays "WebHostModel" "WebHostModel" "flags" "I") ∈ lw_all := lw_g (lw_at lw_m8 239 rfl) rfl
theorem q2076 : (Jvm.Cond.soleField "WebHostModel" "flags") ∈ lw_all := lw_g (lw_at lw_m9 0 rfl) rfl
theorem q2077 : (Jvm.Cond.lays "WebHostModel" "WebHostModel" "window" "I") ∈ lw_all := lw_g (lw_at lw_m9 1 rfl) rfl
theorem q2078 : (Jvm.Cond.soleField "WebHostModel" "window") ∈ lw_all := lw_g (lw_at lw_m9 2 rfl) rfl
theorem q2079 : (Jvm.Cond.lays "WebHostModel" "WebHostModel" "dataAt" "I") ∈ lw_all := lw_g (lw_at lw_m9 3 rfl) rfl
theorem q2080 : (Jvm.Cond.soleField "WebHostModel" "dataAt") ∈ lw_all := lw_g (lw_at lw_m9 4 rfl) rfl
theorem q2081 : (Jvm.Cond.lays "WebHostModel" "WebHostModel" "dataLength" "I") ∈ lw_all := lw_g (lw_at lw_m9 5 rfl) rfl
theorem q2082 : (Jvm.Cond.soleField "WebHostModel" "dataLength") ∈ lw_all := lw_g (lw_at lw_m9 6 rfl) rfl
theorem q2083 : (Jvm.Cond.lays "WebHostModel" "WebHostModel" "headEnd" "I") ∈ lw_all := lw_g (lw_at lw_m9 7 rfl) rfl
theorem q2084 : (Jvm.Cond.soleField "WebHostModel" "headEnd") ∈ lw_all := lw_g (lw_at lw_m9 8 rfl) rfl
theorem q2085 : (Jvm.Cond.laysFinal "WebHostModel" "WebHostModel" "head" "[B") ∈ lw_all := lw_g (lw_at lw_m9 9 rfl) rfl
theorem q2086 : (Jvm.Cond.soleField "WebHostModel" "head") ∈ lw_all := lw_g (lw_at lw_m9 10 rfl) rfl
theorem q2087 : (Jvm.Cond.lays "WebHostModel" "WebHostModel" "headLength" "I") ∈ lw_all := lw_g (lw_at lw_m9 11 rfl) rfl
theorem q2088 : (Jvm.Cond.soleField "WebHostModel" "headLength") ∈ lw_all := lw_g (lw_at lw_m9 12 rfl) rfl
theorem q2089 : (Jvm.Cond.lays "WebHostModel" "WebHostModel" "status" "I") ∈ lw_all := lw_g (lw_at lw_m9 13 rfl) rfl
theorem q2090 : (Jvm.Cond.soleField "WebHostModel" "status") ∈ lw_all := lw_g (lw_at lw_m9 14 rfl) rfl
theorem q2091 : (Jvm.Cond.lays "WebHostModel" "WebHostModel" "isHead" "Z") ∈ lw_all := lw_g (lw_at lw_m9 15 rfl) rfl
theorem q2092 : (Jvm.Cond.soleField "WebHostModel" "isHead") ∈ lw_all := lw_g (lw_at lw_m9 16 rfl) rfl
theorem q2093 : (Jvm.Cond.lays "WebHostModel" "WebHostModel" "oldVersion" "Z") ∈ lw_all := lw_g (lw_at lw_m9 17 rfl) rfl
theorem q2094 : (Jvm.Cond.soleField "WebHostModel" "oldVersion") ∈ lw_all := lw_g (lw_at lw_m9 18 rfl) rfl
theorem q2095 : (Jvm.Cond.lays "WebHostModel" "WebHostModel" "close" "Z") ∈ lw_all := lw_g (lw_at lw_m9 19 rfl) rfl
theorem q2096 : (Jvm.Cond.soleField "WebHostModel" "close") ∈ lw_all := lw_g (lw_at lw_m9 20 rfl) rfl
theorem q2097 : (Jvm.Cond.lays "WebHostModel" "WebHostModel" "keep" "Z") ∈ lw_all := lw_g (lw_at lw_m9 21 rfl) rfl
theorem q2098 : (Jvm.Cond.soleField "WebHostModel" "keep") ∈ lw_all := lw_g (lw_at lw_m9 22 rfl) rfl
theorem q2099 : (Jvm.Cond.lays "WebHostModel" "WebHostModel" "hosts" "I") ∈ lw_all := lw_g (lw_at lw_m9 23 rfl) rfl
theorem q2100 : (Jvm.Cond.soleField "WebHostModel" "hosts") ∈ lw_all := lw_g (lw_at lw_m9 24 rfl) rfl
theorem q2101 : (Jvm.Cond.lays "WebHostModel" "WebHostModel" "lengths" "I") ∈ lw_all := lw_g (lw_at lw_m9 25 rfl) rfl
theorem q2102 : (Jvm.Cond.soleField "WebHostModel" "lengths") ∈ lw_all := lw_g (lw_at lw_m9 26 rfl) rfl
theorem q2103 : (Jvm.Cond.lays "WebHostModel" "WebHostModel" "marks" "I") ∈ lw_all := lw_g (lw_at lw_m9 27 rfl) rfl
theorem q2104 : (Jvm.Cond.soleField "WebHostModel" "marks") ∈ lw_all := lw_g (lw_at lw_m9 28 rfl) rfl
theorem q2105 : (Jvm.Cond.lays "WebHostModel" "WebHostModel" "bodyLeft" "I") ∈ lw_all := lw_g (lw_at lw_m9 29 rfl) rfl
theorem q2106 : (Jvm.Cond.soleField "WebHostModel" "bodyLeft") ∈ lw_all := lw_g (lw_at lw_m9 30 rfl) rfl
theorem q2107 : (Jvm.Cond.lays "WebHostModel" "WebHostModel" "badLength" "Z") ∈ lw_all := lw_g (lw_at lw_m9 31 rfl) rfl
theorem q2108 : (Jvm.Cond.soleField "WebHostModel" "badLength") ∈ lw_all := lw_g (lw_at lw_m9 32 rfl) rfl
theorem q2109 : (Jvm.Cond.lays "WebHostModel" "WebHostModel" "greatLength" "Z") ∈ lw_all := lw_g (lw_at lw_m9 33 rfl) rfl
theorem q2110 : (Jvm.Cond.soleField "WebHostModel" "greatLength") ∈ lw_all := lw_g (lw_at lw_m9 34 rfl) rfl
theorem q2111 : (Jvm.Cond.lays "WebHostModel" "WebHostModel" "encoded" "Z") ∈ lw_all := lw_g (lw_at lw_m9 35 rfl) rfl
theorem q2112 : (Jvm.Cond.soleField "WebHostModel" "encoded") ∈ lw_all := lw_g (lw_at lw_m9 36 rfl) rfl
theorem q2113 : (Jvm.Cond.lays "WebHostModel" "WebHostModel" "sameMark" "Z") ∈ lw_all := lw_g (lw_at lw_m9 37 rfl) rfl
theorem q2114 : (Jvm.Cond.soleField "WebHostModel" "sameMark") ∈ lw_all := lw_g (lw_at lw_m9 38 rfl) rfl
theorem q2115 : (Jvm.Cond.lays "WebHostModel" "WebHostModel" "targetAt" "I") ∈ lw_all := lw_g (lw_at lw_m9 39 rfl) rfl
theorem q2116 : (Jvm.Cond.soleField "WebHostModel" "targetAt") ∈ lw_all := lw_g (lw_at lw_m9 40 rfl) rfl
theorem q2117 : (Jvm.Cond.lays "WebHostModel" "WebHostModel" "targetEnd" "I") ∈ lw_all := lw_g (lw_at lw_m9 41 rfl) rfl
theorem q2118 : (Jvm.Cond.soleField "WebHostModel" "targetEnd") ∈ lw_all := lw_g (lw_at lw_m9 42 rfl) rfl
theorem q2119 : (Jvm.Cond.laysFinal "WebHostModel" "WebHostModel" "path" "[B") ∈ lw_all := lw_g (lw_at lw_m9 43 rfl) rfl
theorem q2120 : (Jvm.Cond.soleField "WebHostModel" "path") ∈ lw_all := lw_g (lw_at lw_m9 44 rfl) rfl
theorem q2121 : (Jvm.Cond.lays "WebHostModel" "WebHostModel" "pathLength" "I") ∈ lw_all := lw_g (lw_at lw_m9 45 rfl) rfl
theorem q2122 : (Jvm.Cond.soleField "WebHostModel" "pathLength") ∈ lw_all := lw_g (lw_at lw_m9 46 rfl) rfl
theorem q2123 : (Jvm.Cond.lays "WebHostModel" "WebHostModel" "other" "Z") ∈ lw_all := lw_g (lw_at lw_m9 47 rfl) rfl
theorem q2124 : (Jvm.Cond.soleField "WebHostModel" "other") ∈ lw_all := lw_g (lw_at lw_m9 48 rfl) rfl
theorem q2125 : (Jvm.Cond.lays "WebHostModel" "WebHostModel" "markAt" "I") ∈ lw_all := lw_g (lw_at lw_m9 49 rfl) rfl
theorem q2126 : (Jvm.Cond.soleField "WebHostModel" "markAt") ∈ lw_all := lw_g (lw_at lw_m9 50 rfl) rfl
theorem q2127 : (Jvm.Cond.lays "WebHostModel" "WebHostModel" "markEnd" "I") ∈ lw_all := lw_g (lw_at lw_m9 51 rfl) rfl
theorem q2128 : (Jvm.Cond.soleField "WebHostModel" "markEnd") ∈ lw_all := lw_g (lw_at lw_m9 52 rfl) rfl
theorem q2129 : (Jvm.Cond.superclass "WebHostModel" "java/lang/Object") ∈ lw_all := lw_g (lw_at lw_m9 53 rfl) rfl
theorem q2130 : (Jvm.Cond.methodLink "WebHostLaw" (17 : Nat) ({ cls := "WebHostModel", name := "feed", desc := "(IIIII)I" } : Jvm.MethodName)) ∈ lw_all := lw_g (lw_at lw_m9 54 rfl) rfl
theorem q2131 : (Jvm.Cond.instanceMethod ({ cls := "WebHostModel", name := "feed", desc := "(IIIII)I" } : Jvm.MethodName)) ∈ lw_all := lw_g (lw_at lw_m9 55 rfl) rfl
theorem q2132 : (Jvm.Cond.selects "WebHostModel" ({ cls := "WebHostModel", name := "feed", desc := "(IIIII)I" } : Jvm.MethodName) ({ cls := "WebHostModel", name := "feed", desc := "(IIIII)I" } : Jvm.MethodName)) ∈ lw_all := lw_g (lw_at lw_m9 56 rfl) rfl
theorem q2133 : (Jvm.Cond.code ({ cls := "WebHostModel", name := "feed", desc := "(IIIII)I" } : Jvm.MethodName) prog_17_method_3_code (6 : Nat) (Option.some Jvm.ClassFile.FieldType.int)) ∈ lw_all := lw_g (lw_at lw_m9 57 rfl) rfl
theorem q2134 : (Jvm.Cond.methodLink "WebHostModel" (88 : Nat) ({ cls := "WebHostModel", name := "word", desc := "(I)V" } : Jvm.MethodName)) ∈ lw_all := lw_g (lw_at lw_m9 58 rfl) rfl
theorem q2135 : (Jvm.Cond.privateMethod ({ cls := "WebHostModel", name := "word", desc := "(I)V" } : Jvm.MethodName)) ∈ lw_tbl := lw_at lw_m9 59 rfl
theorem q2136 : (Jvm.Cond.instanceMethod ({ cls := "WebHostModel", name := "word", desc := "(I)V" } : Jvm.MethodName)) ∈ lw_all := lw_g (lw_at lw_m9 60 rfl) rfl
theorem q2137 : (Jvm.Cond.code ({ cls := "WebHostModel", name := "word", desc := "(I)V" } : Jvm.MethodName) prog_17_method_4_code (3 : Nat) (Option.none : Option Jvm.ClassFile.FieldType)) ∈ lw_all := lw_g (lw_at lw_m9 61 rfl) rfl
theorem q2138 : (Jvm.Cond.methodLink "WebHostLaw" (22 : Nat) ({ cls := "WebHostModel", name := "end", desc := "(I)I" } : Jvm.MethodName)) ∈ lw_all := lw_g (lw_at lw_m9 62 rfl) rfl
theorem q2139 : (Jvm.Cond.instanceMethod ({ cls := "WebHostModel", name := "end", desc := "(I)I" } : Jvm.MethodName)) ∈ lw_all := lw_g (lw_at lw_m9 63 rfl) rfl
theorem q2140 : (Jvm.Cond.selects "WebHostModel" ({ cls := "WebHostModel", name := "end", desc := "(I)I" } : Jvm.MethodName) ({ cls := "WebHostModel", name := "end", desc := "(I)I" } : Jvm.MethodName)) ∈ lw_all := lw_g (lw_at lw_m9 64 rfl) rfl
theorem q2141 : (Jvm.Cond.code ({ cls := "WebHostModel", name := "end", desc := "(I)I" } : Jvm.MethodName) prog_17_method_5_code (2 : Nat) (Option.some Jvm.ClassFile.FieldType.int)) ∈ lw_all := lw_g (lw_at lw_m9 65 rfl) rfl
theorem q2142 : (Jvm.Cond.methodLink "WebHostLaw" (27 : Nat) ({ cls := "WebHostModel", name := "install", desc := "()I" } : Jvm.MethodName)) ∈ lw_all := lw_g (lw_at lw_m9 66 rfl) rfl
theorem q2143 : (Jvm.Cond.instanceMethod ({ cls := "WebHostModel", name := "install", desc := "()I" } : Jvm.MethodName)) ∈ lw_all := lw_g (lw_at lw_m9 67 rfl) rfl
theorem q2144 : (Jvm.Cond.selects "WebHostModel" ({ cls := "WebHostModel", name := "install", desc := "()I" } : Jvm.MethodName) ({ cls := "WebHostModel", name := "install", desc := "()I" } : Jvm.MethodName)) ∈ lw_all := lw_g (lw_at lw_m9 68 rfl) rfl
theorem q2145 : (Jvm.Cond.code ({ cls := "WebHostModel", name := "install", desc := "()I" } : Jvm.MethodName) prog_17_method_6_code (2 : Nat) (Option.some Jvm.ClassFile.FieldType.int)) ∈ lw_all := lw_g (lw_at lw_m9 69 rfl) rfl
theorem q2146 : (Jvm.Cond.methodLink "WebHostLaw" (31 : Nat) ({ cls := "WebHostModel", name := "boot", desc := "(IIIII)I" } : Jvm.MethodName)) ∈ lw_all := lw_g (lw_at lw_m9 70 rfl) rfl
theorem q2147 : (Jvm.Cond.instanceMethod ({ cls := "WebHostModel", name := "boot", desc := "(IIIII)I" } : Jvm.MethodName)) ∈ lw_all := lw_g (lw_at lw_m9 71 rfl) rfl
theorem q2148 : (Jvm.Cond.selects "WebHostModel" ({ cls := "WebHostModel", name := "boot", desc := "(IIIII)I" } : Jvm.MethodName) ({ cls := "WebHostModel", name := "boot", desc := "(IIIII)I" } : Jvm.MethodName)) ∈ lw_all := lw_g (lw_at lw_m9 72 rfl) rfl
theorem q2149 : (Jvm.Cond.code ({ cls := "WebHostModel", name := "boot", desc := "(IIIII)I" } : Jvm.MethodName) prog_17_method_12_code (10 : Nat) (Option.some Jvm.ClassFile.FieldType.int)) ∈ lw_all := lw_g (lw_at lw_m9 73 rfl) rfl
theorem q2150 : (Jvm.Cond.methodLink "WebHostModel" (111 : Nat) ({ cls := "WebHostModel", name := "isHost", desc := "(I)Z" } : Jvm.MethodName)) ∈ lw_all := lw_g (lw_at lw_m9 74 rfl) rfl
theorem q2151 : (Jvm.Cond.static ({ cls := "WebHostModel", name := "isHost", desc := "(I)Z" } : Jvm.MethodName)) ∈ lw_all := lw_g (lw_at lw_m9 75 rfl) rfl
theorem q2152 : (Jvm.Cond.code ({ cls := "WebHostModel", name := "isHost", desc := "(I)Z" } : Jvm.MethodName) prog_17_method_11_code (2 : Nat) (Option.some Jvm.ClassFile.FieldType.boolean)) ∈ lw_all := lw_g (lw_at lw_m9 76 rfl) rfl
theorem q2153 : (Jvm.Cond.methodLink "WebHostModel" (115 : Nat) ({ cls := "WebHostModel", name := "files", desc := "()I" } : Jvm.MethodName)) ∈ lw_all := lw_g (lw_at lw_m9 77 rfl) rfl
theorem q2154 : (Jvm.Cond.privateMethod ({ cls := "WebHostModel", name := "files", desc := "()I" } : Jvm.MethodName)) ∈ lw_tbl := lw_at lw_m9 78 rfl
theorem q2155 : (Jvm.Cond.instanceMethod ({ cls := "WebHostModel", name := "files", desc := "()I" } : Jvm.MethodName)) ∈ lw_all := lw_g (lw_at lw_m9 79 rfl) rfl
theorem q2156 : (Jvm.Cond.code ({ cls := "WebHostModel", name := "files", desc := "()I" } : Jvm.MethodName) prog_17_method_9_code (8 : Nat) (Option.some Jvm.ClassFile.FieldType.int)) ∈ lw_all := lw_g (lw_at lw_m9 80 rfl) rfl
theorem q2157 : (Jvm.Cond.methodLink "WebHostModel" (100 : Nat) ({ cls := "WebHostModel", name := "check", desc := "(II)I" } : Jvm.MethodName)) ∈ lw_all := lw_g (lw_at lw_m9 81 rfl) rfl
theorem q2158 : (Jvm.Cond.privateMethod ({ cls := "WebHostModel", name := "check", desc := "(II)I" } : Jvm.MethodName)) ∈ lw_tbl := lw_at lw_m9 82 rfl
theorem q2159 : (Jvm.Cond.instanceMethod ({ cls := "WebHostModel", name := "check", desc := "(II)I" } : Jvm.MethodName)) ∈ lw_all := lw_g (lw_at lw_m9 83 rfl) rfl
theorem q2160 : (Jvm.Cond.code ({ cls := "WebHostModel", name := "check", desc := "(II)I" } : Jvm.MethodName) prog_17_method_8_code (6 : Nat) (Option.some Jvm.ClassFile.FieldType.int)) ∈ lw_all := lw_g (lw_at lw_m9 84 rfl) rfl
theorem q2161 : (Jvm.Cond.constant "WebHostModel" (99 : Nat) (-306674912 : Int32)) ∈ lw_all := lw_g (lw_at lw_m9 85 rfl) rfl
theorem q2162 : (Jvm.Cond.methodLink "WebHostModel" (104 : Nat) ({ cls := "WebHostModel", name := "imageWord", desc := "(I)J" } : Jvm.MethodName)) ∈ lw_all := lw_g (lw_at lw_m9 86 rfl) rfl
theorem q2163 : (Jvm.Cond.privateMethod ({ cls := "WebHostModel", name := "imageWord", desc := "(I)J" } : Jvm.MethodName)) ∈ lw_tbl := lw_at lw_m9 87 rfl
theorem q2164 : (Jvm.Cond.instanceMethod ({ cls := "WebHostModel", name := "imageWord", desc := "(I)J" } : Jvm.MethodName)) ∈ lw_all := lw_g (lw_at lw_m9 88 rfl) rfl
theorem q2165 : (Jvm.Cond.code ({ cls := "WebHostModel", name := "imageWord", desc := "(I)J" } : Jvm.MethodName) prog_17_method_7_code (5 : Nat) (Option.some Jvm.ClassFile.FieldType.long)) ∈ lw_all := lw_g (lw_at lw_m9 89 rfl) rfl
theorem q2166 : (Jvm.Cond.methodLink "WebHostLaw" (35 : Nat) ({ cls := "WebHostModel", name := "arrive", desc := "(I)I" } : Jvm.MethodName)) ∈ lw_all := lw_g (lw_at lw_m9 90 rfl) rfl
theorem q2167 : (Jvm.Cond.instanceMethod ({ cls := "WebHostModel", name := "arrive", desc := "(I)I" } : Jvm.MethodName)) ∈ lw_all := lw_g (lw_at lw_m9 91 rfl) rfl
theorem q2168 : (Jvm.Cond.selects "WebHostModel" ({ cls := "WebHostModel", name := "arrive", desc := "(I)I" } : Jvm.MethodName) ({ cls := "WebHostModel", name := "arrive", desc := "(I)I" } : Jvm.MethodName)) ∈ lw_all := lw_g (lw_at lw_m9 92 rfl) rfl
theorem q2169 : (Jvm.Cond.code ({ cls := "WebHostModel", name := "arrive", desc := "(I)I" } : Jvm.MethodName) prog_17_method_72_code (4 : Nat) (Option.some Jvm.ClassFile.FieldType.int)) ∈ lw_all := lw_g (lw_at lw_m9 93 rfl) rfl
theorem q2170 : (Jvm.Cond.methodLink "WebHostModel" (597 : Nat) ({ cls := "WebHostModel", name := "refused", desc := "(I)I" } : Jvm.MethodName)) ∈ lw_all := lw_g (lw_at lw_m9 94 rfl) rfl
theorem q2171 : (Jvm.Cond.privateMethod ({ cls := "WebHostModel", name := "refused", desc := "(I)I" } : Jvm.MethodName)) ∈ lw_tbl := lw_at lw_m9 95 rfl
theorem q2172 : (Jvm.Cond.instanceMethod ({ cls := "WebHostModel", name := "refused", desc := "(I)I" } : Jvm.MethodName)) ∈ lw_all := lw_g (lw_at lw_m9 96 rfl) rfl
theorem q2173 : (Jvm.Cond.code ({ cls := "WebHostModel", name := "refused", desc := "(I)I" } : Jvm.MethodName) prog_17_method_71_code (2 : Nat) (Option.some Jvm.ClassFile.FieldType.int)) ∈ lw_all := lw_g (lw_at lw_m9 97 rfl) rfl
theorem q2174 : (Jvm.Cond.constant "WebHostModel" (595 : Nat) (2000000000 : Int32)) ∈ lw_all := lw_g (lw_at lw_m9 98 rfl) rfl
theorem q2175 : (Jvm.Cond.constant "WebHostModel" (596 : Nat) (600000 : Int32)) ∈ lw_all := lw_g (lw_at lw_m9 99 rfl) rfl
theorem q2176 : (Jvm.Cond.methodLink "WebHostModel" (600 : Nat) ({ cls := "WebHostModel", name := "passTo", desc := "(I)V" } : Jvm.MethodName)) ∈ lw_all := lw_g (lw_at lw_m9 100 rfl) rfl
theorem q2177 : (Jvm.Cond.privateMethod ({ cls := "WebHostModel", name := "passTo", desc := "(I)V" } : Jvm.MethodName)) ∈ lw_tbl := lw_at lw_m9 101 rfl
theorem q2178 : (Jvm.Cond.instanceMethod ({ cls := "WebHostModel", name := "passTo", desc := "(I)V" } : Jvm.MethodName)) ∈ lw_all := lw_g (lw_at lw_m9 102 rfl) rfl
theorem q2179 : (Jvm.Cond.code ({ cls := "WebHostModel", name := "passTo", desc := "(I)V" } : Jvm.MethodName) prog_17_method_70_code (11 : Nat) (Option.none : Option Jvm.ClassFile.FieldType)) ∈ lw_all := lw_g (lw_at lw_m9 103 rfl) rfl
theorem q2180 : (Jvm.Cond.constantLong "WebHostModel" (573 : Nat) (9223372036854775807 : Int64)) ∈ lw_all := lw_g (lw_at lw_m9 104 rfl) rfl
theorem q2181 : (Jvm.Cond.methodLink "WebHostModel" (575 : Nat) ({ cls := "WebHostModel", name := "askDue", desc := "(LWebHostModel$Packet;)J" } : Jvm.MethodName)) ∈ lw_all := lw_g (lw_at lw_m9 105 rfl) rfl
theorem q2182 : (Jvm.Cond.static ({ cls := "WebHostModel", name := "askDue", desc := "(LWebHostModel$Packet;)J" } : Jvm.MethodName)) ∈ lw_all := lw_g (lw_at lw_m9 106 rfl) rfl
theorem q2183 : (Jvm.Cond.code ({ cls := "WebHostModel", name := "askDue", desc := "(LWebHostModel$Packet;)J" } : Jvm.MethodName) prog_17_method_69_code (1 : Nat) (Option.some Jvm.ClassFile.FieldType.long)) ∈ lw_all := lw_g (lw_at lw_m9 107 rfl) rfl
theorem q2184 : (Jvm.Cond.constantLong "WebHostModel" (551 : Nat) (1000 : Int64)) ∈ lw_all := lw_g (lw_at lw_m9 108 rfl) rfl
theorem q2185 : (Jvm.Cond.constantLong "WebHostModel" (579 : Nat) (15000 : Int64)) ∈ lw_all := lw_g (lw_at lw_m9 109 rfl) rfl
theorem q2186 : (Jvm.Cond.methodLink "WebHostModel" (581 : Nat) ({ cls := "WebHostModel", name := "life", desc := "(LWebHostModel$Connection;)J" } : Jvm.MethodName)) ∈ lw_all := lw_g (lw_at lw_m9 110 rfl) rfl
theorem q2187 : (Jvm.Cond.static ({ cls := "WebHostModel", name := "life", desc := "(LWebHostModel$Connection;)J" } : Jvm.MethodName)) ∈ lw_all := lw_g (lw_at lw_m9 111 rfl) rfl
theorem q2188 : (Jvm.Cond.code ({ cls := "WebHostModel", name := "life", desc := "(LWebHostModel$Connection;)J" } : Jvm.MethodName) prog_17_method_67_code (1 : Nat) (Option.some Jvm.ClassFile.FieldType.long)) ∈ lw_all := lw_g (lw_at lw_m9 112 rfl) rfl
theorem q2189 : (Jvm.Cond.constantLong "WebHostModel" (553 : Nat) (60000 : Int64)) ∈ lw_all := lw_g (lw_at lw_m9 113 rfl) rfl
theorem q2190 : (Jvm.Cond.methodLink "WebHostModel" (566 : Nat) ({ cls := "WebHostModel", name := "isIdle", desc := "(LWebHostModel$Connection;)Z" } : Jvm.MethodName)) ∈ lw_all := lw_g (lw_at lw_m9 114 rfl) rfl
theorem q2191 : (Jvm.Cond.static ({ cls := "WebHostModel", name := "isIdle", desc := "(LWebHostModel$Connection;)Z" } : Jvm.MethodName)) ∈ lw_all := lw_g (lw_at lw_m9 115 rfl) rfl
theorem q2192 : (Jvm.Cond.code ({ cls := "WebHostModel", name := "isIdle", desc := "(LWebHostModel$Connection;)Z" } : Jvm.MethodName) prog_17_method_66_code (1 : Nat) (Option.some Jvm.ClassFile.FieldType.boolean)) ∈ lw_all := lw_g (lw_at lw_m9 116 rfl) rfl
theorem q2193 : (Jvm.Cond.methodLink "WebHostModel" (425 : Nat) ({ cls := "WebHostModel$Connection", name := "left", desc := "(I)I" } : Jvm.MethodName)) ∈ lw_all := lw_g (lw_at lw_m9 117 rfl) rfl
theorem q2194 : (Jvm.Cond.instanceMethod ({ cls := "WebHostModel$Connection", name := "left", desc := "(I)I" } : Jvm.MethodName)) ∈ lw_all := lw_g (lw_at lw_m9 118 rfl) rfl
theorem q2195 : (Jvm.Cond.selects "WebHostModel$Connection" ({ cls := "WebHostModel$Connection", name := "left", desc := "(I)I" } : Jvm.MethodName) ({ cls := "WebHostModel$Connection", name := "left", desc := "(I)I" } : Jvm.MethodName)) ∈ lw_all := lw_g (lw_at lw_m9 119 rfl) rfl
theorem q2196 : (Jvm.Cond.code ({ cls := "WebHostModel$Connection", name := "left", desc := "(I)I" } : Jvm.MethodName) prog_18_method_3_code (2 : Nat) (Option.some Jvm.ClassFile.FieldType.int)) ∈ lw_all := lw_g (lw_at lw_m9 120 rfl) rfl
theorem q2197 : (Jvm.Cond.methodLink "WebHostModel$Connection" (32 : Nat) ({ cls := "WebHostModel$Connection", name := "behind", desc := "()I" } : Jvm.MethodName)) ∈ lw_all := lw_g (lw_at lw_m9 121 rfl) rfl
theorem q2198 : (Jvm.Cond.instanceMethod ({ cls := "WebHostModel$Connection", name := "behind", desc := "()I" } : Jvm.MethodName)) ∈ lw_all := lw_g (lw_at lw_m9 122 rfl) rfl
theorem q2199 : (Jvm.Cond.selects "WebHostModel$Connection" ({ cls := "WebHostModel$Connection", name := "behind", desc := "()I" } : Jvm.MethodName) ({ cls := "WebHostModel$Connection", name := "behind", desc := "()I" } : Jvm.MethodName)) ∈ lw_all := lw_g (lw_at lw_m9 123 rfl) rfl
theorem q2200 : (Jvm.Cond.code ({ cls := "WebHostModel$Connection", name := "behind", desc := "()I" } : Jvm.MethodName) prog_18_method_2_code (1 : Nat) (Option.some Jvm.ClassFile.FieldType.int)) ∈ lw_all := lw_g (lw_at lw_m9 124 rfl) rfl
theorem q2201 : (Jvm.Cond.constantLong "WebHostModel" (569 : Nat) (30000 : Int64)) ∈ lw_all := lw_g (lw_at lw_m9 125 rfl) rfl
theorem q2202 : (Jvm.Cond.methodLink "WebHostModel" (548 : Nat) ({ cls := "java/lang/Math", name := "max", desc := "(JJ)J" } : Jvm.MethodName)) ∈ lw_all := lw_g (lw_at lw_m9 126 rfl) rfl
theorem q2203 : (Jvm.Cond.static ({ cls := "java/lang/Math", name := "max", desc := "(JJ)J" } : Jvm.MethodName)) ∈ lw_all := lw_g (lw_at lw_m9 127 rfl) rfl
theorem q2204 : (Jvm.Cond.code ({ cls := "java/lang/Math", name := "max", desc := "(JJ)J" } : Jvm.MethodName) prog_23_method_66_code (4 : Nat) (Option.some Jvm.ClassFile.FieldType.long)) ∈ lw_all := lw_g (lw_at lw_m9 128 rfl) rfl
theorem q2205 : (Jvm.Cond.methodLink "WebHostModel" (585 : Nat) ({ cls := "WebHostModel", name := "askAgain", desc := "(LWebHostModel$Packet;)V" } : Jvm.MethodName)) ∈ lw_all := lw_g (lw_at lw_m9 129 rfl) rfl
theorem q2206 : (Jvm.Cond.privateMethod ({ cls := "WebHostModel", name := "askAgain", desc := "(LWebHostModel$Packet;)V" } : Jvm.MethodName)) ∈ lw_tbl := lw_at lw_m9 130 rfl
theorem q2207 : (Jvm.Cond.instanceMethod ({ cls := "WebHostModel", name := "askAgain", desc := "(LWebHostModel$Packet;)V" } : Jvm.MethodName)) ∈ lw_all := lw_g (lw_at lw_m9 131 rfl) rfl
theorem q2208 : (Jvm.Cond.code ({ cls := "WebHostModel", name := "askAgain", desc := "(LWebHostModel$Packet;)V" } : Jvm.MethodName) prog_17_method_27_code (2 : Nat) (Option.none : Option Jvm.ClassFile.FieldType)) ∈ lw_all := lw_g (lw_at lw_m9 132 rfl) rfl
theorem q2209 : (Jvm.Cond.methodLink "WebHostModel" (237 : Nat) ({ cls := "WebHostModel", name := "ask", desc := "(I)V" } : Jvm.MethodName)) ∈ lw_all := lw_g (lw_at lw_m9 133 rfl) rfl
theorem q2210 : (Jvm.Cond.privateMethod ({ cls := "WebHostModel", name := "ask", desc := "(I)V" } : Jvm.MethodName)) ∈ lw_tbl := lw_at lw_m9 134 rfl
theorem q2211 : (Jvm.Cond.instanceMethod ({ cls := "WebHostModel", name := "ask", desc := "(I)V" } : Jvm.MethodName)) ∈ lw_all := lw_g (lw_at lw_m9 135 rfl) rfl
theorem q2212 : (Jvm.Cond.code ({ cls := "WebHostModel", name := "ask", desc := "(I)V" } : Jvm.MethodName) prog_17_method_22_code (2 : Nat) (Option.none : Option Jvm.ClassFile.FieldType)) ∈ lw_all := lw_g (lw_at lw_m9 136 rfl) rfl
theorem q2213 : (Jvm.Cond.methodLink "WebHostModel" (202 : Nat) ({ cls := "WebHostModel", name := "arpFrame", desc := "(IIIIII)V" } : Jvm.MethodName)) ∈ lw_all := lw_g (lw_at lw_m9 137 rfl) rfl
theorem q2214 : (Jvm.Cond.privateMethod ({ cls := "WebHostModel", name := "arpFrame", desc := "(IIIIII)V" } : Jvm.MethodName)) ∈ lw_tbl := lw_at lw_m9 138 rfl
theorem q2215 : (Jvm.Cond.instanceMethod ({ cls := "WebHostModel", name := "arpFrame", desc := "(IIIIII)V" } : Jvm.MethodName)) ∈ lw_all := lw_g (lw_at lw_m9 139 rfl) rfl
theorem q2216 : (Jvm.Cond.code ({ cls := "WebHostModel", name := "arpFrame", desc := "(IIIIII)V" } : Jvm.MethodName) prog_17_method_21_code (7 : Nat) (Option.none : Option Jvm.ClassFile.FieldType)) ∈ lw_all := lw_g (lw_at lw_m9 140 rfl) rfl
theorem q2217 : (Jvm.Cond.constant "WebHostModel" (201 : Nat) (67584 : Int32)) ∈ lw_all := lw_g (lw_at lw_m9 141 rfl) rfl
theorem q2218 : (Jvm.Cond.methodLink "WebHostModel" (160 : Nat) ({ cls := "WebHostModel", name := "put", desc := "(III)V" } : Jvm.MethodName)) ∈ lw_all := lw_g (lw_at lw_m9 142 rfl) rfl
theorem q2219 : (Jvm.Cond.privateMethod ({ cls := "WebHostModel", name := "put", desc := "(III)V" } : Jvm.MethodName)) ∈ lw_tbl := lw_at lw_m9 143 rfl
theorem q2220 : (Jvm.Cond.instanceMethod ({ cls := "WebHostModel", name := "put", desc := "(III)V" } : Jvm.MethodName)) ∈ lw_all := lw_g (lw_at lw_m9 144 rfl) rfl
theorem q2221 : (Jvm.Cond.code ({ cls := "WebHostModel", name := "put", desc := "(III)V" } : Jvm.MethodName) prog_17_method_13_code (5 : Nat) (Option.none : Option Jvm.ClassFile.FieldType)) ∈ lw_all := lw_g (lw_at lw_m9 145 rfl) rfl
theorem q2222 : (Jvm.Cond.methodLink "WebHostModel" (197 : Nat) ({ cls := "WebHostModel", name := "send", desc := "(IIII)V" } : Jvm.MethodName)) ∈ lw_all := lw_g (lw_at lw_m9 146 rfl) rfl
theorem q2223 : (Jvm.Cond.privateMethod ({ cls := "WebHostModel", name := "send", desc := "(IIII)V" } : Jvm.MethodName)) ∈ lw_tbl := lw_at lw_m9 147 rfl
theorem q2224 : (Jvm.Cond.instanceMethod ({ cls := "WebHostModel", name := "send", desc := "(IIII)V" } : Jvm.MethodName)) ∈ lw_all := lw_g (lw_at lw_m9 148 rfl) rfl
theorem q2225 : (Jvm.Cond.code ({ cls := "WebHostModel", name := "send", desc := "(IIII)V" } : Jvm.MethodName) prog_17_method_14_code (8 : Nat) (Option.none : Option Jvm.ClassFile.FieldType)) ∈ lw_all := lw_g (lw_at lw_m9 149 rfl) rfl
theorem q2226 : (Jvm.Cond.methodLink "WebHostModel" (164 : Nat) ({ cls := "java/lang/Math", name := "max", desc := "(II)I" } : Jvm.MethodName)) ∈ lw_all := lw_g (lw_at lw_m9 150 rfl) rfl
theorem q2227 : (Jvm.Cond.methodLink "WebHostModel" (589 : Nat) ({ cls := "WebHostModel", name := "runOut", desc := "(LWebHostModel$Connection;)V" } : Jvm.MethodName)) ∈ lw_all := lw_g (lw_at lw_m9 151 rfl) rfl
theorem q2228 : (Jvm.Cond.privateMethod ({ cls := "WebHostModel", name := "runOut", desc := "(LWebHostModel$Connection;)V" } : Jvm.MethodName)) ∈ lw_tbl := lw_at lw_m9 152 rfl
theorem q2229 : (Jvm.Cond.instanceMethod ({ cls := "WebHostModel", name := "runOut", desc := "(LWebHostModel$Connection;)V" } : Jvm.MethodName)) ∈ lw_all := lw_g (lw_at lw_m9 153 rfl) rfl
theorem q2230 : (Jvm.Cond.code ({ cls := "WebHostModel", name := "runOut", desc := "(LWebHostModel$Connection;)V" } : Jvm.MethodName) prog_17_method_65_code (2 : Nat) (Option.none : Option Jvm.ClassFile.FieldType)) ∈ lw_all := lw_g (lw_at lw_m9 154 rfl) rfl
theorem q2231 : (Jvm.Cond.methodLink "WebHostModel" (339 : Nat) ({ cls := "WebHostModel$Connection", name := "open", desc := "()I" } : Jvm.MethodName)) ∈ lw_all := lw_g (lw_at lw_m9 155 rfl) rfl
theorem q2232 : (Jvm.Cond.instanceMethod ({ cls := "WebHostModel$Connection", name := "open", desc := "()I" } : Jvm.MethodName)) ∈ lw_all := lw_g (lw_at lw_m9 156 rfl) rfl
theorem q2233 : (Jvm.Cond.selects "WebHostModel$Connection" ({ cls := "WebHostModel$Connection", name := "open", desc := "()I" } : Jvm.MethodName) ({ cls := "WebHostModel$Connection", name := "open", desc := "()I" } : Jvm.MethodName)) ∈ lw_all := lw_g (lw_at lw_m9 157 rfl) rfl
theorem q2234 : (Jvm.Cond.code ({ cls := "WebHostModel$Connection", name := "open", desc := "()I" } : Jvm.MethodName) prog_18_method_5_code (1 : Nat) (Option.some Jvm.ClassFile.FieldType.int)) ∈ lw_all := lw_g (lw_at lw_m9 158 rfl) rfl
theorem q2235 : (Jvm.Cond.methodLink "WebHostModel$Connection" (49 : Nat) ({ cls := "WebHostModel$Connection", name := "held", desc := "()I" } : Jvm.MethodName)) ∈ lw_all := lw_g (lw_at lw_m9 159 rfl) rfl
theorem q2236 : (Jvm.Cond.instanceMethod ({ cls := "WebHostModel$Connection", name := "held", desc := "()I" } : Jvm.MethodName)) ∈ lw_all := lw_g (lw_at lw_m9 160 rfl) rfl
theorem q2237 : (Jvm.Cond.selects "WebHostModel$Connection" ({ cls := "WebHostModel$Connection", name := "held", desc := "()I" } : Jvm.MethodName) ({ cls := "WebHostModel$Connection", name := "held", desc := "()I" } : Jvm.MethodName)) ∈ lw_all := lw_g (lw_at lw_m9 161 rfl) rfl
theorem q2238 : (Jvm.Cond.code ({ cls := "WebHostModel$Connection", name := "held", desc := "()I" } : Jvm.MethodName) prog_18_method_4_code (1 : Nat) (Option.some Jvm.ClassFile.FieldType.int)) ∈ lw_all := lw_g (lw_at lw_m9 162 rfl) rfl
theorem q2239 : (Jvm.Cond.methodLink "WebHostModel" (329 : Nat) ({ cls := "WebHostModel", name := "segmentOut", desc := "(IIIIIIIII)V" } : Jvm.MethodName)) ∈ lw_all := lw_g (lw_at lw_m9 163 rfl) rfl
theorem q2240 : (Jvm.Cond.privateMethod ({ cls := "WebHostModel", name := "segmentOut", desc := "(IIIIIIIII)V" } : Jvm.MethodName)) ∈ lw_tbl := lw_at lw_m9 164 rfl
theorem q2241 : (Jvm.Cond.instanceMethod ({ cls := "WebHostModel", name := "segmentOut", desc := "(IIIIIIIII)V" } : Jvm.MethodName)) ∈ lw_all := lw_g (lw_at lw_m9 165 rfl) rfl
theorem q2242 : (Jvm.Cond.code ({ cls := "WebHostModel", name := "segmentOut", desc := "(IIIIIIIII)V" } : Jvm.MethodName) prog_17_method_40_code (11 : Nat) (Option.none : Option Jvm.ClassFile.FieldType)) ∈ lw_all := lw_g (lw_at lw_m9 166 rfl) rfl
theorem q2243 : (Jvm.Cond.constant "WebHostModel" (328 : Nat) (33818036 : Int32)) ∈ lw_all := lw_g (lw_at lw_m9 167 rfl) rfl
theorem q2244 : (Jvm.Cond.methodLink "WebHostModel" (285 : Nat) ({ cls := "WebHostModel", name := "pseudo", desc := "(III)J" } : Jvm.MethodName)) ∈ lw_all := lw_g (lw_at lw_m9 168 rfl) rfl
theorem q2245 : (Jvm.Cond.privateMethod ({ cls := "WebHostModel", name := "pseudo", desc := "(III)J" } : Jvm.MethodName)) ∈ lw_tbl := lw_at lw_m9 169 rfl
theorem q2246 : (Jvm.Cond.instanceMethod ({ cls := "WebHostModel", name := "pseudo", desc := "(III)J" } : Jvm.MethodName)) ∈ lw_all := lw_g (lw_at lw_m9 170 rfl) rfl
theorem q2247 : (Jvm.Cond.code ({ cls := "WebHostModel", name := "pseudo", desc := "(III)J" } : Jvm.MethodName) prog_17_method_36_code (4 : Nat) (Option.some Jvm.ClassFile.FieldType.long)) ∈ lw_all := lw_g (lw_at lw_m9 171 rfl) rfl
theorem q2248 : (Jvm.Cond.constantLong "WebHostModel" (280 : Nat) (6 : Int64)) ∈ lw_all := lw_g (lw_at lw_m9 172 rfl) rfl
theorem q2249 : (Jvm.Cond.methodLink "WebHostModel" (216 : Nat) ({ cls := "WebHostModel", name := "added", desc := "([BIIJ)J" } : Jvm.MethodName)) ∈ lw_all := lw_g (lw_at lw_m9 173 rfl) rfl
theorem q2250 : (Jvm.Cond.static ({ cls := "WebHostModel", name := "added", desc := "([BIIJ)J" } : Jvm.MethodName)) ∈ lw_all := lw_g (lw_at lw_m9 174 rfl) rfl
theorem q2251 : (Jvm.Cond.code ({ cls := "WebHostModel", name := "added", desc := "([BIIJ)J" } : Jvm.MethodName) prog_17_method_16_code (8 : Nat) (Option.some Jvm.ClassFile.FieldType.long)) ∈ lw_all := lw_g (lw_at lw_m9 175 rfl) rfl
theorem q2252 : (Jvm.Cond.methodLink "WebHostModel" (220 : Nat) ({ cls := "WebHostModel", name := "sixteen", desc := "(J)I" } : Jvm.MethodName)) ∈ lw_all := lw_g (lw_at lw_m9 176 rfl) rfl
theorem q2253 : (Jvm.Cond.static ({ cls := "WebHostModel", name := "sixteen", desc := "(J)I" } : Jvm.MethodName)) ∈ lw_all := lw_g (lw_at lw_m9 177 rfl) rfl
theorem q2254 : (Jvm.Cond.code ({ cls := "WebHostModel", name := "sixteen", desc := "(J)I" } : Jvm.MethodName) prog_17_method_15_code (4 : Nat) (Option.some Jvm.ClassFile.FieldType.int)) ∈ lw_all := lw_g (lw_at lw_m9 178 rfl) rfl
theorem q2255 : (Jvm.Cond.constantLong "WebHostModel" (169 : Nat) (65535 : Int64)) ∈ lw_all := lw_g (lw_at lw_m9 179 rfl) rfl
theorem q2256 : (Jvm.Cond.methodLink "WebHostModel" (274 : Nat) ({ cls := "WebHostModel", name := "ipOut", desc := "(III)V" } : Jvm.MethodName)) ∈ lw_all := lw_g (lw_at lw_m9 180 rfl) rfl
theorem q2257 : (Jvm.Cond.privateMethod ({ cls := "WebHostModel", name := "ipOut", desc := "(III)V" } : Jvm.MethodName)) ∈ lw_tbl := lw_at lw_m9 181 rfl
theorem q2258 : (Jvm.Cond.instanceMethod ({ cls := "WebHostModel", name := "ipOut", desc := "(III)V" } : Jvm.MethodName)) ∈ lw_all := lw_g (lw_at lw_m9 182 rfl) rfl
theorem q2259 : (Jvm.Cond.code ({ cls := "WebHostModel", name := "ipOut", desc := "(III)V" } : Jvm.MethodName) prog_17_method_26_code (9 : Nat) (Option.none : Option Jvm.ClassFile.FieldType)) ∈ lw_all := lw_g (lw_at lw_m9 183 rfl) rfl
theorem q2260 : (Jvm.Cond.methodLink "WebHostModel" (224 : Nat) ({ cls := "WebHostModel", name := "net", desc := "(I)I" } : Jvm.MethodName)) ∈ lw_all := lw_g (lw_at lw_m9 184 rfl) rfl
theorem q2261 : (Jvm.Cond.privateMethod ({ cls := "WebHostModel", name := "net", desc := "(I)I" } : Jvm.MethodName)) ∈ lw_tbl := lw_at lw_m9 185 rfl
theorem q2262 : (Jvm.Cond.instanceMethod ({ cls := "WebHostModel", name := "net", desc := "(I)I" } : Jvm.MethodName)) ∈ lw_all := lw_g (lw_at lw_m9 186 rfl) rfl
theorem q2263 : (Jvm.Cond.code ({ cls := "WebHostModel", name := "net", desc := "(I)I" } : Jvm.MethodName) prog_17_method_10_code (2 : Nat) (Option.some Jvm.ClassFile.FieldType.int)) ∈ lw_all := lw_g (lw_at lw_m9 187 rfl) rfl
theorem q2264 : (Jvm.Cond.methodLink "WebHostModel" (227 : Nat) ({ cls := "WebHostModel", name := "counting", desc := "(I)LWebHostModel$Entry;" } : Jvm.MethodName)) ∈ lw_all := lw_g (lw_at lw_m9 188 rfl) rfl
theorem q2265 : (Jvm.Cond.privateMethod ({ cls := "WebHostModel", name := "counting", desc := "(I)LWebHostModel$Entry;" } : Jvm.MethodName)) ∈ lw_tbl := lw_at lw_m9 189 rfl
theorem q2266 : (Jvm.Cond.instanceMethod ({ cls := "WebHostModel", name := "counting", desc := "(I)LWebHostModel$Entry;" } : Jvm.MethodName)) ∈ lw_all := lw_g (lw_at lw_m9 190 rfl) rfl
theorem q2267 : (Jvm.Cond.code ({ cls := "WebHostModel", name := "counting", desc := "(I)LWebHostModel$Entry;" } : Jvm.MethodName) prog_17_method_18_code (3 : Nat) (Option.some (Jvm.ClassFile.FieldType.object "WebHostModel$Entry"))) ∈ lw_all := lw_g (lw_at lw_m9 191 rfl) rfl
theorem q2268 : (Jvm.Cond.methodLink "WebHostModel" (174 : Nat) ({ cls := "WebHostModel", name := "entry", desc := "(I)LWebHostModel$Entry;" } : Jvm.MethodName)) ∈ lw_all := lw_g (lw_at lw_m9 192 rfl) rfl
theorem q2269 : (Jvm.Cond.privateMethod ({ cls := "WebHostModel", name := "entry", desc := "(I)LWebHostModel$Entry;" } : Jvm.MethodName)) ∈ lw_tbl := lw_at lw_m9 193 rfl
theorem q2270 : (Jvm.Cond.instanceMethod ({ cls := "WebHostModel", name := "entry", desc := "(I)LWebHostModel$Entry;" } : Jvm.MethodName)) ∈ lw_all := lw_g (lw_at lw_m9 194 rfl) rfl
theorem q2271 : (Jvm.Cond.code ({ cls := "WebHostModel", name := "entry", desc := "(I)LWebHostModel$Entry;" } : Jvm.MethodName) prog_17_method_17_code (3 : Nat) (Option.some (Jvm.ClassFile.FieldType.object "WebHostModel$Entry"))) ∈ lw_all := lw_g (lw_at lw_m9 195 rfl) rfl
theorem q2272 : (Jvm.Cond.constant "WebHostModel" (181 : Nat) (60000 : Int32)) ∈ lw_all := lw_g (lw_at lw_m9 196 rfl) rfl
theorem q2273 : (Jvm.Cond.methodLink "WebHostModel" (187 : Nat) ({ cls := "WebHostModel", name := "packet", desc := "(I)LWebHostModel$Packet;" } : Jvm.MethodName)) ∈ lw_all := lw_g (lw_at lw_m9 197 rfl) rfl
theorem q2274 : (Jvm.Cond.privateMethod ({ cls := "WebHostModel", name := "packet", desc := "(I)LWebHostModel$Packet;" } : Jvm.MethodName)) ∈ lw_tbl := lw_at lw_m9 198 rfl
theorem q2275 : (Jvm.Cond.instanceMethod ({ cls := "WebHostModel", name := "packet", desc := "(I)LWebHostModel$Packet;" } : Jvm.MethodName)) ∈ lw_all := lw_g (lw_at lw_m9 199 rfl) rfl
theorem q2276 : (Jvm.Cond.code ({ cls := "WebHostModel", name := "packet", desc := "(I)LWebHostModel$Packet;" } : Jvm.MethodName) prog_17_method_19_code (3 : Nat) (Option.some (Jvm.ClassFile.FieldType.object "WebHostModel$Packet"))) ∈ lw_all := lw_g (lw_at lw_m9 200 rfl) rfl
theorem q2277 : (Jvm.Cond.methodLink "WebHostModel" (502 : Nat) ({ cls := "WebHostModel", name := "gone", desc := "(LWebHostModel$Connection;)V" } : Jvm.MethodName)) ∈ lw_all := lw_g (lw_at lw_m9 201 rfl) rfl
theorem q2278 : (Jvm.Cond.privateMethod ({ cls := "WebHostModel", name := "gone", desc := "(LWebHostModel$Connection;)V" } : Jvm.MethodName)) ∈ lw_tbl := lw_at lw_m9 202 rfl
theorem q2279 : (Jvm.Cond.instanceMethod ({ cls := "WebHostModel", name := "gone", desc := "(LWebHostModel$Connection;)V" } : Jvm.MethodName)) ∈ lw_all := lw_g (lw_at lw_m9 203 rfl) rfl
theorem q2280 : (Jvm.Cond.code ({ cls := "WebHostModel", name := "gone", desc := "(LWebHostModel$Connection;)V" } : Jvm.MethodName) prog_17_method_54_code (2 : Nat) (Option.none : Option Jvm.ClassFile.FieldType)) ∈ lw_all := lw_g (lw_at lw_m9 204 rfl) rfl
theorem q2281 : (Jvm.Cond.methodLink "WebHostModel" (411 : Nat) ({ cls := "java/lang/Math", name := "min", desc := "(II)I" } : Jvm.MethodName)) ∈ lw_all := lw_g (lw_at lw_m9 205 rfl) rfl
theorem q2282 : (Jvm.Cond.methodLink "WebHostModel" (485 : Nat) ({ cls := "WebHostModel", name := "synAck", desc := "(LWebHostModel$Connection;)V" } : Jvm.MethodName)) ∈ lw_all := lw_g (lw_at lw_m9 206 rfl) rfl
theorem q2283 : (Jvm.Cond.privateMethod ({ cls := "WebHostModel", name := "synAck", desc := "(LWebHostModel$Connection;)V" } : Jvm.MethodName)) ∈ lw_tbl := lw_at lw_m9 207 rfl
theorem q2284 : (Jvm.Cond.instanceMethod ({ cls := "WebHostModel", name := "synAck", desc := "(LWebHostModel$Connection;)V" } : Jvm.MethodName)) ∈ lw_all := lw_g (lw_at lw_m9 208 rfl) rfl
theorem q2285 : (Jvm.Cond.code ({ cls := "WebHostModel", name := "synAck", desc := "(LWebHostModel$Connection;)V" } : Jvm.MethodName) prog_17_method_44_code (2 : Nat) (Option.none : Option Jvm.ClassFile.FieldType)) ∈ lw_all := lw_g (lw_at lw_m9 209 rfl) rfl
theorem q2286 : (Jvm.Cond.methodLink "WebHostModel" (351 : Nat) ({ cls := "WebHostModel", name := "pays", desc := "(LWebHostModel$Connection;)V" } : Jvm.MethodName)) ∈ lw_all := lw_g (lw_at lw_m9 210 rfl) rfl
theorem q2287 : (Jvm.Cond.privateMethod ({ cls := "WebHostModel", name := "pays", desc := "(LWebHostModel$Connection;)V" } : Jvm.MethodName)) ∈ lw_tbl := lw_at lw_m9 211 rfl
theorem q2288 : (Jvm.Cond.instanceMethod ({ cls := "WebHostModel", name := "pays", desc := "(LWebHostModel$Connection;)V" } : Jvm.MethodName)) ∈ lw_all := lw_g (lw_at lw_m9 212 rfl) rfl
theorem q2289 : (Jvm.Cond.code ({ cls := "WebHostModel", name := "pays", desc := "(LWebHostModel$Connection;)V" } : Jvm.MethodName) prog_17_method_42_code (2 : Nat) (Option.none : Option Jvm.ClassFile.FieldType)) ∈ lw_all := lw_g (lw_at lw_m9 213 rfl) rfl
theorem q2290 : (Jvm.Cond.methodLink "WebHostModel" (357 : Nat) ({ cls := "WebHostModel", name := "noted", desc := "(LWebHostModel$Connection;I)V" } : Jvm.MethodName)) ∈ lw_all := lw_g (lw_at lw_m9 214 rfl) rfl
theorem q2291 : (Jvm.Cond.privateMethod ({ cls := "WebHostModel", name := "noted", desc := "(LWebHostModel$Connection;I)V" } : Jvm.MethodName)) ∈ lw_tbl := lw_at lw_m9 215 rfl
theorem q2292 : (Jvm.Cond.instanceMethod ({ cls := "WebHostModel", name := "noted", desc := "(LWebHostModel$Connection;I)V" } : Jvm.MethodName)) ∈ lw_all := lw_g (lw_at lw_m9 216 rfl) rfl
theorem q2293 : (Jvm.Cond.code ({ cls := "WebHostModel", name := "noted", desc := "(LWebHostModel$Connection;I)V" } : Jvm.MethodName) prog_17_method_45_code (3 : Nat) (Option.none : Option Jvm.ClassFile.FieldType)) ∈ lw_all := lw_g (lw_at lw_m9 217 rfl) rfl
theorem q2294 : (Jvm.Cond.methodLink "WebHostModel" (363 : Nat) ({ cls := "WebHostModel", name := "before", desc := "(II)Z" } : Jvm.MethodName)) ∈ lw_all := lw_g (lw_at lw_m9 218 rfl) rfl
theorem q2295 : (Jvm.Cond.static ({ cls := "WebHostModel", name := "before", desc := "(II)Z" } : Jvm.MethodName)) ∈ lw_all := lw_g (lw_at lw_m9 219 rfl) rfl
theorem q2296 : (Jvm.Cond.code ({ cls := "WebHostModel", name := "before", desc := "(II)Z" } : Jvm.MethodName) prog_17_method_32_code (2 : Nat) (Option.some Jvm.ClassFile.FieldType.boolean)) ∈ lw_all := lw_g (lw_at lw_m9 220 rfl) rfl
theorem q2297 : (Jvm.Cond.methodLink "WebHostModel" (379 : Nat) ({ cls := "WebHostModel", name := "timerSet", desc := "(LWebHostModel$Connection;)V" } : Jvm.MethodName)) ∈ lw_all := lw_g (lw_at lw_m9 221 rfl) rfl
theorem q2298 : (Jvm.Cond.privateMethod ({ cls := "WebHostModel", name := "timerSet", desc := "(LWebHostModel$Connection;)V" } : Jvm.MethodName)) ∈ lw_tbl := lw_at lw_m9 222 rfl
theorem q2299 : (Jvm.Cond.instanceMethod ({ cls := "WebHostModel", name := "timerSet", desc := "(LWebHostModel$Connection;)V" } : Jvm.MethodName)) ∈ lw_all := lw_g (lw_at lw_m9 223 rfl) rfl
theorem q2300 : (Jvm.Cond.code ({ cls := "WebHostModel", name := "timerSet", desc := "(LWebHostModel$Connection;)V" } : Jvm.MethodName) prog_17_method_46_code (2 : Nat) (Option.none : Option Jvm.ClassFile.FieldType)) ∈ lw_all := lw_g (lw_at lw_m9 224 rfl) rfl
theorem q2301 : (Jvm.Cond.methodLink "WebHostModel" (435 : Nat) ({ cls := "WebHostModel", name := "one", desc := "(LWebHostModel$Connection;I)V" } : Jvm.MethodName)) ∈ lw_all := lw_g (lw_at lw_m9 225 rfl) rfl
theorem q2302 : (Jvm.Cond.privateMethod ({ cls := "WebHostModel", name := "one", desc := "(LWebHostModel$Connection;I)V" } : Jvm.MethodName)) ∈ lw_tbl := lw_at lw_m9 226 rfl
theorem q2303 : (Jvm.Cond.instanceMethod ({ cls := "WebHostModel", name := "one", desc := "(LWebHostModel$Connection;I)V" } : Jvm.MethodName)) ∈ lw_all := lw_g (lw_at lw_m9 227 rfl) rfl
theorem q2304 : (Jvm.Cond.code ({ cls := "WebHostModel", name := "one", desc := "(LWebHostModel$Connection;I)V" } : Jvm.MethodName) prog_17_method_50_code (6 : Nat) (Option.none : Option Jvm.ClassFile.FieldType)) ∈ lw_all := lw_g (lw_at lw_m9 228 rfl) rfl
theorem q2305 : (Jvm.Cond.methodLink "WebHostModel" (414 : Nat) ({ cls := "WebHostModel", name := "dataWithin", desc := "(LWebHostModel$Connection;I)I" } : Jvm.MethodName)) ∈ lw_all := lw_g (lw_at lw_m9 229 rfl) rfl
theorem q2306 : (Jvm.Cond.static ({ cls := "WebHostModel", name := "dataWithin", desc := "(LWebHostModel$Connection;I)I" } : Jvm.MethodName)) ∈ lw_all := lw_g (lw_at lw_m9 230 rfl) rfl
theorem q2307 : (Jvm.Cond.code ({ cls := "WebHostModel", name := "dataWithin", desc := "(LWebHostModel$Connection;I)I" } : Jvm.MethodName) prog_17_method_49_code (3 : Nat) (Option.some Jvm.ClassFile.FieldType.int)) ∈ lw_all := lw_g (lw_at lw_m9 231 rfl) rfl
theorem q2308 : (Jvm.Cond.methodLink "WebHostModel" (402 : Nat) ({ cls := "WebHostModel$Connection", name := "behind", desc := "()I" } : Jvm.MethodName)) ∈ lw_all := lw_g (lw_at lw_m9 232 rfl) rfl
theorem q2309 : (Jvm.Cond.methodLink "WebHostModel" (421 : Nat) ({ cls := "WebHostModel", name := "dataOut", desc := "(LWebHostModel$Connection;IIZ)V" } : Jvm.MethodName)) ∈ lw_all := lw_g (lw_at lw_m9 233 rfl) rfl
theorem q2310 : (Jvm.Cond.privateMethod ({ cls := "WebHostModel", name := "dataOut", desc := "(LWebHostModel$Connection;IIZ)V" } : Jvm.MethodName)) ∈ lw_tbl := lw_at lw_m9 234 rfl
theorem q2311 : (Jvm.Cond.instanceMethod ({ cls := "WebHostModel", name := "dataOut", desc := "(LWebHostModel$Connection;IIZ)V" } : Jvm.MethodName)) ∈ lw_all := lw_g (lw_at lw_m9 235 rfl) rfl
theorem q2312 : (Jvm.Cond.code ({ cls := "WebHostModel", name := "dataOut", desc := "(LWebHostModel$Connection;IIZ)V" } : Jvm.MethodName) prog_17_method_48_code (6 : Nat) (Option.none : Option Jvm.ClassFile.FieldType)) ∈ lw_all := lw_g (lw_at lw_m9 236 rfl) rfl
theorem q2313 : (Jvm.Cond.methodLink "WebHostModel" (398 : Nat) ({ cls := "WebHostModel", name := "toSend", desc := "(LWebHostModel$Connection;I)B" } : Jvm.MethodName)) ∈ lw_all := lw_g (lw_at lw_m9 237 rfl) rfl
theorem q2314 : (Jvm.Cond.privateMethod ({ cls := "WebHostModel", name := "toSend", desc := "(LWebHostModel$Connection;I)B" } : Jvm.MethodName)) ∈ lw_tbl := lw_at lw_m9 238 rfl
theorem q2315 : (Jvm.Cond.instanceMethod ({ cls := "WebHostModel", name := "toSend", desc := "(LWebHostModel$Connection;I)B" } : Jvm.MethodName)) ∈ lw_all := lw_g (lw_at lw_m9 239 rfl) rfl
theorem q2316 : (Jvm.Cond.code ({ cls := "WebHostModel", name := "toSend", desc := "(LWebHostModel$Connection;I)B" } : Jvm.MethodName) prog_17_method_47_code (4 : Nat) (Option.some Jvm.ClassFile.FieldType.byte)) ∈ lw_all := lw_g (lw_at lw_m10 0 rfl) rfl
theorem q2317 : (Jvm.Cond.methodLink "WebHostModel" (592 : Nat) ({ cls := "WebHostModel", name := "lifeEnds", desc := "(LWebHostModel$Connection;)V" } : Jvm.MethodName)) ∈ lw_all := lw_g (lw_at lw_m10 1 rfl) rfl
theorem q2318 : (Jvm.Cond.privateMethod ({ cls := "WebHostModel", name := "lifeEnds", desc := "(LWebHostModel$Connection;)V" } : Jvm.MethodName)) ∈ lw_tbl := lw_at lw_m10 2 rfl
theorem q2319 : (Jvm.Cond.instanceMethod ({ cls := "WebHostModel", name := "lifeEnds", desc := "(LWebHostModel$Connection;)V" } : Jvm.MethodName)) ∈ lw_all := lw_g (lw_at lw_m10 3 rfl) rfl
theorem q2320 : (Jvm.Cond.code ({ cls := "WebHostModel", name := "lifeEnds", desc := "(LWebHostModel$Connection;)V" } : Jvm.MethodName) prog_17_method_68_code (2 : Nat) (Option.none : Option Jvm.ClassFile.FieldType)) ∈ lw_all := lw_g (lw_at lw_m10 4 rfl) rfl
theorem q2321 : (Jvm.Cond.methodLink "WebHostModel" (514 : Nat) ({ cls := "WebHostModel", name := "sendAll", desc := "(LWebHostModel$Connection;)V" } : Jvm.MethodName)) ∈ lw_all := lw_g (lw_at lw_m10 5 rfl) rfl
theorem q2322 : (Jvm.Cond.privateMethod ({ cls := "WebHostModel", name := "sendAll", desc := "(LWebHostModel$Connection;)V" } : Jvm.MethodName)) ∈ lw_tbl := lw_at lw_m10 6 rfl
theorem q2323 : (Jvm.Cond.instanceMethod ({ cls := "WebHostModel", name := "sendAll", desc := "(LWebHostModel$Connection;)V" } : Jvm.MethodName)) ∈ lw_all := lw_g (lw_at lw_m10 7 rfl) rfl
theorem q2324 : (Jvm.Cond.code ({ cls := "WebHostModel", name := "sendAll", desc := "(LWebHostModel$Connection;)V" } : Jvm.MethodName) prog_17_method_51_code (8 : Nat) (Option.none : Option Jvm.ClassFile.FieldType)) ∈ lw_all := lw_g (lw_at lw_m10 8 rfl) rfl
theorem q2325 : (Jvm.Cond.methodLink "WebHostModel" (603 : Nat) ({ cls := "WebHostModel", name := "frameIn", desc := "()V" } : Jvm.MethodName)) ∈ lw_all := lw_g (lw_at lw_m10 9 rfl) rfl
theorem q2326 : (Jvm.Cond.privateMethod ({ cls := "WebHostModel", name := "frameIn", desc := "()V" } : Jvm.MethodName)) ∈ lw_tbl := lw_at lw_m10 10 rfl
theorem q2327 : (Jvm.Cond.instanceMethod ({ cls := "WebHostModel", name := "frameIn", desc := "()V" } : Jvm.MethodName)) ∈ lw_all := lw_g (lw_at lw_m10 11 rfl) rfl
theorem q2328 : (Jvm.Cond.code ({ cls := "WebHostModel", name := "frameIn", desc := "()V" } : Jvm.MethodName) prog_17_method_73_code (3 : Nat) (Option.none : Option Jvm.ClassFile.FieldType)) ∈ lw_all := lw_g (lw_at lw_m10 12 rfl) rfl
theorem q2329 : (Jvm.Cond.methodLink "WebHostModel" (210 : Nat) ({ cls := "WebHostModel", name := "trayHalf", desc := "(I)I" } : Jvm.MethodName)) ∈ lw_all := lw_g (lw_at lw_m10 13 rfl) rfl
theorem q2330 : (Jvm.Cond.privateMethod ({ cls := "WebHostModel", name := "trayHalf", desc := "(I)I" } : Jvm.MethodName)) ∈ lw_tbl := lw_at lw_m10 14 rfl
theorem q2331 : (Jvm.Cond.instanceMethod ({ cls := "WebHostModel", name := "trayHalf", desc := "(I)I" } : Jvm.MethodName)) ∈ lw_all := lw_g (lw_at lw_m10 15 rfl) rfl
theorem q2332 : (Jvm.Cond.code ({ cls := "WebHostModel", name := "trayHalf", desc := "(I)I" } : Jvm.MethodName) prog_17_method_24_code (2 : Nat) (Option.some Jvm.ClassFile.FieldType.int)) ∈ lw_all := lw_g (lw_at lw_m10 16 rfl) rfl
theorem q2333 : (Jvm.Cond.methodLink "WebHostModel" (206 : Nat) ({ cls := "WebHostModel", name := "trayWord", desc := "(I)I" } : Jvm.MethodName)) ∈ lw_all := lw_g (lw_at lw_m10 17 rfl) rfl
theorem q2334 : (Jvm.Cond.privateMethod ({ cls := "WebHostModel", name := "trayWord", desc := "(I)I" } : Jvm.MethodName)) ∈ lw_tbl := lw_at lw_m10 18 rfl
theorem q2335 : (Jvm.Cond.instanceMethod ({ cls := "WebHostModel", name := "trayWord", desc := "(I)I" } : Jvm.MethodName)) ∈ lw_all := lw_g (lw_at lw_m10 19 rfl) rfl
theorem q2336 : (Jvm.Cond.code ({ cls := "WebHostModel", name := "trayWord", desc := "(I)I" } : Jvm.MethodName) prog_17_method_25_code (2 : Nat) (Option.some Jvm.ClassFile.FieldType.int)) ∈ lw_all := lw_g (lw_at lw_m10 20 rfl) rfl
theorem q2337 : (Jvm.Cond.methodLink "WebHostModel" (606 : Nat) ({ cls := "WebHostModel", name := "arp", desc := "()V" } : Jvm.MethodName)) ∈ lw_all := lw_g (lw_at lw_m10 21 rfl) rfl
theorem q2338 : (Jvm.Cond.privateMethod ({ cls := "WebHostModel", name := "arp", desc := "()V" } : Jvm.MethodName)) ∈ lw_tbl := lw_at lw_m10 22 rfl
theorem q2339 : (Jvm.Cond.instanceMethod ({ cls := "WebHostModel", name := "arp", desc := "()V" } : Jvm.MethodName)) ∈ lw_all := lw_g (lw_at lw_m10 23 rfl) rfl
theorem q2340 : (Jvm.Cond.code ({ cls := "WebHostModel", name := "arp", desc := "()V" } : Jvm.MethodName) prog_17_method_23_code (6 : Nat) (Option.none : Option Jvm.ClassFile.FieldType)) ∈ lw_all := lw_g (lw_at lw_m10 24 rfl) rfl
theorem q2341 : (Jvm.Cond.methodLink "WebHostModel" (213 : Nat) ({ cls := "WebHostModel", name := "remember", desc := "(III)V" } : Jvm.MethodName)) ∈ lw_all := lw_g (lw_at lw_m10 25 rfl) rfl
theorem q2342 : (Jvm.Cond.privateMethod ({ cls := "WebHostModel", name := "remember", desc := "(III)V" } : Jvm.MethodName)) ∈ lw_tbl := lw_at lw_m10 26 rfl
theorem q2343 : (Jvm.Cond.instanceMethod ({ cls := "WebHostModel", name := "remember", desc := "(III)V" } : Jvm.MethodName)) ∈ lw_all := lw_g (lw_at lw_m10 27 rfl) rfl
theorem q2344 : (Jvm.Cond.code ({ cls := "WebHostModel", name := "remember", desc := "(III)V" } : Jvm.MethodName) prog_17_method_20_code (7 : Nat) (Option.none : Option Jvm.ClassFile.FieldType)) ∈ lw_all := lw_g (lw_at lw_m10 28 rfl) rfl
theorem q2345 : (Jvm.Cond.methodLink "WebHostModel" (609 : Nat) ({ cls := "WebHostModel", name := "ipIn", desc := "()V" } : Jvm.MethodName)) ∈ lw_all := lw_g (lw_at lw_m10 29 rfl) rfl
theorem q2346 : (Jvm.Cond.privateMethod ({ cls := "WebHostModel", name := "ipIn", desc := "()V" } : Jvm.MethodName)) ∈ lw_tbl := lw_at lw_m10 30 rfl
theorem q2347 : (Jvm.Cond.instanceMethod ({ cls := "WebHostModel", name := "ipIn", desc := "()V" } : Jvm.MethodName)) ∈ lw_all := lw_g (lw_at lw_m10 31 rfl) rfl
theorem q2348 : (Jvm.Cond.code ({ cls := "WebHostModel", name := "ipIn", desc := "()V" } : Jvm.MethodName) prog_17_method_28_code (10 : Nat) (Option.none : Option Jvm.ClassFile.FieldType)) ∈ lw_all := lw_g (lw_at lw_m10 32 rfl) rfl
theorem q2349 : (Jvm.Cond.methodLink "WebHostModel" (243 : Nat) ({ cls := "WebHostModel", name := "taken", desc := "(II)V" } : Jvm.MethodName)) ∈ lw_all := lw_g (lw_at lw_m10 33 rfl) rfl
theorem q2350 : (Jvm.Cond.privateMethod ({ cls := "WebHostModel", name := "taken", desc := "(II)V" } : Jvm.MethodName)) ∈ lw_tbl := lw_at lw_m10 34 rfl
theorem q2351 : (Jvm.Cond.instanceMethod ({ cls := "WebHostModel", name := "taken", desc := "(II)V" } : Jvm.MethodName)) ∈ lw_all := lw_g (lw_at lw_m10 35 rfl) rfl
theorem q2352 : (Jvm.Cond.code ({ cls := "WebHostModel", name := "taken", desc := "(II)V" } : Jvm.MethodName) prog_17_method_30_code (3 : Nat) (Option.none : Option Jvm.ClassFile.FieldType)) ∈ lw_all := lw_g (lw_at lw_m10 36 rfl) rfl
theorem q2353 : (Jvm.Cond.methodLink "WebHostModel" (268 : Nat) ({ cls := "WebHostModel", name := "echo", desc := "(I)V" } : Jvm.MethodName)) ∈ lw_all := lw_g (lw_at lw_m10 37 rfl) rfl
theorem q2354 : (Jvm.Cond.privateMethod ({ cls := "WebHostModel", name := "echo", desc := "(I)V" } : Jvm.MethodName)) ∈ lw_tbl := lw_at lw_m10 38 rfl
theorem q2355 : (Jvm.Cond.instanceMethod ({ cls := "WebHostModel", name := "echo", desc := "(I)V" } : Jvm.MethodName)) ∈ lw_all := lw_g (lw_at lw_m10 39 rfl) rfl
theorem q2356 : (Jvm.Cond.code ({ cls := "WebHostModel", name := "echo", desc := "(I)V" } : Jvm.MethodName) prog_17_method_31_code (3 : Nat) (Option.none : Option Jvm.ClassFile.FieldType)) ∈ lw_all := lw_g (lw_at lw_m10 40 rfl) rfl
theorem q2357 : (Jvm.Cond.methodLink "WebHostModel" (271 : Nat) ({ cls := "WebHostModel", name := "tcp", desc := "(I)V" } : Jvm.MethodName)) ∈ lw_all := lw_g (lw_at lw_m10 41 rfl) rfl
theorem q2358 : (Jvm.Cond.privateMethod ({ cls := "WebHostModel", name := "tcp", desc := "(I)V" } : Jvm.MethodName)) ∈ lw_tbl := lw_at lw_m10 42 rfl
theorem q2359 : (Jvm.Cond.instanceMethod ({ cls := "WebHostModel", name := "tcp", desc := "(I)V" } : Jvm.MethodName)) ∈ lw_all := lw_g (lw_at lw_m10 43 rfl) rfl
theorem q2360 : (Jvm.Cond.code ({ cls := "WebHostModel", name := "tcp", desc := "(I)V" } : Jvm.MethodName) prog_17_method_37_code (5 : Nat) (Option.none : Option Jvm.ClassFile.FieldType)) ∈ lw_all := lw_g (lw_at lw_m10 44 rfl) rfl
theorem q2361 : (Jvm.Cond.methodLink "WebHostModel" (277 : Nat) ({ cls := "WebHostModel", name := "half", desc := "(I)I" } : Jvm.MethodName)) ∈ lw_all := lw_g (lw_at lw_m10 45 rfl) rfl
theorem q2362 : (Jvm.Cond.privateMethod ({ cls := "WebHostModel", name := "half", desc := "(I)I" } : Jvm.MethodName)) ∈ lw_tbl := lw_at lw_m10 46 rfl
theorem q2363 : (Jvm.Cond.instanceMethod ({ cls := "WebHostModel", name := "half", desc := "(I)I" } : Jvm.MethodName)) ∈ lw_all := lw_g (lw_at lw_m10 47 rfl) rfl
theorem q2364 : (Jvm.Cond.code ({ cls := "WebHostModel", name := "half", desc := "(I)I" } : Jvm.MethodName) prog_17_method_34_code (2 : Nat) (Option.some Jvm.ClassFile.FieldType.int)) ∈ lw_all := lw_g (lw_at lw_m10 48 rfl) rfl
theorem q2365 : (Jvm.Cond.methodLink "WebHostModel" (295 : Nat) ({ cls := "WebHostModel", name := "wholeWord", desc := "(I)I" } : Jvm.MethodName)) ∈ lw_all := lw_g (lw_at lw_m10 49 rfl) rfl
theorem q2366 : (Jvm.Cond.privateMethod ({ cls := "WebHostModel", name := "wholeWord", desc := "(I)I" } : Jvm.MethodName)) ∈ lw_tbl := lw_at lw_m10 50 rfl
theorem q2367 : (Jvm.Cond.instanceMethod ({ cls := "WebHostModel", name := "wholeWord", desc := "(I)I" } : Jvm.MethodName)) ∈ lw_all := lw_g (lw_at lw_m10 51 rfl) rfl
theorem q2368 : (Jvm.Cond.code ({ cls := "WebHostModel", name := "wholeWord", desc := "(I)I" } : Jvm.MethodName) prog_17_method_35_code (2 : Nat) (Option.some Jvm.ClassFile.FieldType.int)) ∈ lw_all := lw_g (lw_at lw_m10 52 rfl) rfl
theorem q2369 : (Jvm.Cond.methodLink "WebHostModel" (318 : Nat) ({ cls := "WebHostModel", name := "alone", desc := "()V" } : Jvm.MethodName)) ∈ lw_all := lw_g (lw_at lw_m10 53 rfl) rfl
theorem q2370 : (Jvm.Cond.privateMethod ({ cls := "WebHostModel", name := "alone", desc := "()V" } : Jvm.MethodName)) ∈ lw_tbl := lw_at lw_m10 54 rfl
theorem q2371 : (Jvm.Cond.instanceMethod ({ cls := "WebHostModel", name := "alone", desc := "()V" } : Jvm.MethodName)) ∈ lw_all := lw_g (lw_at lw_m10 55 rfl) rfl
theorem q2372 : (Jvm.Cond.code ({ cls := "WebHostModel", name := "alone", desc := "()V" } : Jvm.MethodName) prog_17_method_52_code (3 : Nat) (Option.none : Option Jvm.ClassFile.FieldType)) ∈ lw_all := lw_g (lw_at lw_m10 56 rfl) rfl
theorem q2373 : (Jvm.Cond.methodLink "WebHostModel" (325 : Nat) ({ cls := "WebHostModel", name := "is", desc := "(I)Z" } : Jvm.MethodName)) ∈ lw_all := lw_g (lw_at lw_m10 57 rfl) rfl
theorem q2374 : (Jvm.Cond.privateMethod ({ cls := "WebHostModel", name := "is", desc := "(I)Z" } : Jvm.MethodName)) ∈ lw_tbl := lw_at lw_m10 58 rfl
theorem q2375 : (Jvm.Cond.instanceMethod ({ cls := "WebHostModel", name := "is", desc := "(I)Z" } : Jvm.MethodName)) ∈ lw_all := lw_g (lw_at lw_m10 59 rfl) rfl
theorem q2376 : (Jvm.Cond.code ({ cls := "WebHostModel", name := "is", desc := "(I)Z" } : Jvm.MethodName) prog_17_method_38_code (2 : Nat) (Option.some Jvm.ClassFile.FieldType.boolean)) ∈ lw_all := lw_g (lw_at lw_m10 60 rfl) rfl
theorem q2377 : (Jvm.Cond.methodLink "WebHostModel" (438 : Nat) ({ cls := "WebHostModel", name := "reset", desc := "()V" } : Jvm.MethodName)) ∈ lw_all := lw_g (lw_at lw_m10 61 rfl) rfl
theorem q2378 : (Jvm.Cond.privateMethod ({ cls := "WebHostModel", name := "reset", desc := "()V" } : Jvm.MethodName)) ∈ lw_tbl := lw_at lw_m10 62 rfl
theorem q2379 : (Jvm.Cond.instanceMethod ({ cls := "WebHostModel", name := "reset", desc := "()V" } : Jvm.MethodName)) ∈ lw_all := lw_g (lw_at lw_m10 63 rfl) rfl
theorem q2380 : (Jvm.Cond.code ({ cls := "WebHostModel", name := "reset", desc := "()V" } : Jvm.MethodName) prog_17_method_41_code (1 : Nat) (Option.none : Option Jvm.ClassFile.FieldType)) ∈ lw_all := lw_g (lw_at lw_m10 64 rfl) rfl
theorem q2381 : (Jvm.Cond.methodLink "WebHostModel" (333 : Nat) ({ cls := "WebHostModel", name := "extent", desc := "()I" } : Jvm.MethodName)) ∈ lw_all := lw_g (lw_at lw_m10 65 rfl) rfl
theorem q2382 : (Jvm.Cond.privateMethod ({ cls := "WebHostModel", name := "extent", desc := "()I" } : Jvm.MethodName)) ∈ lw_tbl := lw_at lw_m10 66 rfl
theorem q2383 : (Jvm.Cond.instanceMethod ({ cls := "WebHostModel", name := "extent", desc := "()I" } : Jvm.MethodName)) ∈ lw_all := lw_g (lw_at lw_m10 67 rfl) rfl
theorem q2384 : (Jvm.Cond.code ({ cls := "WebHostModel", name := "extent", desc := "()I" } : Jvm.MethodName) prog_17_method_39_code (1 : Nat) (Option.some Jvm.ClassFile.FieldType.int)) ∈ lw_all := lw_g (lw_at lw_m10 68 rfl) rfl
theorem q2385 : (Jvm.Cond.constant "WebHostModel" (447 : Nat) (64000 : Int32)) ∈ lw_all := lw_g (lw_at lw_m10 69 rfl) rfl
theorem q2386 : (Jvm.Cond.methodLink "WebHostModel" (454 : Nat) ({ cls := "WebHostModel", name := "optionMss", desc := "()I" } : Jvm.MethodName)) ∈ lw_all := lw_g (lw_at lw_m10 70 rfl) rfl
theorem q2387 : (Jvm.Cond.privateMethod ({ cls := "WebHostModel", name := "optionMss", desc := "()I" } : Jvm.MethodName)) ∈ lw_tbl := lw_at lw_m10 71 rfl
theorem q2388 : (Jvm.Cond.instanceMethod ({ cls := "WebHostModel", name := "optionMss", desc := "()I" } : Jvm.MethodName)) ∈ lw_all := lw_g (lw_at lw_m10 72 rfl) rfl
theorem q2389 : (Jvm.Cond.code ({ cls := "WebHostModel", name := "optionMss", desc := "()I" } : Jvm.MethodName) prog_17_method_53_code (4 : Nat) (Option.some Jvm.ClassFile.FieldType.int)) ∈ lw_all := lw_g (lw_at lw_m10 73 rfl) rfl
theorem q2390 : (Jvm.Cond.methodLink "WebHostModel" (321 : Nat) ({ cls := "WebHostModel", name := "segment", desc := "(LWebHostModel$Connection;)V" } : Jvm.MethodName)) ∈ lw_all := lw_g (lw_at lw_m10 74 rfl) rfl
theorem q2391 : (Jvm.Cond.privateMethod ({ cls := "WebHostModel", name := "segment", desc := "(LWebHostModel$Connection;)V" } : Jvm.MethodName)) ∈ lw_tbl := lw_at lw_m10 75 rfl
theorem q2392 : (Jvm.Cond.instanceMethod ({ cls := "WebHostModel", name := "segment", desc := "(LWebHostModel$Connection;)V" } : Jvm.MethodName)) ∈ lw_all := lw_g (lw_at lw_m10 76 rfl) rfl
theorem q2393 : (Jvm.Cond.code ({ cls := "WebHostModel", name := "segment", desc := "(LWebHostModel$Connection;)V" } : Jvm.MethodName) prog_17_method_57_code (2 : Nat) (Option.none : Option Jvm.ClassFile.FieldType)) ∈ lw_all := lw_g (lw_at lw_m10 77 rfl) rfl
theorem q2394 : (Jvm.Cond.methodLink "WebHostModel" (492 : Nat) ({ cls := "WebHostModel", name := "isAcceptable", desc := "(LWebHostModel$Connection;)Z" } : Jvm.MethodName)) ∈ lw_all := lw_g (lw_at lw_m10 78 rfl) rfl
theorem q2395 : (Jvm.Cond.privateMethod ({ cls := "WebHostModel", name := "isAcceptable", desc := "(LWebHostModel$Connection;)Z" } : Jvm.MethodName)) ∈ lw_tbl := lw_at lw_m10 79 rfl
theorem q2396 : (Jvm.Cond.instanceMethod ({ cls := "WebHostModel", name := "isAcceptable", desc := "(LWebHostModel$Connection;)Z" } : Jvm.MethodName)) ∈ lw_all := lw_g (lw_at lw_m10 80 rfl) rfl
theorem q2397 : (Jvm.Cond.code ({ cls := "WebHostModel", name := "isAcceptable", desc := "(LWebHostModel$Connection;)Z" } : Jvm.MethodName) prog_17_method_55_code (5 : Nat) (Option.some Jvm.ClassFile.FieldType.boolean)) ∈ lw_all := lw_g (lw_at lw_m10 81 rfl) rfl
theorem q2398 : (Jvm.Cond.methodLink "WebHostModel" (488 : Nat) ({ cls := "WebHostModel", name := "lies", desc := "(LWebHostModel$Connection;II)Z" } : Jvm.MethodName)) ∈ lw_all := lw_g (lw_at lw_m10 82 rfl) rfl
theorem q2399 : (Jvm.Cond.static ({ cls := "WebHostModel", name := "lies", desc := "(LWebHostModel$Connection;II)Z" } : Jvm.MethodName)) ∈ lw_all := lw_g (lw_at lw_m10 83 rfl) rfl
theorem q2400 : (Jvm.Cond.code ({ cls := "WebHostModel", name := "lies", desc := "(LWebHostModel$Connection;II)Z" } : Jvm.MethodName) prog_17_method_56_code (3 : Nat) (Option.some Jvm.ClassFile.FieldType.boolean)) ∈ lw_all := lw_g (lw_at lw_m10 84 rfl) rfl
theorem q2401 : (Jvm.Cond.methodLink "WebHostModel" (496 : Nat) ({ cls := "WebHostModel", name := "acknowledge", desc := "(LWebHostModel$Connection;)V" } : Jvm.MethodName)) ∈ lw_all := lw_g (lw_at lw_m10 85 rfl) rfl
theorem q2402 : (Jvm.Cond.privateMethod ({ cls := "WebHostModel", name := "acknowledge", desc := "(LWebHostModel$Connection;)V" } : Jvm.MethodName)) ∈ lw_tbl := lw_at lw_m10 86 rfl
theorem q2403 : (Jvm.Cond.instanceMethod ({ cls := "WebHostModel", name := "acknowledge", desc := "(LWebHostModel$Connection;)V" } : Jvm.MethodName)) ∈ lw_all := lw_g (lw_at lw_m10 87 rfl) rfl
theorem q2404 : (Jvm.Cond.code ({ cls := "WebHostModel", name := "acknowledge", desc := "(LWebHostModel$Connection;)V" } : Jvm.MethodName) prog_17_method_43_code (2 : Nat) (Option.none : Option Jvm.ClassFile.FieldType)) ∈ lw_all := lw_g (lw_at lw_m10 88 rfl) rfl
theorem q2405 : (Jvm.Cond.methodLink "WebHostModel" (505 : Nat) ({ cls := "WebHostModel", name := "acknowledgement", desc := "(LWebHostModel$Connection;)Z" } : Jvm.MethodName)) ∈ lw_all := lw_g (lw_at lw_m10 89 rfl) rfl
theorem q2406 : (Jvm.Cond.privateMethod ({ cls := "WebHostModel", name := "acknowledgement", desc := "(LWebHostModel$Connection;)Z" } : Jvm.MethodName)) ∈ lw_tbl := lw_at lw_m10 90 rfl
theorem q2407 : (Jvm.Cond.instanceMethod ({ cls := "WebHostModel", name := "acknowledgement", desc := "(LWebHostModel$Connection;)Z" } : Jvm.MethodName)) ∈ lw_all := lw_g (lw_at lw_m10 91 rfl) rfl
theorem q2408 : (Jvm.Cond.code ({ cls := "WebHostModel", name := "acknowledgement", desc := "(LWebHostModel$Connection;)Z" } : Jvm.MethodName) prog_17_method_58_code (3 : Nat) (Option.some Jvm.ClassFile.FieldType.boolean)) ∈ lw_all := lw_g (lw_at lw_m10 92 rfl) rfl
theorem q2409 : (Jvm.Cond.methodLink "WebHostModel" (517 : Nat) ({ cls := "WebHostModel", name := "fresh", desc := "(LWebHostModel$Connection;)V" } : Jvm.MethodName)) ∈ lw_all := lw_g (lw_at lw_m10 93 rfl) rfl
theorem q2410 : (Jvm.Cond.privateMethod ({ cls := "WebHostModel", name := "fresh", desc := "(LWebHostModel$Connection;)V" } : Jvm.MethodName)) ∈ lw_tbl := lw_at lw_m10 94 rfl
theorem q2411 : (Jvm.Cond.instanceMethod ({ cls := "WebHostModel", name := "fresh", desc := "(LWebHostModel$Connection;)V" } : Jvm.MethodName)) ∈ lw_all := lw_g (lw_at lw_m10 95 rfl) rfl
theorem q2412 : (Jvm.Cond.code ({ cls := "WebHostModel", name := "fresh", desc := "(LWebHostModel$Connection;)V" } : Jvm.MethodName) prog_17_method_60_code (4 : Nat) (Option.none : Option Jvm.ClassFile.FieldType)) ∈ lw_all := lw_g (lw_at lw_m10 96 rfl) rfl
theorem q2413 : (Jvm.Cond.methodLink "WebHostModel" (529 : Nat) ({ cls := "WebHostModel", name := "isBehind", desc := "(II)Z" } : Jvm.MethodName)) ∈ lw_all := lw_g (lw_at lw_m10 97 rfl) rfl
theorem q2414 : (Jvm.Cond.static ({ cls := "WebHostModel", name := "isBehind", desc := "(II)Z" } : Jvm.MethodName)) ∈ lw_all := lw_g (lw_at lw_m10 98 rfl) rfl
theorem q2415 : (Jvm.Cond.code ({ cls := "WebHostModel", name := "isBehind", desc := "(II)Z" } : Jvm.MethodName) prog_17_method_33_code (2 : Nat) (Option.some Jvm.ClassFile.FieldType.boolean)) ∈ lw_all := lw_g (lw_at lw_m10 99 rfl) rfl
theorem q2416 : (Jvm.Cond.methodLink "WebHostModel" (535 : Nat) ({ cls := "WebHostModel", name := "measure", desc := "(LWebHostModel$Connection;I)V" } : Jvm.MethodName)) ∈ lw_all := lw_g (lw_at lw_m10 100 rfl) rfl
theorem q2417 : (Jvm.Cond.static ({ cls := "WebHostModel", name := "measure", desc := "(LWebHostModel$Connection;I)V" } : Jvm.MethodName)) ∈ lw_all := lw_g (lw_at lw_m10 101 rfl) rfl
theorem q2418 : (Jvm.Cond.code ({ cls := "WebHostModel", name := "measure", desc := "(LWebHostModel$Connection;I)V" } : Jvm.MethodName) prog_17_method_61_code (4 : Nat) (Option.none : Option Jvm.ClassFile.FieldType)) ∈ lw_all := lw_g (lw_at lw_m10 102 rfl) rfl
theorem q2419 : (Jvm.Cond.constantLong "WebHostModel" (544 : Nat) (10 : Int64)) ∈ lw_all := lw_g (lw_at lw_m10 103 rfl) rfl
theorem q2420 : (Jvm.Cond.constantLong "WebHostModel" (546 : Nat) (4 : Int64)) ∈ lw_all := lw_g (lw_at lw_m10 104 rfl) rfl
theorem q2421 : (Jvm.Cond.methodLink "WebHostModel" (555 : Nat) ({ cls := "java/lang/Math", name := "min", desc := "(JJ)J" } : Jvm.MethodName)) ∈ lw_all := lw_g (lw_at lw_m10 105 rfl) rfl
theorem q2422 : (Jvm.Cond.static ({ cls := "java/lang/Math", name := "min", desc := "(JJ)J" } : Jvm.MethodName)) ∈ lw_all := lw_g (lw_at lw_m10 106 rfl) rfl
theorem q2423 : (Jvm.Cond.code ({ cls := "java/lang/Math", name := "min", desc := "(JJ)J" } : Jvm.MethodName) prog_23_method_70_code (4 : Nat) (Option.some Jvm.ClassFile.FieldType.long)) ∈ lw_all := lw_g (lw_at lw_m10 107 rfl) rfl
theorem q2424 : (Jvm.Cond.methodLink "WebHostModel" (526 : Nat) ({ cls := "WebHostModel", name := "takeWindow", desc := "(LWebHostModel$Connection;)V" } : Jvm.MethodName)) ∈ lw_all := lw_g (lw_at lw_m10 108 rfl) rfl
theorem q2425 : (Jvm.Cond.privateMethod ({ cls := "WebHostModel", name := "takeWindow", desc := "(LWebHostModel$Connection;)V" } : Jvm.MethodName)) ∈ lw_tbl := lw_at lw_m10 109 rfl
theorem q2426 : (Jvm.Cond.instanceMethod ({ cls := "WebHostModel", name := "takeWindow", desc := "(LWebHostModel$Connection;)V" } : Jvm.MethodName)) ∈ lw_all := lw_g (lw_at lw_m10 110 rfl) rfl
theorem q2427 : (Jvm.Cond.code ({ cls := "WebHostModel", name := "takeWindow", desc := "(LWebHostModel$Connection;)V" } : Jvm.MethodName) prog_17_method_59_code (2 : Nat) (Option.none : Option Jvm.ClassFile.FieldType)) ∈ lw_all := lw_g (lw_at lw_m10 111 rfl) rfl
theorem q2428 : (Jvm.Cond.methodLink "WebHostModel" (532 : Nat) ({ cls := "WebHostModel", name := "duplicate", desc := "(LWebHostModel$Connection;)V" } : Jvm.MethodName)) ∈ lw_all := lw_g (lw_at lw_m10 112 rfl) rfl
theorem q2429 : (Jvm.Cond.privateMethod ({ cls := "WebHostModel", name := "duplicate", desc := "(LWebHostModel$Connection;)V" } : Jvm.MethodName)) ∈ lw_tbl := lw_at lw_m10 113 rfl
theorem q2430 : (Jvm.Cond.instanceMethod ({ cls := "WebHostModel", name := "duplicate", desc := "(LWebHostModel$Connection;)V" } : Jvm.MethodName)) ∈ lw_all := lw_g (lw_at lw_m10 114 rfl) rfl
theorem q2431 : (Jvm.Cond.code ({ cls := "WebHostModel", name := "duplicate", desc := "(LWebHostModel$Connection;)V" } : Jvm.MethodName) prog_17_method_62_code (5 : Nat) (Option.none : Option Jvm.ClassFile.FieldType)) ∈ lw_all := lw_g (lw_at lw_m10 115 rfl) rfl
theorem q2432 : (Jvm.Cond.methodLink "WebHostModel" (508 : Nat) ({ cls := "WebHostModel", name := "arrived", desc := "(LWebHostModel$Connection;)V" } : Jvm.MethodName)) ∈ lw_all := lw_g (lw_at lw_m10 116 rfl) rfl
theorem q2433 : (Jvm.Cond.privateMethod ({ cls := "WebHostModel", name := "arrived", desc := "(LWebHostModel$Connection;)V" } : Jvm.MethodName)) ∈ lw_tbl := lw_at lw_m10 117 rfl
theorem q2434 : (Jvm.Cond.instanceMethod ({ cls := "WebHostModel", name := "arrived", desc := "(LWebHostModel$Connection;)V" } : Jvm.MethodName)) ∈ lw_all := lw_g (lw_at lw_m10 118 rfl) rfl
theorem q2435 : (Jvm.Cond.code ({ cls := "WebHostModel", name := "arrived", desc := "(LWebHostModel$Connection;)V" } : Jvm.MethodName) prog_17_method_64_code (7 : Nat) (Option.none : Option Jvm.ClassFile.FieldType)) ∈ lw_all := lw_g (lw_at lw_m10 119 rfl) rfl
theorem q2436 : (Jvm.Cond.methodLink "WebHostModel" (557 : Nat) ({ cls := "WebHostModel", name := "takesData", desc := "(LWebHostModel$Connection;)Z" } : Jvm.MethodName)) ∈ lw_all := lw_g (lw_at lw_m10 120 rfl) rfl
theorem q2437 : (Jvm.Cond.static ({ cls := "WebHostModel", name := "takesData", desc := "(LWebHostModel$Connection;)Z" } : Jvm.MethodName)) ∈ lw_all := lw_g (lw_at lw_m10 121 rfl) rfl
theorem q2438 : (Jvm.Cond.code ({ cls := "WebHostModel", name := "takesData", desc := "(LWebHostModel$Connection;)Z" } : Jvm.MethodName) prog_17_method_63_code (1 : Nat) (Option.some Jvm.ClassFile.FieldType.boolean)) ∈ lw_all := lw_g (lw_at lw_m10 122 rfl) rfl
theorem q2439 : (Jvm.Cond.methodLink "WebHostModel" (511 : Nat) ({ cls := "WebHostModel", name := "requests", desc := "(LWebHostModel$Connection;)V" } : Jvm.MethodName)) ∈ lw_all := lw_g (lw_at lw_m10 123 rfl) rfl
theorem q2440 : (Jvm.Cond.privateMethod ({ cls := "WebHostModel", name := "requests", desc := "(LWebHostModel$Connection;)V" } : Jvm.MethodName)) ∈ lw_tbl := lw_at lw_m10 124 rfl
theorem q2441 : (Jvm.Cond.instanceMethod ({ cls := "WebHostModel", name := "requests", desc := "(LWebHostModel$Connection;)V" } : Jvm.MethodName)) ∈ lw_all := lw_g (lw_at lw_m10 125 rfl) rfl
theorem q2442 : (Jvm.Cond.code ({ cls := "WebHostModel", name := "requests", desc := "(LWebHostModel$Connection;)V" } : Jvm.MethodName) prog_17_method_76_code (5 : Nat) (Option.none : Option Jvm.ClassFile.FieldType)) ∈ lw_all := lw_g (lw_at lw_m10 126 rfl) rfl
theorem q2443 : (Jvm.Cond.methodLink "WebHostModel" (612 : Nat) ({ cls := "WebHostModel$Connection", name := "held", desc := "()I" } : Jvm.MethodName)) ∈ lw_all := lw_g (lw_at lw_m10 127 rfl) rfl
theorem q2444 : (Jvm.Cond.methodLink "WebHostModel" (615 : Nat) ({ cls := "WebHostModel", name := "take", desc := "(LWebHostModel$Connection;I)V" } : Jvm.MethodName)) ∈ lw_all := lw_g (lw_at lw_m10 128 rfl) rfl
theorem q2445 : (Jvm.Cond.privateMethod ({ cls := "WebHostModel", name := "take", desc := "(LWebHostModel$Connection;I)V" } : Jvm.MethodName)) ∈ lw_tbl := lw_at lw_m10 129 rfl
theorem q2446 : (Jvm.Cond.instanceMethod ({ cls := "WebHostModel", name := "take", desc := "(LWebHostModel$Connection;I)V" } : Jvm.MethodName)) ∈ lw_all := lw_g (lw_at lw_m10 130 rfl) rfl
theorem q2447 : (Jvm.Cond.code ({ cls := "WebHostModel", name := "take", desc := "(LWebHostModel$Connection;I)V" } : Jvm.MethodName) prog_17_method_75_code (5 : Nat) (Option.none : Option Jvm.ClassFile.FieldType)) ∈ lw_all := lw_g (lw_at lw_m10 131 rfl) rfl
theorem q2448 : (Jvm.Cond.methodLink "WebHostModel" (618 : Nat) ({ cls := "WebHostModel", name := "oneRequest", desc := "(LWebHostModel$Connection;)Z" } : Jvm.MethodName)) ∈ lw_all := lw_g (lw_at lw_m10 132 rfl) rfl
theorem q2449 : (Jvm.Cond.privateMethod ({ cls := "WebHostModel", name := "oneRequest", desc := "(LWebHostModel$Connection;)Z" } : Jvm.MethodName)) ∈ lw_tbl := lw_at lw_m10 133 rfl
theorem q2450 : (Jvm.Cond.instanceMethod ({ cls := "WebHostModel", name := "oneRequest", desc := "(LWebHostModel$Connection;)Z" } : Jvm.MethodName)) ∈ lw_all := lw_g (lw_at lw_m10 134 rfl) rfl
theorem q2451 : (Jvm.Cond.code ({ cls := "WebHostModel", name := "oneRequest", desc := "(LWebHostModel$Connection;)Z" } : Jvm.MethodName) prog_17_method_78_code (3 : Nat) (Option.some Jvm.ClassFile.FieldType.boolean)) ∈ lw_all := lw_g (lw_at lw_m10 135 rfl) rfl
theorem q2452 : (Jvm.Cond.methodLink "WebHostModel" (621 : Nat) ({ cls := "WebHostModel", name := "byteAt", desc := "(LWebHostModel$Connection;I)I" } : Jvm.MethodName)) ∈ lw_all := lw_g (lw_at lw_m10 136 rfl) rfl
theorem q2453 : (Jvm.Cond.static ({ cls := "WebHostModel", name := "byteAt", desc := "(LWebHostModel$Connection;I)I" } : Jvm.MethodName)) ∈ lw_all := lw_g (lw_at lw_m10 137 rfl) rfl
theorem q2454 : (Jvm.Cond.code ({ cls := "WebHostModel", name := "byteAt", desc := "(LWebHostModel$Connection;I)I" } : Jvm.MethodName) prog_17_method_77_code (2 : Nat) (Option.some Jvm.ClassFile.FieldType.int)) ∈ lw_all := lw_g (lw_at lw_m10 138 rfl) rfl
theorem q2455 : (Jvm.Cond.methodLink "WebHostModel" (624 : Nat) ({ cls := "WebHostModel", name := "headBytes", desc := "(LWebHostModel$Connection;)I" } : Jvm.MethodName)) ∈ lw_all := lw_g (lw_at lw_m10 139 rfl) rfl
theorem q2456 : (Jvm.Cond.privateMethod ({ cls := "WebHostModel", name := "headBytes", desc := "(LWebHostModel$Connection;)I" } : Jvm.MethodName)) ∈ lw_tbl := lw_at lw_m10 140 rfl
theorem q2457 : (Jvm.Cond.instanceMethod ({ cls := "WebHostModel", name := "headBytes", desc := "(LWebHostModel$Connection;)I" } : Jvm.MethodName)) ∈ lw_all := lw_g (lw_at lw_m10 141 rfl) rfl
theorem q2458 : (Jvm.Cond.code ({ cls := "WebHostModel", name := "headBytes", desc := "(LWebHostModel$Connection;)I" } : Jvm.MethodName) prog_17_method_79_code (6 : Nat) (Option.some Jvm.ClassFile.FieldType.int)) ∈ lw_all := lw_g (lw_at lw_m10 142 rfl) rfl
theorem q2459 : (Jvm.Cond.methodLink "WebHostModel" (628 : Nat) ({ cls := "WebHostModel", name := "answer", desc := "(LWebHostModel$Connection;I)V" } : Jvm.MethodName)) ∈ lw_all := lw_g (lw_at lw_m10 143 rfl) rfl
theorem q2460 : (Jvm.Cond.privateMethod ({ cls := "WebHostModel", name := "answer", desc := "(LWebHostModel$Connection;I)V" } : Jvm.MethodName)) ∈ lw_tbl := lw_at lw_m10 144 rfl
theorem q2461 : (Jvm.Cond.instanceMethod ({ cls := "WebHostModel", name := "answer", desc := "(LWebHostModel$Connection;I)V" } : Jvm.MethodName)) ∈ lw_all := lw_g (lw_at lw_m10 145 rfl) rfl
theorem q2462 : (Jvm.Cond.code ({ cls := "WebHostModel", name := "answer", desc := "(LWebHostModel$Connection;I)V" } : Jvm.MethodName) prog_17_method_82_code (10 : Nat) (Option.none : Option Jvm.ClassFile.FieldType)) ∈ lw_all := lw_g (lw_at lw_m10 146 rfl) rfl
theorem q2463 : (Jvm.Cond.methodLink "WebHostModel" (678 : Nat) ({ cls := "WebHostModel", name := "lineEnd", desc := "(I)I" } : Jvm.MethodName)) ∈ lw_all := lw_g (lw_at lw_m10 147 rfl) rfl
theorem q2464 : (Jvm.Cond.privateMethod ({ cls := "WebHostModel", name := "lineEnd", desc := "(I)I" } : Jvm.MethodName)) ∈ lw_tbl := lw_at lw_m10 148 rfl
theorem q2465 : (Jvm.Cond.instanceMethod ({ cls := "WebHostModel", name := "lineEnd", desc := "(I)I" } : Jvm.MethodName)) ∈ lw_all := lw_g (lw_at lw_m10 149 rfl) rfl
theorem q2466 : (Jvm.Cond.code ({ cls := "WebHostModel", name := "lineEnd", desc := "(I)I" } : Jvm.MethodName) prog_17_method_83_code (3 : Nat) (Option.some Jvm.ClassFile.FieldType.int)) ∈ lw_all := lw_g (lw_at lw_m10 150 rfl) rfl
theorem q2467 : (Jvm.Cond.methodLink "WebHostModel" (681 : Nat) ({ cls := "WebHostModel", name := "shown", desc := "(II)I" } : Jvm.MethodName)) ∈ lw_all := lw_g (lw_at lw_m10 151 rfl) rfl
theorem q2468 : (Jvm.Cond.privateMethod ({ cls := "WebHostModel", name := "shown", desc := "(II)I" } : Jvm.MethodName)) ∈ lw_tbl := lw_at lw_m10 152 rfl
theorem q2469 : (Jvm.Cond.instanceMethod ({ cls := "WebHostModel", name := "shown", desc := "(II)I" } : Jvm.MethodName)) ∈ lw_all := lw_g (lw_at lw_m10 153 rfl) rfl
theorem q2470 : (Jvm.Cond.code ({ cls := "WebHostModel", name := "shown", desc := "(II)I" } : Jvm.MethodName) prog_17_method_84_code (3 : Nat) (Option.some Jvm.ClassFile.FieldType.int)) ∈ lw_all := lw_g (lw_at lw_m10 154 rfl) rfl
theorem q2471 : (Jvm.Cond.methodLink "WebHostModel" (684 : Nat) ({ cls := "WebHostModel", name := "requestLine", desc := "(II)Z" } : Jvm.MethodName)) ∈ lw_all := lw_g (lw_at lw_m10 155 rfl) rfl
theorem q2472 : (Jvm.Cond.privateMethod ({ cls := "WebHostModel", name := "requestLine", desc := "(II)Z" } : Jvm.MethodName)) ∈ lw_tbl := lw_at lw_m10 156 rfl
theorem q2473 : (Jvm.Cond.instanceMethod ({ cls := "WebHostModel", name := "requestLine", desc := "(II)Z" } : Jvm.MethodName)) ∈ lw_all := lw_g (lw_at lw_m10 157 rfl) rfl
theorem q2474 : (Jvm.Cond.code ({ cls := "WebHostModel", name := "requestLine", desc := "(II)Z" } : Jvm.MethodName) prog_17_method_85_code (7 : Nat) (Option.some Jvm.ClassFile.FieldType.boolean)) ∈ lw_all := lw_g (lw_at lw_m10 158 rfl) rfl
theorem q2475 : (Jvm.Cond.methodLink "WebHostModel" (693 : Nat) ({ cls := "WebHostModel", name := "headAt", desc := "(I)I" } : Jvm.MethodName)) ∈ lw_all := lw_g (lw_at lw_m10 159 rfl) rfl
theorem q2476 : (Jvm.Cond.privateMethod ({ cls := "WebHostModel", name := "headAt", desc := "(I)I" } : Jvm.MethodName)) ∈ lw_tbl := lw_at lw_m10 160 rfl
theorem q2477 : (Jvm.Cond.instanceMethod ({ cls := "WebHostModel", name := "headAt", desc := "(I)I" } : Jvm.MethodName)) ∈ lw_all := lw_g (lw_at lw_m10 161 rfl) rfl
theorem q2478 : (Jvm.Cond.code ({ cls := "WebHostModel", name := "headAt", desc := "(I)I" } : Jvm.MethodName) prog_17_method_80_code (2 : Nat) (Option.some Jvm.ClassFile.FieldType.int)) ∈ lw_all := lw_g (lw_at lw_m10 162 rfl) rfl
theorem q2479 : (Jvm.Cond.stringRef "WebHostModel" (696 : Nat) "HTTP/1.0") ∈ lw_tbl := lw_at lw_m10 163 rfl
theorem q2480 : (Jvm.Cond.methodLink "WebHostModel" (698 : Nat) ({ cls := "WebHostModel", name := "says", desc := "(IILjava/lang/String;)Z" } : Jvm.MethodName)) ∈ lw_all := lw_g (lw_at lw_m10 164 rfl) rfl
theorem q2481 : (Jvm.Cond.privateMethod ({ cls := "WebHostModel", name := "says", desc := "(IILjava/lang/String;)Z" } : Jvm.MethodName)) ∈ lw_tbl := lw_at lw_m10 165 rfl
theorem q2482 : (Jvm.Cond.instanceMethod ({ cls := "WebHostModel", name := "says", desc := "(IILjava/lang/String;)Z" } : Jvm.MethodName)) ∈ lw_all := lw_g (lw_at lw_m10 166 rfl) rfl
theorem q2483 : (Jvm.Cond.code ({ cls := "WebHostModel", name := "says", desc := "(IILjava/lang/String;)Z" } : Jvm.MethodName) prog_17_method_86_code (5 : Nat) (Option.some Jvm.ClassFile.FieldType.boolean)) ∈ lw_all := lw_g (lw_at lw_m10 167 rfl) rfl
theorem q2484 : (Jvm.Cond.methodLink "WebHostModel" (717 : Nat) ({ cls := "java/lang/String", name := "length", desc := "()I" } : Jvm.MethodName)) ∈ lw_all := lw_g (lw_at lw_m10 168 rfl) rfl
theorem q2485 : (Jvm.Cond.methodLink "WebHostModel" (721 : Nat) ({ cls := "java/lang/String", name := "charAt", desc := "(I)C" } : Jvm.MethodName)) ∈ lw_all := lw_g (lw_at lw_m10 169 rfl) rfl
theorem q2486 : (Jvm.Cond.stringRef "WebHostModel" (702 : Nat) "HTTP/1.1") ∈ lw_tbl := lw_at lw_m10 170 rfl
theorem q2487 : (Jvm.Cond.stringRef "WebHostModel" (704 : Nat) "HEAD") ∈ lw_tbl := lw_at lw_m10 171 rfl
theorem q2488 : (Jvm.Cond.stringRef "WebHostModel" (706 : Nat) "GET") ∈ lw_tbl := lw_at lw_m10 172 rfl
theorem q2489 : (Jvm.Cond.methodLink "WebHostModel" (687 : Nat) ({ cls := "WebHostModel", name := "field", desc := "(II)Z" } : Jvm.MethodName)) ∈ lw_all := lw_g (lw_at lw_m10 173 rfl) rfl
theorem q2490 : (Jvm.Cond.privateMethod ({ cls := "WebHostModel", name := "field", desc := "(II)Z" } : Jvm.MethodName)) ∈ lw_tbl := lw_at lw_m10 174 rfl
theorem q2491 : (Jvm.Cond.instanceMethod ({ cls := "WebHostModel", name := "field", desc := "(II)Z" } : Jvm.MethodName)) ∈ lw_all := lw_g (lw_at lw_m10 175 rfl) rfl
theorem q2492 : (Jvm.Cond.code ({ cls := "WebHostModel", name := "field", desc := "(II)Z" } : Jvm.MethodName) prog_17_method_92_code (8 : Nat) (Option.some Jvm.ClassFile.FieldType.boolean)) ∈ lw_all := lw_g (lw_at lw_m10 176 rfl) rfl
theorem q2493 : (Jvm.Cond.methodLink "WebHostModel" (731 : Nat) ({ cls := "WebHostModel", name := "isNameCode", desc := "(I)Z" } : Jvm.MethodName)) ∈ lw_all := lw_g (lw_at lw_m10 177 rfl) rfl
theorem q2494 : (Jvm.Cond.static ({ cls := "WebHostModel", name := "isNameCode", desc := "(I)Z" } : Jvm.MethodName)) ∈ lw_all := lw_g (lw_at lw_m10 178 rfl) rfl
theorem q2495 : (Jvm.Cond.code ({ cls := "WebHostModel", name := "isNameCode", desc := "(I)Z" } : Jvm.MethodName) prog_17_method_90_code (3 : Nat) (Option.some Jvm.ClassFile.FieldType.boolean)) ∈ lw_all := lw_g (lw_at lw_m10 179 rfl) rfl
theorem q2496 : (Jvm.Cond.methodLink "WebHostModel" (725 : Nat) ({ cls := "WebHostModel", name := "small", desc := "(I)I" } : Jvm.MethodName)) ∈ lw_all := lw_g (lw_at lw_m10 180 rfl) rfl
theorem q2497 : (Jvm.Cond.static ({ cls := "WebHostModel", name := "small", desc := "(I)I" } : Jvm.MethodName)) ∈ lw_all := lw_g (lw_at lw_m10 181 rfl) rfl
theorem q2498 : (Jvm.Cond.code ({ cls := "WebHostModel", name := "small", desc := "(I)I" } : Jvm.MethodName) prog_17_method_87_code (1 : Nat) (Option.some Jvm.ClassFile.FieldType.int)) ∈ lw_all := lw_g (lw_at lw_m10 182 rfl) rfl
theorem q2499 : (Jvm.Cond.methodLink "WebHostModel" (728 : Nat) ({ cls := "WebHostModel", name := "isDigit", desc := "(I)Z" } : Jvm.MethodName)) ∈ lw_all := lw_g (lw_at lw_m10 183 rfl) rfl
theorem q2500 : (Jvm.Cond.static ({ cls := "WebHostModel", name := "isDigit", desc := "(I)Z" } : Jvm.MethodName)) ∈ lw_all := lw_g (lw_at lw_m10 184 rfl) rfl
theorem q2501 : (Jvm.Cond.code ({ cls := "WebHostModel", name := "isDigit", desc := "(I)Z" } : Jvm.MethodName) prog_17_method_89_code (1 : Nat) (Option.some Jvm.ClassFile.FieldType.boolean)) ∈ lw_all := lw_g (lw_at lw_m10 185 rfl) rfl
theorem q2502 : (Jvm.Cond.methodLink "WebHostModel" (734 : Nat) ({ cls := "WebHostModel", name := "isBlank", desc := "(I)Z" } : Jvm.MethodName)) ∈ lw_all := lw_g (lw_at lw_m10 186 rfl) rfl
theorem q2503 : (Jvm.Cond.static ({ cls := "WebHostModel", name := "isBlank", desc := "(I)Z" } : Jvm.MethodName)) ∈ lw_all := lw_g (lw_at lw_m10 187 rfl) rfl
theorem q2504 : (Jvm.Cond.code ({ cls := "WebHostModel", name := "isBlank", desc := "(I)Z" } : Jvm.MethodName) prog_17_method_91_code (1 : Nat) (Option.some Jvm.ClassFile.FieldType.boolean)) ∈ lw_all := lw_g (lw_at lw_m10 188 rfl) rfl
theorem q2505 : (Jvm.Cond.stringRef "WebHostModel" (737 : Nat) "host") ∈ lw_tbl := lw_at lw_m10 189 rfl
theorem q2506 : (Jvm.Cond.methodLink "WebHostModel" (739 : Nat) ({ cls := "WebHostModel", name := "saysSmall", desc := "(IILjava/lang/String;)Z" } : Jvm.MethodName)) ∈ lw_all := lw_g (lw_at lw_m10 190 rfl) rfl
theorem q2507 : (Jvm.Cond.privateMethod ({ cls := "WebHostModel", name := "saysSmall", desc := "(IILjava/lang/String;)Z" } : Jvm.MethodName)) ∈ lw_tbl := lw_at lw_m10 191 rfl
theorem q2508 : (Jvm.Cond.instanceMethod ({ cls := "WebHostModel", name := "saysSmall", desc := "(IILjava/lang/String;)Z" } : Jvm.MethodName)) ∈ lw_all := lw_g (lw_at lw_m10 192 rfl) rfl
theorem q2509 : (Jvm.Cond.code ({ cls := "WebHostModel", name := "saysSmall", desc := "(IILjava/lang/String;)Z" } : Jvm.MethodName) prog_17_method_88_code (5 : Nat) (Option.some Jvm.ClassFile.FieldType.boolean)) ∈ lw_all := lw_g (lw_at lw_m10 193 rfl) rfl
theorem q2510 : (Jvm.Cond.stringRef "WebHostModel" (742 : Nat) "transfer-encoding") ∈ lw_tbl := lw_at lw_m10 194 rfl
theorem q2511 : (Jvm.Cond.stringRef "WebHostModel" (744 : Nat) "content-length") ∈ lw_tbl := lw_at lw_m10 195 rfl
theorem q2512 : (Jvm.Cond.methodLink "WebHostModel" (746 : Nat) ({ cls := "WebHostModel", name := "contentLength", desc := "(II)V" } : Jvm.MethodName)) ∈ lw_all := lw_g (lw_at lw_m10 196 rfl) rfl
theorem q2513 : (Jvm.Cond.privateMethod ({ cls := "WebHostModel", name := "contentLength", desc := "(II)V" } : Jvm.MethodName)) ∈ lw_tbl := lw_at lw_m10 197 rfl
theorem q2514 : (Jvm.Cond.instanceMethod ({ cls := "WebHostModel", name := "contentLength", desc := "(II)V" } : Jvm.MethodName)) ∈ lw_all := lw_g (lw_at lw_m10 198 rfl) rfl
theorem q2515 : (Jvm.Cond.code ({ cls := "WebHostModel", name := "contentLength", desc := "(II)V" } : Jvm.MethodName) prog_17_method_93_code (6 : Nat) (Option.none : Option Jvm.ClassFile.FieldType)) ∈ lw_all := lw_g (lw_at lw_m10 199 rfl) rfl
theorem q2516 : (Jvm.Cond.constant "WebHostModel" (762 : Nat) (65536 : Int32)) ∈ lw_all := lw_g (lw_at lw_m10 200 rfl) rfl
theorem q2517 : (Jvm.Cond.stringRef "WebHostModel" (749 : Nat) "connection") ∈ lw_tbl := lw_at lw_m10 201 rfl
theorem q2518 : (Jvm.Cond.methodLink "WebHostModel" (751 : Nat) ({ cls := "WebHostModel", name := "words", desc := "(II)V" } : Jvm.MethodName)) ∈ lw_all := lw_g (lw_at lw_m10 202 rfl) rfl
theorem q2519 : (Jvm.Cond.privateMethod ({ cls := "WebHostModel", name := "words", desc := "(II)V" } : Jvm.MethodName)) ∈ lw_tbl := lw_at lw_m10 203 rfl
theorem q2520 : (Jvm.Cond.instanceMethod ({ cls := "WebHostModel", name := "words", desc := "(II)V" } : Jvm.MethodName)) ∈ lw_all := lw_g (lw_at lw_m10 204 rfl) rfl
theorem q2521 : (Jvm.Cond.code ({ cls := "WebHostModel", name := "words", desc := "(II)V" } : Jvm.MethodName) prog_17_method_94_code (5 : Nat) (Option.none : Option Jvm.ClassFile.FieldType)) ∈ lw_all := lw_g (lw_at lw_m10 205 rfl) rfl
theorem q2522 : (Jvm.Cond.stringRef "WebHostModel" (763 : Nat) "close") ∈ lw_tbl := lw_at lw_m10 206 rfl
theorem q2523 : (Jvm.Cond.stringRef "WebHostModel" (764 : Nat) "keep-alive") ∈ lw_tbl := lw_at lw_m10 207 rfl
theorem q2524 : (Jvm.Cond.stringRef "WebHostModel" (754 : Nat) "if-none-match") ∈ lw_tbl := lw_at lw_m10 208 rfl
theorem q2525 : (Jvm.Cond.methodLink "WebHostModel" (690 : Nat) ({ cls := "WebHostModel", name := "chosen", desc := "()I" } : Jvm.MethodName)) ∈ lw_all := lw_g (lw_at lw_m10 209 rfl) rfl
theorem q2526 : (Jvm.Cond.privateMethod ({ cls := "WebHostModel", name := "chosen", desc := "()I" } : Jvm.MethodName)) ∈ lw_tbl := lw_at lw_m10 210 rfl
theorem q2527 : (Jvm.Cond.instanceMethod ({ cls := "WebHostModel", name := "chosen", desc := "()I" } : Jvm.MethodName)) ∈ lw_all := lw_g (lw_at lw_m10 211 rfl) rfl
theorem q2528 : (Jvm.Cond.code ({ cls := "WebHostModel", name := "chosen", desc := "()I" } : Jvm.MethodName) prog_17_method_95_code (2 : Nat) (Option.some Jvm.ClassFile.FieldType.int)) ∈ lw_all := lw_g (lw_at lw_m10 212 rfl) rfl
theorem q2529 : (Jvm.Cond.methodLink "WebHostModel" (766 : Nat) ({ cls := "WebHostModel", name := "unfolded", desc := "()Z" } : Jvm.MethodName)) ∈ lw_all := lw_g (lw_at lw_m10 213 rfl) rfl
theorem q2530 : (Jvm.Cond.privateMethod ({ cls := "WebHostModel", name := "unfolded", desc := "()Z" } : Jvm.MethodName)) ∈ lw_tbl := lw_at lw_m10 214 rfl
theorem q2531 : (Jvm.Cond.instanceMethod ({ cls := "WebHostModel", name := "unfolded", desc := "()Z" } : Jvm.MethodName)) ∈ lw_all := lw_g (lw_at lw_m10 215 rfl) rfl
theorem q2532 : (Jvm.Cond.code ({ cls := "WebHostModel", name := "unfolded", desc := "()Z" } : Jvm.MethodName) prog_17_method_97_code (5 : Nat) (Option.some Jvm.ClassFile.FieldType.boolean)) ∈ lw_all := lw_g (lw_at lw_m10 216 rfl) rfl
theorem q2533 : (Jvm.Cond.methodLink "WebHostModel" (779 : Nat) ({ cls := "WebHostModel", name := "hexadecimal", desc := "(I)I" } : Jvm.MethodName)) ∈ lw_all := lw_g (lw_at lw_m10 217 rfl) rfl
theorem q2534 : (Jvm.Cond.static ({ cls := "WebHostModel", name := "hexadecimal", desc := "(I)I" } : Jvm.MethodName)) ∈ lw_all := lw_g (lw_at lw_m10 218 rfl) rfl
theorem q2535 : (Jvm.Cond.code ({ cls := "WebHostModel", name := "hexadecimal", desc := "(I)I" } : Jvm.MethodName) prog_17_method_96_code (1 : Nat) (Option.some Jvm.ClassFile.FieldType.int)) ∈ lw_all := lw_g (lw_at lw_m10 219 rfl) rfl
theorem q2536 : (Jvm.Cond.stringRef "WebHostModel" (782 : Nat) "index.html") ∈ lw_tbl := lw_at lw_m10 220 rfl
theorem q2537 : (Jvm.Cond.methodLink "WebHostModel" (770 : Nat) ({ cls := "WebHostModel", name := "found", desc := "()I" } : Jvm.MethodName)) ∈ lw_all := lw_g (lw_at lw_m10 221 rfl) rfl
theorem q2538 : (Jvm.Cond.privateMethod ({ cls := "WebHostModel", name := "found", desc := "()I" } : Jvm.MethodName)) ∈ lw_tbl := lw_at lw_m10 222 rfl
theorem q2539 : (Jvm.Cond.instanceMethod ({ cls := "WebHostModel", name := "found", desc := "()I" } : Jvm.MethodName)) ∈ lw_all := lw_g (lw_at lw_m10 223 rfl) rfl
theorem q2540 : (Jvm.Cond.code ({ cls := "WebHostModel", name := "found", desc := "()I" } : Jvm.MethodName) prog_17_method_98_code (4 : Nat) (Option.some Jvm.ClassFile.FieldType.int)) ∈ lw_all := lw_g (lw_at lw_m10 224 rfl) rfl
theorem q2541 : (Jvm.Cond.methodLink "WebHostModel" (773 : Nat) ({ cls := "WebHostModel", name := "fits", desc := "(I)Z" } : Jvm.MethodName)) ∈ lw_all := lw_g (lw_at lw_m10 225 rfl) rfl
theorem q2542 : (Jvm.Cond.privateMethod ({ cls := "WebHostModel", name := "fits", desc := "(I)Z" } : Jvm.MethodName)) ∈ lw_tbl := lw_at lw_m10 226 rfl
theorem q2543 : (Jvm.Cond.instanceMethod ({ cls := "WebHostModel", name := "fits", desc := "(I)Z" } : Jvm.MethodName)) ∈ lw_all := lw_g (lw_at lw_m10 227 rfl) rfl
theorem q2544 : (Jvm.Cond.code ({ cls := "WebHostModel", name := "fits", desc := "(I)Z" } : Jvm.MethodName) prog_17_method_100_code (3 : Nat) (Option.some Jvm.ClassFile.FieldType.boolean)) ∈ lw_all := lw_g (lw_at lw_m10 228 rfl) rfl
theorem q2545 : (Jvm.Cond.stringRef "WebHostModel" (784 : Nat) "*") ∈ lw_tbl := lw_at lw_m10 229 rfl
theorem q2546 : (Jvm.Cond.methodLink "WebHostModel" (786 : Nat) ({ cls := "WebHostModel", name := "hexDigit", desc := "(II)I" } : Jvm.MethodName)) ∈ lw_all := lw_g (lw_at lw_m10 230 rfl) rfl
theorem q2547 : (Jvm.Cond.static ({ cls := "WebHostModel", name := "hexDigit", desc := "(II)I" } : Jvm.MethodName)) ∈ lw_all := lw_g (lw_at lw_m10 231 rfl) rfl
theorem q2548 : (Jvm.Cond.code ({ cls := "WebHostModel", name := "hexDigit", desc := "(II)I" } : Jvm.MethodName) prog_17_method_99_code (3 : Nat) (Option.some Jvm.ClassFile.FieldType.int)) ∈ lw_all := lw_g (lw_at lw_m10 232 rfl) rfl
theorem q2549 : (Jvm.Cond.methodLink "WebHostModel" (640 : Nat) ({ cls := "WebHostModel", name := "make", desc := "(LWebHostModel$Connection;IZ)V" } : Jvm.MethodName)) ∈ lw_all := lw_g (lw_at lw_m10 233 rfl) rfl
theorem q2550 : (Jvm.Cond.privateMethod ({ cls := "WebHostModel", name := "make", desc := "(LWebHostModel$Connection;IZ)V" } : Jvm.MethodName)) ∈ lw_tbl := lw_at lw_m10 234 rfl
theorem q2551 : (Jvm.Cond.instanceMethod ({ cls := "WebHostModel", name := "make", desc := "(LWebHostModel$Connection;IZ)V" } : Jvm.MethodName)) ∈ lw_all := lw_g (lw_at lw_m10 235 rfl) rfl
theorem q2552 : (Jvm.Cond.code ({ cls := "WebHostModel", name := "make", desc := "(LWebHostModel$Connection;IZ)V" } : Jvm.MethodName) prog_17_method_108_code (6 : Nat) (Option.none : Option Jvm.ClassFile.FieldType)) ∈ lw_all := lw_g (lw_at lw_m10 236 rfl) rfl
theorem q2553 : (Jvm.Cond.stringRef "WebHostModel" (836 : Nat) "HTTP/1.1 ") ∈ lw_tbl := lw_at lw_m10 237 rfl
theorem q2554 : (Jvm.Cond.methodLink "WebHostModel" (838 : Nat) ({ cls := "WebHostModel", name := "say", desc := "(LWebHostModel$Connection;Ljava/lang/String;)V" } : Jvm.MethodName)) ∈ lw_all := lw_g (lw_at lw_m10 238 rfl) rfl
theorem q2555 : (Jvm.Cond.privateMethod ({ cls := "WebHostModel", name := "say", desc := "(LWebHostModel$Connection;Ljava/lang/String;)V" } : Jvm.MethodName)) ∈ lw_tbl := lw_at lw_m10 239 rfl
theorem q2556 : (Jvm.Cond.instanceMethod ({ cls := "WebHostModel", name := "say", desc := "(LWebHostModel$Connection;Ljava/lang/String;)V" } : Jvm.MethodName)) ∈ lw_all := lw_g (lw_at lw_m11 0 rfl) rfl
theorem q2557 : (Jvm.Cond.code ({ cls := "WebHostModel", name := "say", desc := "(LWebHostModel$Connection;Ljava/lang/String;)V" } : Jvm.MethodName) prog_17_method_101_code (4 : Nat) (Option.none : Option Jvm.ClassFile.FieldType)) ∈ lw_all := lw_g (lw_at lw_m11 1 rfl) rfl
theorem q2558 : (Jvm.Cond.methodLink "WebHostModel" (789 : Nat) ({ cls := "WebHostModel", name := "code", desc := "(LWebHostModel$Connection;I)V" } : Jvm.MethodName)) ∈ lw_all := lw_g (lw_at lw_m11 2 rfl) rfl
theorem q2559 : (Jvm.Cond.privateMethod ({ cls := "WebHostModel", name := "code", desc := "(LWebHostModel$Connection;I)V" } : Jvm.MethodName)) ∈ lw_tbl := lw_at lw_m11 3 rfl
theorem q2560 : (Jvm.Cond.instanceMethod ({ cls := "WebHostModel", name := "code", desc := "(LWebHostModel$Connection;I)V" } : Jvm.MethodName)) ∈ lw_all := lw_g (lw_at lw_m11 4 rfl) rfl
theorem q2561 : (Jvm.Cond.code ({ cls := "WebHostModel", name := "code", desc := "(LWebHostModel$Connection;I)V" } : Jvm.MethodName) prog_17_method_102_code (3 : Nat) (Option.none : Option Jvm.ClassFile.FieldType)) ∈ lw_all := lw_g (lw_at lw_m11 5 rfl) rfl
theorem q2562 : (Jvm.Cond.methodLink "WebHostModel" (842 : Nat) ({ cls := "WebHostModel", name := "sayNumber", desc := "(LWebHostModel$Connection;I)V" } : Jvm.MethodName)) ∈ lw_all := lw_g (lw_at lw_m11 6 rfl) rfl
theorem q2563 : (Jvm.Cond.privateMethod ({ cls := "WebHostModel", name := "sayNumber", desc := "(LWebHostModel$Connection;I)V" } : Jvm.MethodName)) ∈ lw_tbl := lw_at lw_m11 7 rfl
theorem q2564 : (Jvm.Cond.instanceMethod ({ cls := "WebHostModel", name := "sayNumber", desc := "(LWebHostModel$Connection;I)V" } : Jvm.MethodName)) ∈ lw_all := lw_g (lw_at lw_m11 8 rfl) rfl
theorem q2565 : (Jvm.Cond.code ({ cls := "WebHostModel", name := "sayNumber", desc := "(LWebHostModel$Connection;I)V" } : Jvm.MethodName) prog_17_method_103_code (5 : Nat) (Option.none : Option Jvm.ClassFile.FieldType)) ∈ lw_all := lw_g (lw_at lw_m11 9 rfl) rfl
theorem q2566 : (Jvm.Cond.methodLink "WebHostModel" (845 : Nat) ({ cls := "WebHostModel", name := "phrase", desc := "(I)Ljava/lang/String;" } : Jvm.MethodName)) ∈ lw_all := lw_g (lw_at lw_m11 10 rfl) rfl
theorem q2567 : (Jvm.Cond.static ({ cls := "WebHostModel", name := "phrase", desc := "(I)Ljava/lang/String;" } : Jvm.MethodName)) ∈ lw_all := lw_g (lw_at lw_m11 11 rfl) rfl
theorem q2568 : (Jvm.Cond.code ({ cls := "WebHostModel", name := "phrase", desc := "(I)Ljava/lang/String;" } : Jvm.MethodName) prog_17_method_105_code (1 : Nat) (Option.some (Jvm.ClassFile.FieldType.object "java/lang/String"))) ∈ lw_all := lw_g (lw_at lw_m11 12 rfl) rfl
theorem q2569 : (Jvm.Cond.stringRef "WebHostModel" (792 : Nat) "OK") ∈ lw_tbl := lw_at lw_m11 13 rfl
theorem q2570 : (Jvm.Cond.stringRef "WebHostModel" (794 : Nat) "Not Modified") ∈ lw_tbl := lw_at lw_m11 14 rfl
theorem q2571 : (Jvm.Cond.stringRef "WebHostModel" (796 : Nat) "Bad Request") ∈ lw_tbl := lw_at lw_m11 15 rfl
theorem q2572 : (Jvm.Cond.stringRef "WebHostModel" (798 : Nat) "Not Found") ∈ lw_tbl := lw_at lw_m11 16 rfl
theorem q2573 : (Jvm.Cond.stringRef "WebHostModel" (800 : Nat) "Method Not Allowed") ∈ lw_tbl := lw_at lw_m11 17 rfl
theorem q2574 : (Jvm.Cond.stringRef "WebHostModel" (802 : Nat) "Content Too Large") ∈ lw_tbl := lw_at lw_m11 18 rfl
theorem q2575 : (Jvm.Cond.stringRef "WebHostModel" (804 : Nat) "Request Header Fields Too Large") ∈ lw_tbl := lw_at lw_m11 19 rfl
theorem q2576 : (Jvm.Cond.stringRef "WebHostModel" (806 : Nat) "Internal Server Error") ∈ lw_tbl := lw_at lw_m11 20 rfl
theorem q2577 : (Jvm.Cond.stringRef "WebHostModel" (808 : Nat) "Not Implemented") ∈ lw_tbl := lw_at lw_m11 21 rfl
theorem q2578 : (Jvm.Cond.methodLink "WebHostModel" (849 : Nat) ({ cls := "WebHostModel", name := "line", desc := "(LWebHostModel$Connection;)V" } : Jvm.MethodName)) ∈ lw_all := lw_g (lw_at lw_m11 22 rfl) rfl
theorem q2579 : (Jvm.Cond.privateMethod ({ cls := "WebHostModel", name := "line", desc := "(LWebHostModel$Connection;)V" } : Jvm.MethodName)) ∈ lw_tbl := lw_at lw_m11 23 rfl
theorem q2580 : (Jvm.Cond.instanceMethod ({ cls := "WebHostModel", name := "line", desc := "(LWebHostModel$Connection;)V" } : Jvm.MethodName)) ∈ lw_all := lw_g (lw_at lw_m11 24 rfl) rfl
theorem q2581 : (Jvm.Cond.code ({ cls := "WebHostModel", name := "line", desc := "(LWebHostModel$Connection;)V" } : Jvm.MethodName) prog_17_method_104_code (2 : Nat) (Option.none : Option Jvm.ClassFile.FieldType)) ∈ lw_all := lw_g (lw_at lw_m11 25 rfl) rfl
theorem q2582 : (Jvm.Cond.stringRef "WebHostModel" (852 : Nat) "Content-Length: ") ∈ lw_tbl := lw_at lw_m11 26 rfl
theorem q2583 : (Jvm.Cond.stringRef "WebHostModel" (854 : Nat) "Content-Type: ") ∈ lw_tbl := lw_at lw_m11 27 rfl
theorem q2584 : (Jvm.Cond.methodLink "WebHostModel" (856 : Nat) ({ cls := "WebHostModel", name := "type", desc := "(I)Ljava/lang/String;" } : Jvm.MethodName)) ∈ lw_all := lw_g (lw_at lw_m11 28 rfl) rfl
theorem q2585 : (Jvm.Cond.privateMethod ({ cls := "WebHostModel", name := "type", desc := "(I)Ljava/lang/String;" } : Jvm.MethodName)) ∈ lw_tbl := lw_at lw_m11 29 rfl
theorem q2586 : (Jvm.Cond.instanceMethod ({ cls := "WebHostModel", name := "type", desc := "(I)Ljava/lang/String;" } : Jvm.MethodName)) ∈ lw_all := lw_g (lw_at lw_m11 30 rfl) rfl
theorem q2587 : (Jvm.Cond.code ({ cls := "WebHostModel", name := "type", desc := "(I)Ljava/lang/String;" } : Jvm.MethodName) prog_17_method_107_code (2 : Nat) (Option.some (Jvm.ClassFile.FieldType.object "java/lang/String"))) ∈ lw_all := lw_g (lw_at lw_m11 31 rfl) rfl
theorem q2588 : (Jvm.Cond.stringRef "WebHostModel" (810 : Nat) ".txt") ∈ lw_tbl := lw_at lw_m11 32 rfl
theorem q2589 : (Jvm.Cond.methodLink "WebHostModel" (812 : Nat) ({ cls := "WebHostModel", name := "endsWith", desc := "(ILjava/lang/String;)Z" } : Jvm.MethodName)) ∈ lw_all := lw_g (lw_at lw_m11 33 rfl) rfl
theorem q2590 : (Jvm.Cond.privateMethod ({ cls := "WebHostModel", name := "endsWith", desc := "(ILjava/lang/String;)Z" } : Jvm.MethodName)) ∈ lw_tbl := lw_at lw_m11 34 rfl
theorem q2591 : (Jvm.Cond.instanceMethod ({ cls := "WebHostModel", name := "endsWith", desc := "(ILjava/lang/String;)Z" } : Jvm.MethodName)) ∈ lw_all := lw_g (lw_at lw_m11 35 rfl) rfl
theorem q2592 : (Jvm.Cond.code ({ cls := "WebHostModel", name := "endsWith", desc := "(ILjava/lang/String;)Z" } : Jvm.MethodName) prog_17_method_106_code (5 : Nat) (Option.some Jvm.ClassFile.FieldType.boolean)) ∈ lw_all := lw_g (lw_at lw_m11 36 rfl) rfl
theorem q2593 : (Jvm.Cond.stringRef "WebHostModel" (816 : Nat) "text/plain") ∈ lw_tbl := lw_at lw_m11 37 rfl
theorem q2594 : (Jvm.Cond.stringRef "WebHostModel" (818 : Nat) ".html") ∈ lw_tbl := lw_at lw_m11 38 rfl
theorem q2595 : (Jvm.Cond.stringRef "WebHostModel" (820 : Nat) "text/html") ∈ lw_tbl := lw_at lw_m11 39 rfl
theorem q2596 : (Jvm.Cond.stringRef "WebHostModel" (822 : Nat) ".css") ∈ lw_tbl := lw_at lw_m11 40 rfl
theorem q2597 : (Jvm.Cond.stringRef "WebHostModel" (824 : Nat) "text/css") ∈ lw_tbl := lw_at lw_m11 41 rfl
theorem q2598 : (Jvm.Cond.stringRef "WebHostModel" (826 : Nat) ".js") ∈ lw_tbl := lw_at lw_m11 42 rfl
theorem q2599 : (Jvm.Cond.stringRef "WebHostModel" (828 : Nat) "text/javascript") ∈ lw_tbl := lw_at lw_m11 43 rfl
theorem q2600 : (Jvm.Cond.stringRef "WebHostModel" (830 : Nat) ".png") ∈ lw_tbl := lw_at lw_m11 44 rfl
theorem q2601 : (Jvm.Cond.stringRef "WebHostModel" (832 : Nat) "image/png") ∈ lw_tbl := lw_at lw_m11 45 rfl
theorem q2602 : (Jvm.Cond.stringRef "WebHostModel" (834 : Nat) "application/octet-stream") ∈ lw_tbl := lw_at lw_m11 46 rfl
theorem q2603 : (Jvm.Cond.stringRef "WebHostModel" (859 : Nat) "ETag: \"") ∈ lw_tbl := lw_at lw_m11 47 rfl
theorem q2604 : (Jvm.Cond.stringRef "WebHostModel" (861 : Nat) "Allow: GET, HEAD") ∈ lw_tbl := lw_at lw_m11 48 rfl
theorem q2605 : (Jvm.Cond.stringRef "WebHostModel" (863 : Nat) "Connection: close") ∈ lw_tbl := lw_at lw_m11 49 rfl
theorem q2606 : (Jvm.Cond.methodLink "WebHostModel" (631 : Nat) ({ cls := "WebHostModel", name := "refuse", desc := "(LWebHostModel$Connection;)V" } : Jvm.MethodName)) ∈ lw_all := lw_g (lw_at lw_m11 50 rfl) rfl
theorem q2607 : (Jvm.Cond.privateMethod ({ cls := "WebHostModel", name := "refuse", desc := "(LWebHostModel$Connection;)V" } : Jvm.MethodName)) ∈ lw_tbl := lw_at lw_m11 51 rfl
theorem q2608 : (Jvm.Cond.instanceMethod ({ cls := "WebHostModel", name := "refuse", desc := "(LWebHostModel$Connection;)V" } : Jvm.MethodName)) ∈ lw_all := lw_g (lw_at lw_m11 52 rfl) rfl
theorem q2609 : (Jvm.Cond.code ({ cls := "WebHostModel", name := "refuse", desc := "(LWebHostModel$Connection;)V" } : Jvm.MethodName) prog_17_method_81_code (2 : Nat) (Option.none : Option Jvm.ClassFile.FieldType)) ∈ lw_all := lw_g (lw_at lw_m11 53 rfl) rfl
theorem q2610 : (Jvm.Cond.methodLink "WebHostModel" (247 : Nat) ({ cls := "WebHostModel", name := "fragment", desc := "(IIIIIZ)V" } : Jvm.MethodName)) ∈ lw_all := lw_g (lw_at lw_m11 54 rfl) rfl
theorem q2611 : (Jvm.Cond.privateMethod ({ cls := "WebHostModel", name := "fragment", desc := "(IIIIIZ)V" } : Jvm.MethodName)) ∈ lw_tbl := lw_at lw_m11 55 rfl
theorem q2612 : (Jvm.Cond.instanceMethod ({ cls := "WebHostModel", name := "fragment", desc := "(IIIIIZ)V" } : Jvm.MethodName)) ∈ lw_all := lw_g (lw_at lw_m11 56 rfl) rfl
theorem q2613 : (Jvm.Cond.code ({ cls := "WebHostModel", name := "fragment", desc := "(IIIIIZ)V" } : Jvm.MethodName) prog_17_method_29_code (13 : Nat) (Option.none : Option Jvm.ClassFile.FieldType)) ∈ lw_all := lw_g (lw_at lw_m11 57 rfl) rfl
theorem q2614 : (Jvm.Cond.methodLink "WebHostLaw" (39 : Nat) ({ cls := "WebHostModel", name := "pass", desc := "(I)I" } : Jvm.MethodName)) ∈ lw_all := lw_g (lw_at lw_m11 58 rfl) rfl
theorem q2615 : (Jvm.Cond.instanceMethod ({ cls := "WebHostModel", name := "pass", desc := "(I)I" } : Jvm.MethodName)) ∈ lw_all := lw_g (lw_at lw_m11 59 rfl) rfl
theorem q2616 : (Jvm.Cond.selects "WebHostModel" ({ cls := "WebHostModel", name := "pass", desc := "(I)I" } : Jvm.MethodName) ({ cls := "WebHostModel", name := "pass", desc := "(I)I" } : Jvm.MethodName)) ∈ lw_all := lw_g (lw_at lw_m11 60 rfl) rfl
theorem q2617 : (Jvm.Cond.code ({ cls := "WebHostModel", name := "pass", desc := "(I)I" } : Jvm.MethodName) prog_17_method_74_code (4 : Nat) (Option.some Jvm.ClassFile.FieldType.int)) ∈ lw_all := lw_g (lw_at lw_m11 61 rfl) rfl
theorem q2618 : (Jvm.Cond.methodLink "WebHostLaw" (43 : Nat) ({ cls := "WebHostModel", name := "now", desc := "()I" } : Jvm.MethodName)) ∈ lw_all := lw_g (lw_at lw_m11 62 rfl) rfl
theorem q2619 : (Jvm.Cond.instanceMethod ({ cls := "WebHostModel", name := "now", desc := "()I" } : Jvm.MethodName)) ∈ lw_all := lw_g (lw_at lw_m11 63 rfl) rfl
theorem q2620 : (Jvm.Cond.selects "WebHostModel" ({ cls := "WebHostModel", name := "now", desc := "()I" } : Jvm.MethodName) ({ cls := "WebHostModel", name := "now", desc := "()I" } : Jvm.MethodName)) ∈ lw_all := lw_g (lw_at lw_m11 64 rfl) rfl
theorem q2621 : (Jvm.Cond.code ({ cls := "WebHostModel", name := "now", desc := "()I" } : Jvm.MethodName) prog_17_method_109_code (1 : Nat) (Option.some Jvm.ClassFile.FieldType.int)) ∈ lw_all := lw_g (lw_at lw_m11 65 rfl) rfl
theorem q2622 : (Jvm.Cond.methodLink "WebHostLaw" (47 : Nat) ({ cls := "WebHostModel", name := "sent", desc := "()I" } : Jvm.MethodName)) ∈ lw_all := lw_g (lw_at lw_m11 66 rfl) rfl
theorem q2623 : (Jvm.Cond.instanceMethod ({ cls := "WebHostModel", name := "sent", desc := "()I" } : Jvm.MethodName)) ∈ lw_all := lw_g (lw_at lw_m11 67 rfl) rfl
theorem q2624 : (Jvm.Cond.selects "WebHostModel" ({ cls := "WebHostModel", name := "sent", desc := "()I" } : Jvm.MethodName) ({ cls := "WebHostModel", name := "sent", desc := "()I" } : Jvm.MethodName)) ∈ lw_all := lw_g (lw_at lw_m11 68 rfl) rfl
theorem q2625 : (Jvm.Cond.code ({ cls := "WebHostModel", name := "sent", desc := "()I" } : Jvm.MethodName) prog_17_method_110_code (1 : Nat) (Option.some Jvm.ClassFile.FieldType.int)) ∈ lw_all := lw_g (lw_at lw_m11 69 rfl) rfl
theorem q2626 : (Jvm.Cond.methodLink "WebHostLaw" (51 : Nat) ({ cls := "WebHostModel", name := "length", desc := "(I)I" } : Jvm.MethodName)) ∈ lw_all := lw_g (lw_at lw_m11 70 rfl) rfl
theorem q2627 : (Jvm.Cond.instanceMethod ({ cls := "WebHostModel", name := "length", desc := "(I)I" } : Jvm.MethodName)) ∈ lw_all := lw_g (lw_at lw_m11 71 rfl) rfl
theorem q2628 : (Jvm.Cond.selects "WebHostModel" ({ cls := "WebHostModel", name := "length", desc := "(I)I" } : Jvm.MethodName) ({ cls := "WebHostModel", name := "length", desc := "(I)I" } : Jvm.MethodName)) ∈ lw_all := lw_g (lw_at lw_m11 72 rfl) rfl
theorem q2629 : (Jvm.Cond.code ({ cls := "WebHostModel", name := "length", desc := "(I)I" } : Jvm.MethodName) prog_17_method_112_code (2 : Nat) (Option.some Jvm.ClassFile.FieldType.int)) ∈ lw_all := lw_g (lw_at lw_m11 73 rfl) rfl
theorem q2630 : (Jvm.Cond.methodLink "WebHostModel" (865 : Nat) ({ cls := "WebHostModel", name := "slot", desc := "(I)I" } : Jvm.MethodName)) ∈ lw_all := lw_g (lw_at lw_m11 74 rfl) rfl
theorem q2631 : (Jvm.Cond.privateMethod ({ cls := "WebHostModel", name := "slot", desc := "(I)I" } : Jvm.MethodName)) ∈ lw_tbl := lw_at lw_m11 75 rfl
theorem q2632 : (Jvm.Cond.instanceMethod ({ cls := "WebHostModel", name := "slot", desc := "(I)I" } : Jvm.MethodName)) ∈ lw_all := lw_g (lw_at lw_m11 76 rfl) rfl
theorem q2633 : (Jvm.Cond.code ({ cls := "WebHostModel", name := "slot", desc := "(I)I" } : Jvm.MethodName) prog_17_method_111_code (2 : Nat) (Option.some Jvm.ClassFile.FieldType.int)) ∈ lw_all := lw_g (lw_at lw_m11 77 rfl) rfl
theorem q2634 : (Jvm.Cond.methodLink "WebHostLaw" (56 : Nat) ({ cls := "WebHostModel", name := "at", desc := "(II)I" } : Jvm.MethodName)) ∈ lw_all := lw_g (lw_at lw_m11 78 rfl) rfl
theorem q2635 : (Jvm.Cond.instanceMethod ({ cls := "WebHostModel", name := "at", desc := "(II)I" } : Jvm.MethodName)) ∈ lw_all := lw_g (lw_at lw_m11 79 rfl) rfl
theorem q2636 : (Jvm.Cond.selects "WebHostModel" ({ cls := "WebHostModel", name := "at", desc := "(II)I" } : Jvm.MethodName) ({ cls := "WebHostModel", name := "at", desc := "(II)I" } : Jvm.MethodName)) ∈ lw_all := lw_g (lw_at lw_m11 80 rfl) rfl
theorem q2637 : (Jvm.Cond.code ({ cls := "WebHostModel", name := "at", desc := "(II)I" } : Jvm.MethodName) prog_17_method_113_code (4 : Nat) (Option.some Jvm.ClassFile.FieldType.int)) ∈ lw_all := lw_g (lw_at lw_m11 81 rfl) rfl
theorem q2638 : (Jvm.Cond.methodLink "WebHostLaw" (60 : Nat) ({ cls := "WebHostModel", name := "time", desc := "(I)I" } : Jvm.MethodName)) ∈ lw_all := lw_g (lw_at lw_m11 82 rfl) rfl
theorem q2639 : (Jvm.Cond.instanceMethod ({ cls := "WebHostModel", name := "time", desc := "(I)I" } : Jvm.MethodName)) ∈ lw_all := lw_g (lw_at lw_m11 83 rfl) rfl
theorem q2640 : (Jvm.Cond.selects "WebHostModel" ({ cls := "WebHostModel", name := "time", desc := "(I)I" } : Jvm.MethodName) ({ cls := "WebHostModel", name := "time", desc := "(I)I" } : Jvm.MethodName)) ∈ lw_all := lw_g (lw_at lw_m11 84 rfl) rfl
theorem q2641 : (Jvm.Cond.code ({ cls := "WebHostModel", name := "time", desc := "(I)I" } : Jvm.MethodName) prog_17_method_114_code (2 : Nat) (Option.some Jvm.ClassFile.FieldType.int)) ∈ lw_all := lw_g (lw_at lw_m11 85 rfl) rfl
theorem q2642 : (Jvm.Cond.methodLink "WebHostLaw" (64 : Nat) ({ cls := "WebHostModel", name := "state", desc := "(I)I" } : Jvm.MethodName)) ∈ lw_all := lw_g (lw_at lw_m11 86 rfl) rfl
theorem q2643 : (Jvm.Cond.instanceMethod ({ cls := "WebHostModel", name := "state", desc := "(I)I" } : Jvm.MethodName)) ∈ lw_all := lw_g (lw_at lw_m11 87 rfl) rfl
theorem q2644 : (Jvm.Cond.selects "WebHostModel" ({ cls := "WebHostModel", name := "state", desc := "(I)I" } : Jvm.MethodName) ({ cls := "WebHostModel", name := "state", desc := "(I)I" } : Jvm.MethodName)) ∈ lw_all := lw_g (lw_at lw_m11 88 rfl) rfl
theorem q2645 : (Jvm.Cond.code ({ cls := "WebHostModel", name := "state", desc := "(I)I" } : Jvm.MethodName) prog_17_method_115_code (2 : Nat) (Option.some Jvm.ClassFile.FieldType.int)) ∈ lw_all := lw_g (lw_at lw_m11 89 rfl) rfl
theorem q2646 : (Jvm.Cond.methodLink "WebHostLaw" (69 : Nat) ({ cls := "WebHostModel", name := "look", desc := "(II)J" } : Jvm.MethodName)) ∈ lw_all := lw_g (lw_at lw_m11 90 rfl) rfl
theorem q2647 : (Jvm.Cond.instanceMethod ({ cls := "WebHostModel", name := "look", desc := "(II)J" } : Jvm.MethodName)) ∈ lw_all := lw_g (lw_at lw_m11 91 rfl) rfl
theorem q2648 : (Jvm.Cond.selects "WebHostModel" ({ cls := "WebHostModel", name := "look", desc := "(II)J" } : Jvm.MethodName) ({ cls := "WebHostModel", name := "look", desc := "(II)J" } : Jvm.MethodName)) ∈ lw_all := lw_g (lw_at lw_m11 92 rfl) rfl
theorem q2649 : (Jvm.Cond.code ({ cls := "WebHostModel", name := "look", desc := "(II)J" } : Jvm.MethodName) prog_17_method_116_code (4 : Nat) (Option.some Jvm.ClassFile.FieldType.long)) ∈ lw_all := lw_g (lw_at lw_m11 93 rfl) rfl
theorem q2650 : (Jvm.Cond.methodLink "WebHostModel" (868 : Nat) ({ cls := "WebHostModel", name := "state", desc := "(I)I" } : Jvm.MethodName)) ∈ lw_all := lw_g (lw_at lw_m11 94 rfl) rfl
theorem q2651 : (Jvm.Cond.constantLong "WebHostModel" (870 : Nat) (4294967296 : Int64)) ∈ lw_all := lw_g (lw_at lw_m11 95 rfl) rfl
theorem q2652 : (Jvm.Cond.constantLong "WebHostModel" (872 : Nat) (4294967295 : Int64)) ∈ lw_all := lw_g (lw_at lw_m11 96 rfl) rfl
theorem q2653 : (Jvm.Cond.methodLink "WebHostLaw" (74 : Nat) ({ cls := "WebHostModel", name := "cached", desc := "(I)Z" } : Jvm.MethodName)) ∈ lw_all := lw_g (lw_at lw_m11 97 rfl) rfl
theorem q2654 : (Jvm.Cond.instanceMethod ({ cls := "WebHostModel", name := "cached", desc := "(I)Z" } : Jvm.MethodName)) ∈ lw_all := lw_g (lw_at lw_m11 98 rfl) rfl
theorem q2655 : (Jvm.Cond.selects "WebHostModel" ({ cls := "WebHostModel", name := "cached", desc := "(I)Z" } : Jvm.MethodName) ({ cls := "WebHostModel", name := "cached", desc := "(I)Z" } : Jvm.MethodName)) ∈ lw_all := lw_g (lw_at lw_m11 99 rfl) rfl
theorem q2656 : (Jvm.Cond.code ({ cls := "WebHostModel", name := "cached", desc := "(I)Z" } : Jvm.MethodName) prog_17_method_117_code (2 : Nat) (Option.some Jvm.ClassFile.FieldType.boolean)) ∈ lw_all := lw_g (lw_at lw_m11 100 rfl) rfl
theorem q2657 : (Jvm.Cond.methodLink "WebHostLaw" (78 : Nat) ({ cls := "WebHostModel", name := "waiting", desc := "()I" } : Jvm.MethodName)) ∈ lw_all := lw_g (lw_at lw_m11 101 rfl) rfl
theorem q2658 : (Jvm.Cond.instanceMethod ({ cls := "WebHostModel", name := "waiting", desc := "()I" } : Jvm.MethodName)) ∈ lw_all := lw_g (lw_at lw_m11 102 rfl) rfl
theorem q2659 : (Jvm.Cond.selects "WebHostModel" ({ cls := "WebHostModel", name := "waiting", desc := "()I" } : Jvm.MethodName) ({ cls := "WebHostModel", name := "waiting", desc := "()I" } : Jvm.MethodName)) ∈ lw_all := lw_g (lw_at lw_m11 103 rfl) rfl
theorem q2660 : (Jvm.Cond.code ({ cls := "WebHostModel", name := "waiting", desc := "()I" } : Jvm.MethodName) prog_17_method_118_code (3 : Nat) (Option.some Jvm.ClassFile.FieldType.int)) ∈ lw_all := lw_g (lw_at lw_m11 104 rfl) rfl
theorem q2661 : (Jvm.Cond.methodLink "WebHostLaw" (82 : Nat) ({ cls := "WebHostModel", name := "counted", desc := "(I)I" } : Jvm.MethodName)) ∈ lw_all := lw_g (lw_at lw_m11 105 rfl) rfl
theorem q2662 : (Jvm.Cond.instanceMethod ({ cls := "WebHostModel", name := "counted", desc := "(I)I" } : Jvm.MethodName)) ∈ lw_all := lw_g (lw_at lw_m11 106 rfl) rfl
theorem q2663 : (Jvm.Cond.selects "WebHostModel" ({ cls := "WebHostModel", name := "counted", desc := "(I)I" } : Jvm.MethodName) ({ cls := "WebHostModel", name := "counted", desc := "(I)I" } : Jvm.MethodName)) ∈ lw_all := lw_g (lw_at lw_m11 107 rfl) rfl
theorem q2664 : (Jvm.Cond.code ({ cls := "WebHostModel", name := "counted", desc := "(I)I" } : Jvm.MethodName) prog_17_method_119_code (2 : Nat) (Option.some Jvm.ClassFile.FieldType.int)) ∈ lw_all := lw_g (lw_at lw_m11 108 rfl) rfl
theorem q2665 : (Jvm.Cond.methodLink "WebHostLaw" (87 : Nat) ({ cls := "WebHostModel", name := "damage", desc := "(II)Z" } : Jvm.MethodName)) ∈ lw_all := lw_g (lw_at lw_m11 109 rfl) rfl
theorem q2666 : (Jvm.Cond.instanceMethod ({ cls := "WebHostModel", name := "damage", desc := "(II)Z" } : Jvm.MethodName)) ∈ lw_all := lw_g (lw_at lw_m11 110 rfl) rfl
theorem q2667 : (Jvm.Cond.selects "WebHostModel" ({ cls := "WebHostModel", name := "damage", desc := "(II)Z" } : Jvm.MethodName) ({ cls := "WebHostModel", name := "damage", desc := "(II)Z" } : Jvm.MethodName)) ∈ lw_all := lw_g (lw_at lw_m11 111 rfl) rfl
theorem q2668 : (Jvm.Cond.code ({ cls := "WebHostModel", name := "damage", desc := "(II)Z" } : Jvm.MethodName) prog_17_method_120_code (5 : Nat) (Option.some Jvm.ClassFile.FieldType.boolean)) ∈ lw_all := lw_g (lw_at lw_m11 112 rfl) rfl
theorem q2669 : (Jvm.Cond.methodLink "WebHostLaw" (91 : Nat) ({ cls := "WebHostModel", name := "strays", desc := "()I" } : Jvm.MethodName)) ∈ lw_all := lw_g (lw_at lw_m11 113 rfl) rfl
theorem q2670 : (Jvm.Cond.instanceMethod ({ cls := "WebHostModel", name := "strays", desc := "()I" } : Jvm.MethodName)) ∈ lw_all := lw_g (lw_at lw_m11 114 rfl) rfl
theorem q2671 : (Jvm.Cond.selects "WebHostModel" ({ cls := "WebHostModel", name := "strays", desc := "()I" } : Jvm.MethodName) ({ cls := "WebHostModel", name := "strays", desc := "()I" } : Jvm.MethodName)) ∈ lw_all := lw_g (lw_at lw_m11 115 rfl) rfl
theorem q2672 : (Jvm.Cond.code ({ cls := "WebHostModel", name := "strays", desc := "()I" } : Jvm.MethodName) prog_17_method_121_code (1 : Nat) (Option.some Jvm.ClassFile.FieldType.int)) ∈ lw_all := lw_g (lw_at lw_m11 116 rfl) rfl
theorem q2673 : (Jvm.Cond.fieldLink "java/lang/String" (9 : Nat) "java/lang/String" "value" "[B") ∈ lw_all := lw_g (lw_at lw_m11 117 rfl) rfl
theorem q2674 : (Jvm.Cond.fieldLink "java/lang/String" (15 : Nat) "java/lang/String" "coder" "B") ∈ lw_all := lw_g (lw_at lw_m11 118 rfl) rfl
theorem in_X0 : ∀ w ∈ wsX00, w ∈ lw_all := lw_in wsX00 [757, 759, 761, 763, 765, 767, 769, 771, 773, 775, 777, 779, 781, 783] (by decide +kernel) (by decide +kernel)
theorem in_X1 : ∀ w ∈ wsX10, w ∈ lw_all := lw_in wsX10 [204, 206, 208, 210] (by decide +kernel) (by decide +kernel)
theorem in_X10 : ∀ w ∈ wsX100, w ∈ lw_all := lw_in wsX100 [542, 544, 546, 548, 550, 552, 554, 556, 558, 560, 562] (by decide +kernel) (by decide +kernel)
theorem in_X11 : ∀ w ∈ wsX110, w ∈ lw_all := lw_in wsX110 [662, 664, 666, 668, 670, 672, 674, 676, 678, 680, 682, 684, 686, 688, 690, 692, 694, 696, 698, 700, 702, 704, 706, 708, 710, 712, 714, 716, 718, 720, 722, 724, 726, 728, 730, 732, 734, 736, 738, 740] (by decide +kernel) (by decide +kernel)
theorem in_X12 : ∀ w ∈ wsX120, w ∈ lw_all := lw_in wsX120 [584, 586, 588, 590] (by decide +kernel) (by decide +kernel)
theorem in_X13 : ∀ w ∈ wsX130, w ∈ lw_all := lw_in wsX130 [603, 605] (by decide +kernel) (by decide +kernel)
theorem in_X14 : ∀ w ∈ wsX140, w ∈ lw_all := lw_in wsX140 [2003, 2005, 2007, 2009, 2011, 2013, 2015, 2017, 2019, 2021, 2023, 2025, 2027, 2029, 2031, 2033, 2035, 2037, 2039, 2041, 2043, 2045, 2047, 2049, 2051, 2053, 2055, 2057, 2059, 2061, 2063, 2065, 2067, 2069, 2071, 2073, 2075, 2077, 2079, 2081, 2083, 2085, 2087, 2089, 2091, 2093, 2095, 2097, 2099, 2101, 2103, 2105, 2107, 2109, 2111, 2113, 2115, 2117, 2119, 2121, 2123, 2125, 2127] (by decide +kernel) (by decide +kernel)
theorem in_X15 : ∀ w ∈ wsX150, w ∈ lw_all := lw_in wsX150 [1763, 1765, 1767, 1769, 1771, 1773, 1775, 1777, 1779, 1781, 1783, 1785, 1787, 1789, 1791, 1793, 1795, 1797, 1799, 1801, 1803, 1805, 1807, 1809, 1811, 1813, 1815, 1817, 1819, 1821, 1823, 1825, 1827, 1829, 1831, 1833, 1835, 1837, 1839, 1841, 1843, 1845, 1847, 1849, 1851, 1853] (by decide +kernel) (by decide +kernel)
theorem in_X16 : ∀ w ∈ wsX160, w ∈ lw_all := lw_in wsX160 [1866, 1868, 1870, 1872, 1874] (by decide +kernel) (by decide +kernel)
theorem in_X17 : ∀ w ∈ wsX170, w ∈ lw_all := lw_in wsX170 [1890, 1892, 1894, 1896, 1898, 1900, 1902] (by decide +kernel) (by decide +kernel)
theorem in_X18 : ∀ w ∈ wsX180, w ∈ lw_all := lw_in wsX180 [1921, 1923, 1925, 1927, 1929, 1931, 1933, 1935, 1937] (by decide +kernel) (by decide +kernel)
theorem in_X2 : ∀ w ∈ wsX20, w ∈ lw_all := lw_in wsX20 [233, 235, 237, 239, 241, 243] (by decide +kernel) (by decide +kernel)
theorem in_X3 : ∀ w ∈ wsX30, w ∈ lw_all := lw_in wsX30 [293, 295, 297, 299, 301, 303, 305, 307, 309, 311, 313, 315, 317] (by decide +kernel) (by decide +kernel)
theorem in_X4 : ∀ w ∈ wsX40, w ∈ lw_all := lw_in wsX40 [268, 270, 272, 274, 276] (by decide +kernel) (by decide +kernel)
theorem in_X5 : ∀ w ∈ wsX50, w ∈ lw_all := lw_in wsX50 [332, 334, 336, 338] (by decide +kernel) (by decide +kernel)
theorem in_X6 : ∀ w ∈ wsX60, w ∈ lw_all := lw_in wsX60 [390, 392, 394] (by decide +kernel) (by decide +kernel)
theorem in_X7 : ∀ w ∈ wsX70, w ∈ lw_all := lw_in wsX70 [368, 370, 372, 374, 376, 378, 380, 382] (by decide +kernel) (by decide +kernel)
theorem in_X8 : ∀ w ∈ wsX80, w ∈ lw_all := lw_in wsX80 [423, 425, 427, 429, 431, 433, 435, 437, 439] (by decide +kernel) (by decide +kernel)
theorem in_X9 : ∀ w ∈ wsX90, w ∈ lw_all := lw_in wsX90 [467, 469, 471, 473, 475, 477, 479, 481, 483, 485, 487, 489, 491, 493, 495, 497, 499, 501, 503] (by decide +kernel) (by decide +kernel)
