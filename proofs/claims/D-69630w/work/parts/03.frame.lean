/-! the state of the two systems as numbers: kind, instance, place -/
set_option maxRecDepth 100000
abbrev St : Type := Nat → Nat → Nat → Int32
def up3 (σ : St) (k i j : Nat) (v : Int32) : St := va_up σ k (va_up (σ k) i (va_up (σ k i) j v))
def kcntL : List Nat := [1, 1, 1, 1, 8, 1, 1, 4, 1, 1, 1, 16, 16, 16, 1, 16, 16, 8, 4, 0, 1, 1, 1, 32, 1, 1, 1, 1, 1, 1, 1, 1, 1, 1, 1, 8, 1, 1, 4, 4, 1, 1, 16, 16, 16, 1, 0, 0, 0, 0, 1, 1, 1, 1, 1, 1, 1, 1, 1, 1, 1, 1, 1, 1, 1, 1, 1, 1, 8, 4, 4, 16, 16, 16]
def kcnt (k : Nat) : Nat := kcntL.getD k 0
def rtF : List (List (Nat × Nat × Nat)) := [[(0, 20, 0), (2, 1, 0), (3, 2, 0), (4, 3, 0), (5, 5, 0), (6, 6, 0), (7, 8, 0), (8, 9, 0), (9, 45, 0), (10, 10, 0)], [(0, 21, 0), (2, 22, 0), (3, 0, 2)], [(0, 24, 0), (1, 25, 0), (2, 26, 0), (5, 27, 0)], [(0, 2, 0), (4, 28, 0), (5, 29, 0), (6, 30, 0), (8, 31, 0), (10, 32, 0), (11, 33, 0), (12, 34, 0)], [(3, 35, 1)], [(0, 3, 0), (3, 36, 0)], [(0, 37, 0)], [(4, 38, 1), (5, 39, 1)], [(0, 5, 0), (1, 2, 0)], [(0, 1, 0), (1, 40, 0), (17, 41, 0)], [(7, 0, 2)], [(0, 8, 0), (1, 9, 0), (20, 12, 1), (25, 13, 1)], [(0, 42, 1), (1, 43, 1)], [(0, 44, 1)], [(0, 50, 0), (2, 51, 0), (13, 52, 0), (14, 53, 0), (15, 54, 0), (16, 55, 0), (17, 56, 0), (19, 57, 0), (20, 58, 0), (21, 59, 0), (22, 60, 0), (26, 61, 0), (27, 62, 0), (28, 63, 0), (29, 64, 0), (31, 65, 0), (41, 66, 0), (58, 67, 0)], [(25, 71, 1), (32, 72, 1), (33, 73, 1)], [], [(6, 68, 1)], [(7, 69, 1), (8, 70, 1)]]
def raF : List (Nat × Nat × Nat) := [(24, 23, 3), (31, 4, 4), (37, 7, 4), (45, 11, 3), (61, 16, 3), (62, 17, 3), (63, 18, 3), (65, 15, 3)]
def zF : List (List Nat) := [[11], [], [], [], [], [], [], [], [], [5, 6, 13, 14, 15, 16], [], [19, 22, 23, 27, 28, 29, 33, 34, 35], [], [], [4, 44, 45, 46, 47, 52, 53, 54, 55, 60], [16, 17, 18, 21, 30, 31, 39, 40, 41], [0], [0], [0]]
def byK : List Nat := [20, 21, 22, 23, 27, 30, 32, 33, 34, 35, 36, 38, 40, 41, 42, 44, 50, 51, 52, 57, 58, 64, 66, 67, 68, 69, 71, 72]
def boK : List Nat := [39, 43, 70, 73]
def lnL : List Nat := [0, 0, 0, 0, 0, 0, 0, 0, 0, 0, 0, 0, 0, 0, 0, 0, 0, 0, 0, 0, 65540, 0, 4104, 1514, 32, 32, 32, 6, 16, 16, 96, 8, 28, 6, 6, 1500, 1500, 4, 4096, 4096, 4096, 48, 4096, 4096, 0, 16, 0, 0, 0, 0, 65540, 65535, 3072, 64, 64, 64, 8, 1514, 48448, 32, 32, 16, 8, 4, 4096, 16, 4096, 8192, 1500, 4096, 4096, 512, 4096, 4096]
def atyL : List Nat := [0, 0, 0, 0, 0, 0, 0, 0, 0, 0, 0, 0, 0, 0, 0, 0, 0, 0, 0, 0, 2, 2, 2, 2, 3, 0, 0, 2, 0, 0, 2, 4, 2, 2, 2, 2, 2, 5, 2, 1, 2, 2, 2, 1, 2, 6, 0, 0, 0, 0, 2, 2, 2, 0, 0, 0, 0, 2, 2, 0, 0, 7, 8, 9, 2, 10, 2, 2, 2, 2, 1, 2, 2, 1]
abbrev hcl : List vw_C := [(RX0, TX0, 14), (RX1, TX1, 4), (RX2, TX2, 6), (RX3, TX3, 13), (RX4, TX4, 5), (RX5, TX5, 4), (RX6, TX6, 3), (RX7, TX7, 8), (RX8, TX8, 9), (RX9, TX9, 19), (RX10, TX10, 11), (RX11, TX11, 40), (RX12, TX12, 4), (RX13, TX13, 2), (RX14, TX14, 63), (RX15, TX15, 46), (RX16, TX16, 5), (RX17, TX17, 7), (RX18, TX18, 9)]

def rt (k j : Nat) : Option (Nat × Nat) := if k < 19 then ((rtF.getD k []).find? (fun q => q.1 == j)).map (fun q => q.2) else (raF.find? (fun q => q.1 == k)).map (fun q => q.2)
def tyk (k j : Nat) : Nat := if k < 19 then (if (zF.getD k []).contains j then 1 else 0) else if byK.contains k then 2 else if boK.contains k then 1 else 0
def bo (v : Int32) : Prop := v = 0 ∨ v = 1
def by8 (v : Int32) : Prop := v.toInt8.toInt32 = v
def okv (t : Nat) (v : Int32) : Prop := (t = 1 → bo v) ∧ (t = 2 → by8 v)
def aty (k : Nat) : Nat := atyL.getD k 0
def alen (ρ : St) (k i : Nat) : Nat := if k = 21 then (ρ 90 0 0).toNatClampNeg else if k = 44 then (ρ 90 (i + 1) 0).toNatClampNeg else lnL.getD k 0
def ab (k i : Nat) : Bool := byK.contains k && decide (i < kcnt k)
def mkd (k : Nat) : Bool := (decide (14 ≤ k) && decide (k < 19)) || (decide (50 ≤ k) && decide (k < 90))
def cmb (σ τ : St) : St := fun k => if mkd k = true then τ k else σ k
theorem up3_k {σ : St} {k i j k' : Nat} {v : Int32} (h : k' ≠ k) : up3 σ k i j v k' = σ k' := by simp [up3, va_up, h]
theorem up3_i {σ : St} {k i j k' i' : Nat} {v : Int32} (h : ¬ (k' = k ∧ i' = i)) : up3 σ k i j v k' i' = σ k' i' := by
  by_cases hk : k' = k
  · subst hk
    have : i' ≠ i := fun e => h ⟨rfl, e⟩
    simp [up3, va_up, this]
  · simp [up3, va_up, hk]
theorem up3_s {σ : St} {k i j : Nat} {v : Int32} : up3 σ k i j v k i = va_up (σ k i) j v := by simp [up3, va_up]
theorem cmb_l {σ τ : St} {k i j : Nat} {v : Int32} (h : mkd k = false) : up3 (cmb σ τ) k i j v = cmb (up3 σ k i j v) τ := by
  funext k'
  by_cases e : k' = k
  · subst e
    simp [cmb, h, up3, va_up]
  · rw [up3_k e]
    by_cases h2 : mkd k' = true
    · simp [cmb, h2]
    · simp only [cmb, h2]
      rw [up3_k e]
theorem cmb_r {σ τ : St} {k i j : Nat} {v : Int32} (h : mkd k = true) : up3 (cmb σ τ) k i j v = cmb σ (up3 τ k i j v) := by
  funext k'
  by_cases e : k' = k
  · subst e
    simp [cmb, h, up3, va_up]
  · rw [up3_k e]
    by_cases h2 : mkd k' = true
    · simp only [cmb, h2]
      rw [up3_k e]
    · simp [cmb, h2]
theorem cmb_ll {σ τ : St} {k : Nat} (h : mkd k = false) : cmb σ τ k = σ k := by simp [cmb, h]
theorem cmb_rr {σ τ : St} {k : Nat} (h : mkd k = true) : cmb σ τ k = τ k := by simp [cmb, h]
/-! what is known besides: class numbers, addresses, array classes, where the world begins, the text constants -/
abbrev Gh : Type := va_G × (Nat → Nat → Nat) × (Nat → ClassId) × Nat × (Nat → Nat) × (Nat → Nat)
def gD (G : Gh) : va_G := G.1
def ga (G : Gh) : Nat → Nat → Nat := G.2.1
def gc (G : Gh) : Nat → ClassId := G.2.2.1
def gz (G : Gh) : Nat := G.2.2.2.1
def gs (G : Gh) : Nat → Nat := G.2.2.2.2.1
def gv (G : Gh) : Nat → Nat := G.2.2.2.2.2
def gA (G : Gh) : Nat → Prop := fun q => gz G ≤ q
def adr (G : Gh) (a1 : Nat → Nat → Nat) (k i : Nat) : Nat := if k = 21 ∨ k = 44 then a1 k i else ga G k i
theorem adr_st {G : Gh} {a1 : Nat → Nat → Nat} {k i : Nat} (h : k ≠ 21) (h2 : k ≠ 44) : adr G a1 k i = ga G k i := by simp [adr, h, h2]
/-- the value of a reference's place -/
def rfv (G : Gh) (a1 : Nat → Nat → Nat) (t md i j : Nat) (r : Nat → Int32) : Value :=
  if md = 0 then .ref (adr G a1 t 0) else if md = 1 then .ref (adr G a1 t i)
  else if md = 2 then (if (r j).toNatClampNeg = 0 then .null else .ref (adr G a1 (r j).toNatClampNeg (r (j + 100)).toNatClampNeg))
  else if md = 3 then .ref (adr G a1 t j) else .ref (adr G a1 t (r j).toNatClampNeg)
def fvl (G : Gh) (a1 : Nat → Nat → Nat) (ρ : St) (k i j : Nat) : Value := match rt k j with
  | none => .int (ρ k i j)
  | some q => rfv G a1 q.1 q.2 i j (ρ k i)
theorem fvl_i {G : Gh} {a1 : Nat → Nat → Nat} {ρ : St} {k i j : Nat} (h : rt k j = none) : fvl G a1 ρ k i j = .int (ρ k i j) := by simp [fvl, h]
theorem fvl_r {G : Gh} {a1 : Nat → Nat → Nat} {ρ : St} {k i j : Nat} {q : Nat × Nat} (h : rt k j = some q) : fvl G a1 ρ k i j = rfv G a1 q.1 q.2 i j (ρ k i) := by simp [fvl, h]
def kfn (k : Nat) : Nat := (hcl[k]?.map (fun q => q.2.2)).getD 0
/-- the heap holds the state -/
def Hd (G : Gh) (a1 : Nat → Nat → Nat) (ρ : St) (H : Heap) : Prop :=
  (∀ k i, k < 19 → i < kcnt k → t_OB (adr G a1 k i) ((gD G).1 k) (kfn k) ((gD G).2 k) H (fvl G a1 ρ k i)) ∧
  (∀ k i, 19 ≤ k → i < kcnt k → H[adr G a1 k i]? = some (arrV (gc G (aty k)) (alen ρ k i) (fvl G a1 ρ k i))) ∧
  (∀ k i k' i', i < kcnt k → i' < kcnt k' → adr G a1 k i = adr G a1 k' i' → k = k' ∧ i = i') ∧
  (∀ k i, i < kcnt k → gz G ≤ adr G a1 k i) ∧
  (∀ k i j, okv (tyk k j) (ρ k i j))
def tysl (G : Gh) : List (ClassId × FieldType) := [(gc G 0, .int), (gc G 1, .boolean), (gc G 2, .byte), (gc G 3, .array .byte), (gc G 4, .object "WebHost$Waiting"), (gc G 5, .object "WebHost$Making"), (gc G 6, .object "WebHost$Connection"), (gc G 7, .object "WebHostModel$Entry"), (gc G 8, .object "WebHostModel$Packet"), (gc G 9, .object "WebHostModel$Datagram"), (gc G 10, .object "WebHostModel$Connection")]
def nS : Nat := 83
def sLen : List Nat := [16, 31, 8, 8, 15, 4, 17, 14, 10, 13, 5, 10, 4, 15, 17, 3, 18, 9, 21, 11, 10, 1, 16, 9, 17, 0, 16, 24, 16, 6, 12, 5, 9, 4, 8, 3, 15, 4, 10, 4, 9, 24, 2, 14, 8, 8, 4, 3, 4, 17, 14, 10, 13, 5, 10, 10, 1, 2, 12, 11, 9, 18, 17, 31, 21, 15, 4, 10, 5, 9, 4, 8, 3, 15, 4, 9, 24, 9, 16, 14, 7, 16, 17]
def sByt : List (List Int32) := [[48, 49, 50, 51, 52, 53, 54, 55, 56, 57, 97, 98, 99, 100, 101, 102], [82, 101, 113, 117, 101, 115, 116, 32, 72, 101, 97, 100, 101, 114, 32, 70, 105, 101, 108, 100, 115, 32, 84, 111, 111, 32, 76, 97, 114, 103, 101], [72, 84, 84, 80, 47, 49, 46, 49], [72, 84, 84, 80, 47, 49, 46, 48], [45, 95, 46, 33, 35, 36, 37, 38, 39, 42, 43, 94, 96, 124, 126], [104, 111, 115, 116], [116, 114, 97, 110, 115, 102, 101, 114, 45, 101, 110, 99, 111, 100, 105, 110, 103], [99, 111, 110, 116, 101, 110, 116, 45, 108, 101, 110, 103, 116, 104], [99, 111, 110, 110, 101, 99, 116, 105, 111, 110], [105, 102, 45, 110, 111, 110, 101, 45, 109, 97, 116, 99, 104], [99, 108, 111, 115, 101], [107, 101, 101, 112, 45, 97, 108, 105, 118, 101], [72, 69, 65, 68], [78, 111, 116, 32, 73, 109, 112, 108, 101, 109, 101, 110, 116, 101, 100], [67, 111, 110, 116, 101, 110, 116, 32, 84, 111, 111, 32, 76, 97, 114, 103, 101], [71, 69, 84], [77, 101, 116, 104, 111, 100, 32, 78, 111, 116, 32, 65, 108, 108, 111, 119, 101, 100], [78, 111, 116, 32, 70, 111, 117, 110, 100], [73, 110, 116, 101, 114, 110, 97, 108, 32, 83, 101, 114, 118, 101, 114, 32, 69, 114, 114, 111, 114], [66, 97, 100, 32, 82, 101, 113, 117, 101, 115, 116], [105, 110, 100, 101, 120, 46, 104, 116, 109, 108], [42], [48, 49, 50, 51, 52, 53, 54, 55, 56, 57, 97, 98, 99, 100, 101, 102], [72, 84, 84, 80, 47, 49, 46, 49, 32], [67, 111, 110, 110, 101, 99, 116, 105, 111, 110, 58, 32, 99, 108, 111, 115, 101], [], [67, 111, 110, 116, 101, 110, 116, 45, 76, 101, 110, 103, 116, 104, 58, 32], [67, 111, 110, 116, 101, 110, 116, 45, 84, 121, 112, 101, 58, 32, 116, 101, 120, 116, 47, 112, 108, 97, 105, 110], [65, 108, 108, 111, 119, 58, 32, 71, 69, 84, 44, 32, 72, 69, 65, 68], [69, 84, 97, 103, 58, 32], [78, 111, 116, 32, 77, 111, 100, 105, 102, 105, 101, 100], [46, 104, 116, 109, 108], [116, 101, 120, 116, 47, 104, 116, 109, 108], [46, 99, 115, 115], [116, 101, 120, 116, 47, 99, 115, 115], [46, 106, 115], [116, 101, 120, 116, 47, 106, 97, 118, 97, 115, 99, 114, 105, 112, 116], [46, 116, 120, 116], [116, 101, 120, 116, 47, 112, 108, 97, 105, 110], [46, 112, 110, 103], [105, 109, 97, 103, 101, 47, 112, 110, 103], [97, 112, 112, 108, 105, 99, 97, 116, 105, 111, 110, 47, 111, 99, 116, 101, 116, 45, 115, 116, 114, 101, 97, 109], [79, 75], [67, 111, 110, 116, 101, 110, 116, 45, 84, 121, 112, 101, 58, 32], [72, 84, 84, 80, 47, 49, 46, 48], [72, 84, 84, 80, 47, 49, 46, 49], [72, 69, 65, 68], [71, 69, 84], [104, 111, 115, 116], [116, 114, 97, 110, 115, 102, 101, 114, 45, 101, 110, 99, 111, 100, 105, 110, 103], [99, 111, 110, 116, 101, 110, 116, 45, 108, 101, 110, 103, 116, 104], [99, 111, 110, 110, 101, 99, 116, 105, 111, 110], [105, 102, 45, 110, 111, 110, 101, 45, 109, 97, 116, 99, 104], [99, 108, 111, 115, 101], [107, 101, 101, 112, 45, 97, 108, 105, 118, 101], [105, 110, 100, 101, 120, 46, 104, 116, 109, 108], [42], [79, 75], [78, 111, 116, 32, 77, 111, 100, 105, 102, 105, 101, 100], [66, 97, 100, 32, 82, 101, 113, 117, 101, 115, 116], [78, 111, 116, 32, 70, 111, 117, 110, 100], [77, 101, 116, 104, 111, 100, 32, 78, 111, 116, 32, 65, 108, 108, 111, 119, 101, 100], [67, 111, 110, 116, 101, 110, 116, 32, 84, 111, 111, 32, 76, 97, 114, 103, 101], [82, 101, 113, 117, 101, 115, 116, 32, 72, 101, 97, 100, 101, 114, 32, 70, 105, 101, 108, 100, 115, 32, 84, 111, 111, 32, 76, 97, 114, 103, 101], [73, 110, 116, 101, 114, 110, 97, 108, 32, 83, 101, 114, 118, 101, 114, 32, 69, 114, 114, 111, 114], [78, 111, 116, 32, 73, 109, 112, 108, 101, 109, 101, 110, 116, 101, 100], [46, 116, 120, 116], [116, 101, 120, 116, 47, 112, 108, 97, 105, 110], [46, 104, 116, 109, 108], [116, 101, 120, 116, 47, 104, 116, 109, 108], [46, 99, 115, 115], [116, 101, 120, 116, 47, 99, 115, 115], [46, 106, 115], [116, 101, 120, 116, 47, 106, 97, 118, 97, 115, 99, 114, 105, 112, 116], [46, 112, 110, 103], [105, 109, 97, 103, 101, 47, 112, 110, 103], [97, 112, 112, 108, 105, 99, 97, 116, 105, 111, 110, 47, 111, 99, 116, 101, 116, 45, 115, 116, 114, 101, 97, 109], [72, 84, 84, 80, 47, 49, 46, 49, 32], [67, 111, 110, 116, 101, 110, 116, 45, 76, 101, 110, 103, 116, 104, 58, 32], [67, 111, 110, 116, 101, 110, 116, 45, 84, 121, 112, 101, 58, 32], [69, 84, 97, 103, 58, 32, 34], [65, 108, 108, 111, 119, 58, 32, 71, 69, 84, 44, 32, 72, 69, 65, 68], [67, 111, 110, 110, 101, 99, 116, 105, 111, 110, 58, 32, 99, 108, 111, 115, 101]]
def strL : List (String × Nat × String × Nat) := [("WebHost$Answer", 37, "0123456789abcdef", 0), ("WebHost$Requests", 44, "Request Header Fields Too Large", 1), ("WebHost$Requests", 84, "HTTP/1.1", 2), ("WebHost$Requests", 93, "HTTP/1.0", 3), ("WebHost$Requests", 95, "-_.!#$%&'*+^`|~", 4), ("WebHost$Requests", 110, "host", 5), ("WebHost$Requests", 118, "transfer-encoding", 6), ("WebHost$Requests", 123, "content-length", 7), ("WebHost$Requests", 128, "connection", 8), ("WebHost$Requests", 133, "if-none-match", 9), ("WebHost$Requests", 156, "close", 10), ("WebHost$Requests", 161, "keep-alive", 11), ("WebHost$Requests", 177, "HEAD", 12), ("WebHost$Requests", 183, "Not Implemented", 13), ("WebHost$Requests", 190, "Content Too Large", 14), ("WebHost$Requests", 192, "GET", 15), ("WebHost$Requests", 194, "Method Not Allowed", 16), ("WebHost$Requests", 213, "Not Found", 17), ("WebHost$Requests", 221, "Internal Server Error", 18), ("WebHost$Requests", 233, "Bad Request", 19), ("WebHost$Requests", 246, "index.html", 20), ("WebHost$Requests", 248, "*", 21), ("WebHost$Requests", 253, "0123456789abcdef", 22), ("WebHost$Requests", 260, "HTTP/1.1 ", 23), ("WebHost$Requests", 275, "Connection: close", 24), ("WebHost$Requests", 277, "", 25), ("WebHost$Requests", 279, "Content-Length: ", 26), ("WebHost$Requests", 288, "Content-Type: text/plain", 27), ("WebHost$Requests", 290, "Allow: GET, HEAD", 28), ("WebHost$Requests", 296, "ETag: ", 29), ("WebHost$Requests", 300, "Not Modified", 30), ("WebHost$Requests", 304, ".html", 31), ("WebHost$Requests", 310, "text/html", 32), ("WebHost$Requests", 312, ".css", 33), ("WebHost$Requests", 314, "text/css", 34), ("WebHost$Requests", 316, ".js", 35), ("WebHost$Requests", 318, "text/javascript", 36), ("WebHost$Requests", 320, ".txt", 37), ("WebHost$Requests", 322, "text/plain", 38), ("WebHost$Requests", 324, ".png", 39), ("WebHost$Requests", 326, "image/png", 40), ("WebHost$Requests", 328, "application/octet-stream", 41), ("WebHost$Requests", 330, "OK", 42), ("WebHost$Requests", 334, "Content-Type: ", 43), ("WebHostModel", 696, "HTTP/1.0", 44), ("WebHostModel", 702, "HTTP/1.1", 45), ("WebHostModel", 704, "HEAD", 46), ("WebHostModel", 706, "GET", 47), ("WebHostModel", 737, "host", 48), ("WebHostModel", 742, "transfer-encoding", 49), ("WebHostModel", 744, "content-length", 50), ("WebHostModel", 749, "connection", 51), ("WebHostModel", 754, "if-none-match", 52), ("WebHostModel", 763, "close", 53), ("WebHostModel", 764, "keep-alive", 54), ("WebHostModel", 782, "index.html", 55), ("WebHostModel", 784, "*", 56), ("WebHostModel", 792, "OK", 57), ("WebHostModel", 794, "Not Modified", 58), ("WebHostModel", 796, "Bad Request", 59), ("WebHostModel", 798, "Not Found", 60), ("WebHostModel", 800, "Method Not Allowed", 61), ("WebHostModel", 802, "Content Too Large", 62), ("WebHostModel", 804, "Request Header Fields Too Large", 63), ("WebHostModel", 806, "Internal Server Error", 64), ("WebHostModel", 808, "Not Implemented", 65), ("WebHostModel", 810, ".txt", 66), ("WebHostModel", 816, "text/plain", 67), ("WebHostModel", 818, ".html", 68), ("WebHostModel", 820, "text/html", 69), ("WebHostModel", 822, ".css", 70), ("WebHostModel", 824, "text/css", 71), ("WebHostModel", 826, ".js", 72), ("WebHostModel", 828, "text/javascript", 73), ("WebHostModel", 830, ".png", 74), ("WebHostModel", 832, "image/png", 75), ("WebHostModel", 834, "application/octet-stream", 76), ("WebHostModel", 836, "HTTP/1.1 ", 77), ("WebHostModel", 852, "Content-Length: ", 78), ("WebHostModel", 854, "Content-Type: ", 79), ("WebHostModel", 859, "ETag: \"", 80), ("WebHostModel", 861, "Allow: GET, HEAD", 81), ("WebHostModel", 863, "Connection: close", 82)]
def nestL : List (String × Nat × MethodName × String) := [("WebHost", 16, ⟨"WebHost$Store", "<init>", "()V"⟩, "WebHost"), ("WebHost", 79, ⟨"WebHost$Segment", "<init>", "()V"⟩, "WebHost"), ("WebHost", 133, ⟨"WebHost$Connection", "gone", "()V"⟩, "WebHost"), ("WebHost$Connection", 11, ⟨"WebHost$Inbox", "<init>", "()V"⟩, "WebHost"), ("WebHost$Connection", 20, ⟨"WebHost$Answer", "<init>", "()V"⟩, "WebHost"), ("WebHost$Fragments", 15, ⟨"WebHost$Making", "<init>", "()V"⟩, "WebHost"), ("WebHost$Hops", 39, ⟨"WebHost$Waiting", "<init>", "()V"⟩, "WebHost"), ("WebHostModel", 80, ⟨"WebHostModel$Connection", "<init>", "()V"⟩, "WebHostModel"), ("WebHostModel", 81, ⟨"WebHostModel$Entry", "<init>", "()V"⟩, "WebHostModel"), ("WebHostModel", 82, ⟨"WebHostModel$Packet", "<init>", "()V"⟩, "WebHostModel"), ("WebHostModel", 83, ⟨"WebHostModel$Datagram", "<init>", "()V"⟩, "WebHostModel")]

def KK (G : Gh) (U : State) : Prop := va_K (gD G) hcl (tysl G) U ∧ (∀ w ∈ nestL, va_Nw (.methodLinkNest w.1 w.2.1 w.2.2.1 w.2.2.2) U) ∧ ∀ w ∈ strL, vk_R w.1 w.2.1 w.2.2.1 (gs G w.2.2.2) U
def SS (G : Gh) (U : State) (H : Heap) : Prop := (∀ i : Nat, i < nS → va_O "java/lang/String" (gs G i) (gA G) U H ∧ va_OF "java/lang/String" "coder" "B" (.int 0) (gs G i) (gA G) U H ∧ va_OF "java/lang/String" "value" "[B" (.ref (gv G i)) (gs G i) (gA G) U H ∧ va_T .byte (gv G i) (sLen.getD i 0) (fun j => .int ((sByt.getD i []).getD j 0)) (gA G) U H) ∧ va_Z "java/lang/String" "COMPACT_STRINGS" "Z" (.int 1) (gA G) U H ∧ va_Zq "jdk/internal/util/Preconditions" "SIOOBE_FORMATTER" "Ljava/util/function/BiFunction;" (gA G) U H
def Iv (G : Gh) (a1 : Nat → Nat → Nat) (ρ : St) (U : State) : Prop := Hd G a1 ρ U.heap ∧ KK G U ∧ SS G U U.heap
theorem KK.warm {G : Gh} {s U : State} (hW : s.WarmedH U.vm) (h : KK G s) : KK G U := ⟨h.1.moved hW.alike, fun w hw => va_Nw.warmM hW (h.2.1 w hw), fun w hw => (h.2.2 w hw).warm hW⟩
theorem KK.same {G : Gh} {s U : State} (hv : U.vm = s.vm) (h : KK G s) : KK G U := ⟨h.1.moved (by rw [hv]; exact Vm.Alike.refl s.vm), fun w hw => va_Nw.same rfl hv.symm (h.2.1 w hw), fun w hw => (h.2.2 w hw).same hv⟩
theorem SS.moved {G : Gh} {u U : State} {H : Heap} (hvm : u.vm.Alike U.vm) (h : SS G u H) : SS G U H := ⟨fun i hi => ⟨va_O.moved hvm (h.1 i hi).1, va_OF.moved hvm (h.1 i hi).2.1, va_OF.moved hvm (h.1 i hi).2.2.1, va_T.moved hvm (h.1 i hi).2.2.2⟩, h.2.1.moved hvm, h.2.2.moved hvm⟩
theorem SS.kept {G : Gh} {U : State} {H H1 : Heap} (h : SS G U H) (hq : ∀ q : Nat, q < H.size → ¬ gA G q → H1[q]? = H[q]?) : SS G U H1 := by
  exact ⟨fun i hi => ⟨va_O.kept (h.1 i hi).1 hq, va_OF.kept (h.1 i hi).2.1 hq, va_OF.kept (h.1 i hi).2.2.1 hq, va_T.kept (h.1 i hi).2.2.2 hq⟩, h.2.1.kept hq, h.2.2.kept hq⟩
theorem Iv.calling {G : Gh} {a1 : Nat → Nat → Nat} {ρ : St} (a : Array Value) (U : State) (g : JFrame) (mk : MethodId) (h : Iv G a1 ρ U) : Iv G a1 ρ (U.calling g mk a) := ⟨h.1, h.2.1.same rfl, h.2.2.moved (Vm.Alike.refl U.vm)⟩
