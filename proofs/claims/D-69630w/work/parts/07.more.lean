/-! more rows: null, least and greatest, lengths, switches -/
set_option maxRecDepth 100000
def ushr (x y : Int32) : Int32 := (x.toUInt32 >>> (y.toUInt32 &&& Int32.toUInt32 31)).toInt32
def imin (x y : Int32) : Int32 := if y < x then y else x
def imax (x y : Int32) : Int32 := if x < y then y else x
def iabs (x : Int32) : Int32 := if 0 ≤ x then x else 0 - x
def lmax (x y : Int64) : Int64 := if y < x then x else y
def lmin (x y : Int64) : Int64 := if y < x then y else x
def nav (G : Gh) (a1 : Nat → Nat → Nat) (k i : Nat) : Value := if k = 0 then .null else .ref (adr G a1 k i)
theorem nav_or (G : Gh) (a1 : Nat → Nat → Nat) (k i : Nat) : nav G a1 k i = .null ∨ ∃ a, nav G a1 k i = .ref a := by
  unfold nav
  split
  · exact Or.inl rfl
  · exact Or.inr ⟨_, rfl⟩
theorem nav_cat (G : Gh) (a1 : Nat → Nat → Nat) (k i : Nat) : (nav G a1 k i).category = 1 := by
  rcases nav_or G a1 k i with h | ⟨a, h⟩ <;> rw [h] <;> rfl
theorem cat_i (x : Int32) : (Value.int x).category = 1 := rfl
theorem cat_r (x : Nat) : (Value.ref x).category = 1 := rfl
theorem va_re_cat (ad : Nat → Nat) (o : Option Nat) : (va_re ad o).category = 1 := by
  cases o <;> rfl
theorem nav_ok {G : Gh} {a1 : Nat → Nat → Nat} {k i : Nat} (h : abc k i = true) : nav G a1 k i = .ref (adr G a1 k i) := if_neg (ab_spec (abc_spec h).1).2.2.2.1
theorem alen_mk {τ : St} {k i : Nat} (h : abm k i = true) : alen τ k i = lnL.getD k 0 := by
  have hm := (abm_spec h).2
  have h1 : k ≠ 21 := fun e => by subst e; exact absurd hm (by decide)
  have h2 : k ≠ 44 := fun e => by subst e; exact absurd hm (by decide)
  simp [alen, h1, h2]
theorem by8_n {v : Int32} (h : by8 v) : narrow .byte (.int v) = .int v := by
  have h' : v.toInt8.toInt32 = v := h
  show Value.int v.toInt8.toInt32 = _
  rw [h']
theorem sw_outN {x : Int32} (n : Nat) (hn : n < 100) (h : ∀ k, k < n → ¬ x = nI k) : x.toInt < 0 ∨ (n : Int) - 1 < x.toInt := by
  rcases Int.lt_or_le x.toInt 0 with h0 | h0
  · exact Or.inl h0
  · right
    rcases Int.lt_or_le ((n : Int) - 1) x.toInt with h1 | h1
    · exact h1
    · have h2 : x.toInt.toNat < n := by omega
      refine absurd (Int32.toInt_inj.mp ?_) (h _ h2)
      rw [nI_toInt (by omega)]
      omega
theorem sw_out8 {x : Int32} (h0 : ¬ x = 0) (h1 : ¬ x = 1) (h2 : ¬ x = 2) (h3 : ¬ x = 3) (h4 : ¬ x = 4) (h5 : ¬ x = 5) (h6 : ¬ x = 6) (h7 : ¬ x = 7) : x.toInt < 0 ∨ 7 < x.toInt := by
  have := sw_outN 8 (by decide) (x := x) (fun k hk => match k, hk with
    | 0, _ => h0 | 1, _ => h1 | 2, _ => h2 | 3, _ => h3 | 4, _ => h4 | 5, _ => h5 | 6, _ => h6 | 7, _ => h7 | k + 8, h => absurd h (by omega))
  omega
theorem sw_out15 {x : Int32} (h0 : ¬ x = 0) (h1 : ¬ x = 1) (h2 : ¬ x = 2) (h3 : ¬ x = 3) (h4 : ¬ x = 4) (h5 : ¬ x = 5) (h6 : ¬ x = 6) (h7 : ¬ x = 7) (h8 : ¬ x = 8) (h9 : ¬ x = 9) (h10 : ¬ x = 10) (h11 : ¬ x = 11) (h12 : ¬ x = 12) (h13 : ¬ x = 13) (h14 : ¬ x = 14) : x.toInt < 0 ∨ 14 < x.toInt := by
  have := sw_outN 15 (by decide) (x := x) (fun k hk => match k, hk with
    | 0, _ => h0 | 1, _ => h1 | 2, _ => h2 | 3, _ => h3 | 4, _ => h4 | 5, _ => h5 | 6, _ => h6 | 7, _ => h7 | 8, _ => h8 | 9, _ => h9 | 10, _ => h10 | 11, _ => h11 | 12, _ => h12 | 13, _ => h13 | 14, _ => h14 | k + 15, h => absurd h (by omega))
  omega
section ROWS
variable {p : Program} {l : Launch} {e : Env} {R : Room} {s : State} {m : MethodId} {args : Array Value} {below : List Frame} {meth : Method} {c : Code} {H : Heap} {locs : List Loc} {cells slots : Nat} {Q : State → Prop}
variable {cc : ByteArray} {pc : Nat} {ls : Array Slot} {rest : List Value} {nL : Nat} {ret : Option FieldType} {own : String} {G : Gh} {a1 : Nat → Nat → Nat} {σ τ ρ : St}
theorem W.heap0 {H' : Heap} {locs' : List Loc} {g : JFrame} (h1 : H = H') (h2 : locs = locs') (k : W p l e R s m args below meth c H' locs' cells slots Q g) : W p l e R s m args below meth c H locs cells slots Q g := by
  subst h1; subst h2; exact k
theorem lv_aload_nV (hexec : p.tables.exec = Jvm.exec) (hb : c.code = cc) {k : Fin 4} {i : Nat} {v : Value} (hdg : decode cc pc = .ok (.aload_n k, 1)) (hi : (k : Nat) = i) (hv : v = .null ∨ ∃ a, v = .ref a) (hl : ls[i]? = some (.val v)) (kk : W p l e R s m args below meth c H locs cells slots Q (F0 m (pc + 1) ls (v :: rest))) : W p l e R s m args below meth c H locs cells slots Q (F0 m pc ls rest) := by
  rcases hv with rfl | ⟨a, rfl⟩
  · exact lv_aload_nN hexec hb hdg hi hl kk
  · exact lv_aload_n hexec hb hdg hi hl kk
theorem lv_aloadV (hexec : p.tables.exec = Jvm.exec) (hb : c.code = cc) {i : Nat} {v : Value} (hdg : decode cc pc = .ok (.aload i, 2)) (hv : v = .null ∨ ∃ a, v = .ref a) (hl : ls[i]? = some (.val v)) (kk : W p l e R s m args below meth c H locs cells slots Q (F0 m (pc + 2) ls (v :: rest))) : W p l e R s m args below meth c H locs cells slots Q (F0 m pc ls rest) := by
  rcases hv with rfl | ⟨a, rfl⟩
  · exact lv_aloadN hexec hb hdg hl kk
  · exact lv_aload hexec hb hdg hl kk
theorem lv_astore_nV (hexec : p.tables.exec = Jvm.exec) (hb : c.code = cc) {k : Fin 4} {i : Nat} {v : Value} {lv lv' : List (Nat × Value)} (hdg : decode cc pc = .ok (.astore_n k, 1)) (hi : (k : Nat) = i) (hv : v = .null ∨ ∃ a, v = .ref a) (h : lv_has ls nL lv) (hn : i < nL) (hl : (i, v) :: lv.filter (fun q => !(q.1 == i) && !(q.1 + 1 == i && q.2.category == 2)) = lv') (kk : ∀ ls' : Array Slot, lv_has ls' nL lv' → W p l e R s m args below meth c H locs cells slots Q (F0 m (pc + 1) ls' rest)) : W p l e R s m args below meth c H locs cells slots Q (F0 m pc ls (v :: rest)) := by
  rcases hv with rfl | ⟨a, rfl⟩
  · exact lv_astore_nN hexec hb hdg hi h hn hl kk
  · exact lv_astore_n hexec hb hdg hi h hn hl kk
theorem lv_astoreV (hexec : p.tables.exec = Jvm.exec) (hb : c.code = cc) {i : Nat} {v : Value} {lv lv' : List (Nat × Value)} (hdg : decode cc pc = .ok (.astore i, 2)) (hv : v = .null ∨ ∃ a, v = .ref a) (h : lv_has ls nL lv) (hn : i < nL) (hl : (i, v) :: lv.filter (fun q => !(q.1 == i) && !(q.1 + 1 == i && q.2.category == 2)) = lv') (kk : ∀ ls' : Array Slot, lv_has ls' nL lv' → W p l e R s m args below meth c H locs cells slots Q (F0 m (pc + 2) ls' rest)) : W p l e R s m args below meth c H locs cells slots Q (F0 m pc ls (v :: rest)) := by
  rcases hv with rfl | ⟨a, rfl⟩
  · exact lv_astoreN hexec hb hdg h hn hl kk
  · exact lv_astore hexec hb hdg h hn hl kk
theorem al21 (C : Cx p e s m args meth c cc nL ret own G) (hH : Hd G a1 (cmb σ τ) H) (hdg : decode cc pc = .ok (.arraylength, 1)) (kk : W p l e R s m args below meth c H locs cells slots Q (F0 m (pc + 1) ls (.int (nI (σ 90 0 0).toNatClampNeg) :: rest))) : W p l e R s m args below meth c H locs cells slots Q (F0 m pc ls (.ref (adr G a1 21 0) :: rest)) :=
  hd_alen C hH (by decide) (by decide) (rt_a 21 none (by decide) (by decide)) (by decide) hdg (by rw [alen_cmb]; exact kk)
theorem al44 (C : Cx p e s m args meth c cc nL ret own G) (hH : Hd G a1 (cmb σ τ) H) {i : Nat} (hi : i < 16) (hdg : decode cc pc = .ok (.arraylength, 1)) (kk : W p l e R s m args below meth c H locs cells slots Q (F0 m (pc + 1) ls (.int (nI (σ 90 (i + 1) 0).toNatClampNeg) :: rest))) : W p l e R s m args below meth c H locs cells slots Q (F0 m pc ls (.ref (adr G a1 44 i) :: rest)) :=
  hd_alen C hH (by decide) hi (rt_a 44 none (by decide) (by decide)) (by decide) hdg (by rw [alen_cmb]; exact kk)
theorem r_imin (C : Cx p e s m args meth c cc nL ret own G) (hz : ls.size = nL) {index : Nat} (hl : Cond.methodLink own index ⟨"java/lang/Math", "min", "(II)I"⟩ ∈ lw_all) (h1 : 1 ≤ R.frames) (h2 : (rest.map fun v => v.category).sum + 13 ≤ R.locals) (hc : cells ≤ R.cells) (hs : slots ≤ R.slots) {x y : Int32} (hdg : decode cc pc = .ok (.invokestatic index, 3)) (kk : W p l e R s m args below meth c H locs cells slots Q (F0 m (pc + 3) ls (.int (imin x y) :: rest))) : W p l e R s m args below meth c H locs cells slots Q (F0 m pc ls (.int y :: .int x :: rest)) :=
  va_mmin C.1 C.2.1 (by rw [C.2.2.2.2.1, hz]) C.2.2.2.2.2.1 (C.2.2.2.2.2.2.1 _ hl) (C.2.2.2.2.2.2.1 _ q915) (C.2.2.2.2.2.2.1 _ q177) (C.2.2.2.2.2.2.1 _ q916) h1 h2 hc hs hdg kk
theorem r_imax (C : Cx p e s m args meth c cc nL ret own G) (hz : ls.size = nL) {index : Nat} (hl : Cond.methodLink own index ⟨"java/lang/Math", "max", "(II)I"⟩ ∈ lw_all) (h1 : 1 ≤ R.frames) (h2 : (rest.map fun v => v.category).sum + 13 ≤ R.locals) (hc : cells ≤ R.cells) (hs : slots ≤ R.slots) {x y : Int32} (hdg : decode cc pc = .ok (.invokestatic index, 3)) (kk : W p l e R s m args below meth c H locs cells slots Q (F0 m (pc + 3) ls (.int (imax x y) :: rest))) : W p l e R s m args below meth c H locs cells slots Q (F0 m pc ls (.int y :: .int x :: rest)) :=
  va_mmax C.1 C.2.1 (by rw [C.2.2.2.2.1, hz]) C.2.2.2.2.2.1 (C.2.2.2.2.2.2.1 _ hl) (C.2.2.2.2.2.2.1 _ q958) (C.2.2.2.2.2.2.1 _ q177) (C.2.2.2.2.2.2.1 _ q959) h1 h2 hc hs hdg kk
theorem r_iabs (C : Cx p e s m args meth c cc nL ret own G) (hz : ls.size = nL) {index : Nat} (hl : Cond.methodLink own index ⟨"java/lang/Math", "abs", "(I)I"⟩ ∈ lw_all) (h1 : 1 ≤ R.frames) (h2 : (rest.map fun v => v.category).sum + 13 ≤ R.locals) (hc : cells ≤ R.cells) (hs : slots ≤ R.slots) {x : Int32} (hdg : decode cc pc = .ok (.invokestatic index, 3)) (kk : W p l e R s m args below meth c H locs cells slots Q (F0 m (pc + 3) ls (.int (iabs x) :: rest))) : W p l e R s m args below meth c H locs cells slots Q (F0 m pc ls (.int x :: rest)) :=
  va_mabs C.1 C.2.1 (by rw [C.2.2.2.2.1, hz]) C.2.2.2.2.2.1 (C.2.2.2.2.2.2.1 _ hl) (C.2.2.2.2.2.2.1 _ q1181) (C.2.2.2.2.2.2.1 _ q177) (C.2.2.2.2.2.2.1 _ q1182) h1 h2 hc hs hdg kk
theorem r_lmax (C : Cx p e s m args meth c cc nL ret own G) (hz : ls.size = nL) {index : Nat} (hl : Cond.methodLink own index ⟨"java/lang/Math", "max", "(JJ)J"⟩ ∈ lw_all) (h1 : 1 ≤ R.frames) (h2 : (rest.map fun v => v.category).sum + 15 ≤ R.locals) (hc : cells ≤ R.cells) (hs : slots ≤ R.slots) {x y : Int64} (hdg : decode cc pc = .ok (.invokestatic index, 3)) (kk : W p l e R s m args below meth c H locs cells slots Q (F0 m (pc + 3) ls (.long (lmax x y) :: rest))) : W p l e R s m args below meth c H locs cells slots Q (F0 m pc ls (.long y :: .long x :: rest)) :=
  va_mmax_long C.1 C.2.1 (by rw [C.2.2.2.2.1, hz]) C.2.2.2.2.2.1 (C.2.2.2.2.2.2.1 _ hl) (C.2.2.2.2.2.2.1 _ q2203) (C.2.2.2.2.2.2.1 _ q177) (C.2.2.2.2.2.2.1 _ q2204) h1 h2 hc hs hdg kk
theorem r_lmin (C : Cx p e s m args meth c cc nL ret own G) (hz : ls.size = nL) {index : Nat} (hl : Cond.methodLink own index ⟨"java/lang/Math", "min", "(JJ)J"⟩ ∈ lw_all) (h1 : 1 ≤ R.frames) (h2 : (rest.map fun v => v.category).sum + 15 ≤ R.locals) (hc : cells ≤ R.cells) (hs : slots ≤ R.slots) {x y : Int64} (hdg : decode cc pc = .ok (.invokestatic index, 3)) (kk : W p l e R s m args below meth c H locs cells slots Q (F0 m (pc + 3) ls (.long (lmin x y) :: rest))) : W p l e R s m args below meth c H locs cells slots Q (F0 m pc ls (.long y :: .long x :: rest)) :=
  va_mmin_long C.1 C.2.1 (by rw [C.2.2.2.2.1, hz]) C.2.2.2.2.2.1 (C.2.2.2.2.2.2.1 _ hl) (C.2.2.2.2.2.2.1 _ q2422) (C.2.2.2.2.2.2.1 _ q177) (C.2.2.2.2.2.2.1 _ q2423) h1 h2 hc hs hdg kk
/-! a private method of a nest mate -/
variable {y : MethodName} {bytes : ByteArray} {maxL mc ms n index : Nat} {retY : Option FieldType} {rm : Room} {Qc : Array Value → State → Outcome → State → Prop} {As st0 : List Value} {host : String}
theorem rn_vN (C : Cx p e s m args meth c cc nL ret own G) (hH : Hd G a1 ρ H) (hS : va_S (gA G) s.heap H locs) {Cn : String} {T : u_T} {N : Nat} {k i : Nat} (hk : k < 19) (hc : hcl[k]? = some (Cn, T, N)) (hi : i < kcnt k) (hM : Met l y (ws_ y bytes maxL retY) rm (PcS G a1 ρ (.ref (ga G k i) :: As)) Qc mc ms (gA G)) (cw : va_CN R s args own index y host bytes maxL retY (ws_ y bytes maxL retY) rm mc ms n ∧ (Cond.instanceMethod y).before args s = true ∧ (Cond.selects Cn y y).before args s = true)
    (hn : As.length = n) (hz : ls.size = nL) (hst : st0 = As.reverse ++ .ref (ga G k i) :: rest) (hw : (rest.map fun v => v.category).sum ≤ 8) (hdg : decode cc pc = .ok (.invokevirtual index, 3)) (hf : cells + mc ≤ R.cells ∧ slots + ms ≤ R.slots) :
    va_Run p l e R s m args below meth c H locs cells slots mc ms (F0 m pc ls st0) rest (Qc (Value.ref (ga G k i) :: As).toArray) (gA G) :=
  va_runVN (Ts := lw_all) ⟨C.1, C.2.1, C.2.2.2.2.1, C.2.2.2.2.2.1, C.2.2.2.2.2.2.1⟩ hM cw ⟨fun a U g mk q => ⟨q.1, q.2.calling a U g mk⟩, hd_recv C hH hk hc hi, fun U hU hW => ⟨rfl, Iv.at C hH hS hU hW⟩⟩ rfl hn hz hst (lv_room (m := m) (pc := pc) (ls := ls) (rest := st0) hw) hdg hf
end ROWS
theorem ok23 {i : Nat} (hi : i < 32) : abc 23 i = true := by simp [abc, ab, mkd, byK, show kcnt 23 = 32 from rfl, hi]
theorem ok35 {i : Nat} (hi : i < 8) : abc 35 i = true := by simp [abc, ab, mkd, byK, show kcnt 35 = 8 from rfl, hi]
theorem ok38 {i : Nat} (hi : i < 4) : abc 38 i = true := by simp [abc, ab, mkd, byK, show kcnt 38 = 4 from rfl, hi]
theorem ok42 {i : Nat} (hi : i < 16) : abc 42 i = true := by simp [abc, ab, mkd, byK, show kcnt 42 = 16 from rfl, hi]
theorem ok44 {i : Nat} (hi : i < 16) : abc 44 i = true := by simp [abc, ab, mkd, byK, show kcnt 44 = 16 from rfl, hi]
theorem ok68 {i : Nat} (hi : i < 8) : abm 68 i = true := by simp [abm, ab, mkd, byK, show kcnt 68 = 8 from rfl, hi]
theorem ok69 {i : Nat} (hi : i < 4) : abm 69 i = true := by simp [abm, ab, mkd, byK, show kcnt 69 = 4 from rfl, hi]
theorem ok71 {i : Nat} (hi : i < 16) : abm 71 i = true := by simp [abm, ab, mkd, byK, show kcnt 71 = 16 from rfl, hi]
theorem ok72 {i : Nat} (hi : i < 16) : abm 72 i = true := by simp [abm, ab, mkd, byK, show kcnt 72 = 16 from rfl, hi]
theorem nest_0_16 : ("WebHost", 16, (⟨"WebHost$Store", "<init>", "()V"⟩ : MethodName), "WebHost") ∈ nestL := List.mem_of_getElem? (i := 0) rfl
theorem nest_0_79 : ("WebHost", 79, (⟨"WebHost$Segment", "<init>", "()V"⟩ : MethodName), "WebHost") ∈ nestL := List.mem_of_getElem? (i := 1) rfl
theorem nest_0_133 : ("WebHost", 133, (⟨"WebHost$Connection", "gone", "()V"⟩ : MethodName), "WebHost") ∈ nestL := List.mem_of_getElem? (i := 2) rfl
theorem nest_11_11 : ("WebHost$Connection", 11, (⟨"WebHost$Inbox", "<init>", "()V"⟩ : MethodName), "WebHost") ∈ nestL := List.mem_of_getElem? (i := 3) rfl
theorem nest_11_20 : ("WebHost$Connection", 20, (⟨"WebHost$Answer", "<init>", "()V"⟩ : MethodName), "WebHost") ∈ nestL := List.mem_of_getElem? (i := 4) rfl
theorem nest_6_15 : ("WebHost$Fragments", 15, (⟨"WebHost$Making", "<init>", "()V"⟩ : MethodName), "WebHost") ∈ nestL := List.mem_of_getElem? (i := 5) rfl
theorem nest_3_39 : ("WebHost$Hops", 39, (⟨"WebHost$Waiting", "<init>", "()V"⟩ : MethodName), "WebHost") ∈ nestL := List.mem_of_getElem? (i := 6) rfl
theorem nest_14_80 : ("WebHostModel", 80, (⟨"WebHostModel$Connection", "<init>", "()V"⟩ : MethodName), "WebHostModel") ∈ nestL := List.mem_of_getElem? (i := 7) rfl
theorem nest_14_81 : ("WebHostModel", 81, (⟨"WebHostModel$Entry", "<init>", "()V"⟩ : MethodName), "WebHostModel") ∈ nestL := List.mem_of_getElem? (i := 8) rfl
theorem nest_14_82 : ("WebHostModel", 82, (⟨"WebHostModel$Packet", "<init>", "()V"⟩ : MethodName), "WebHostModel") ∈ nestL := List.mem_of_getElem? (i := 9) rfl
theorem nest_14_83 : ("WebHostModel", 83, (⟨"WebHostModel$Datagram", "<init>", "()V"⟩ : MethodName), "WebHostModel") ∈ nestL := List.mem_of_getElem? (i := 10) rfl
theorem st0 : ("WebHost$Answer", 37, "0123456789abcdef", 0) ∈ strL := List.mem_of_getElem? (i := 0) rfl
theorem st1 : ("WebHost$Requests", 44, "Request Header Fields Too Large", 1) ∈ strL := List.mem_of_getElem? (i := 1) rfl
theorem st2 : ("WebHost$Requests", 84, "HTTP/1.1", 2) ∈ strL := List.mem_of_getElem? (i := 2) rfl
theorem st3 : ("WebHost$Requests", 93, "HTTP/1.0", 3) ∈ strL := List.mem_of_getElem? (i := 3) rfl
theorem st4 : ("WebHost$Requests", 95, "-_.!#$%&'*+^`|~", 4) ∈ strL := List.mem_of_getElem? (i := 4) rfl
theorem st5 : ("WebHost$Requests", 110, "host", 5) ∈ strL := List.mem_of_getElem? (i := 5) rfl
theorem st6 : ("WebHost$Requests", 118, "transfer-encoding", 6) ∈ strL := List.mem_of_getElem? (i := 6) rfl
theorem st7 : ("WebHost$Requests", 123, "content-length", 7) ∈ strL := List.mem_of_getElem? (i := 7) rfl
theorem st8 : ("WebHost$Requests", 128, "connection", 8) ∈ strL := List.mem_of_getElem? (i := 8) rfl
theorem st9 : ("WebHost$Requests", 133, "if-none-match", 9) ∈ strL := List.mem_of_getElem? (i := 9) rfl
theorem st10 : ("WebHost$Requests", 156, "close", 10) ∈ strL := List.mem_of_getElem? (i := 10) rfl
theorem st11 : ("WebHost$Requests", 161, "keep-alive", 11) ∈ strL := List.mem_of_getElem? (i := 11) rfl
theorem st12 : ("WebHost$Requests", 177, "HEAD", 12) ∈ strL := List.mem_of_getElem? (i := 12) rfl
theorem st13 : ("WebHost$Requests", 183, "Not Implemented", 13) ∈ strL := List.mem_of_getElem? (i := 13) rfl
theorem st14 : ("WebHost$Requests", 190, "Content Too Large", 14) ∈ strL := List.mem_of_getElem? (i := 14) rfl
theorem st15 : ("WebHost$Requests", 192, "GET", 15) ∈ strL := List.mem_of_getElem? (i := 15) rfl
theorem st16 : ("WebHost$Requests", 194, "Method Not Allowed", 16) ∈ strL := List.mem_of_getElem? (i := 16) rfl
theorem st17 : ("WebHost$Requests", 213, "Not Found", 17) ∈ strL := List.mem_of_getElem? (i := 17) rfl
theorem st18 : ("WebHost$Requests", 221, "Internal Server Error", 18) ∈ strL := List.mem_of_getElem? (i := 18) rfl
theorem st19 : ("WebHost$Requests", 233, "Bad Request", 19) ∈ strL := List.mem_of_getElem? (i := 19) rfl
theorem st20 : ("WebHost$Requests", 246, "index.html", 20) ∈ strL := List.mem_of_getElem? (i := 20) rfl
theorem st21 : ("WebHost$Requests", 248, "*", 21) ∈ strL := List.mem_of_getElem? (i := 21) rfl
theorem st22 : ("WebHost$Requests", 253, "0123456789abcdef", 22) ∈ strL := List.mem_of_getElem? (i := 22) rfl
theorem st23 : ("WebHost$Requests", 260, "HTTP/1.1 ", 23) ∈ strL := List.mem_of_getElem? (i := 23) rfl
theorem st24 : ("WebHost$Requests", 275, "Connection: close", 24) ∈ strL := List.mem_of_getElem? (i := 24) rfl
theorem st25 : ("WebHost$Requests", 277, "", 25) ∈ strL := List.mem_of_getElem? (i := 25) rfl
theorem st26 : ("WebHost$Requests", 279, "Content-Length: ", 26) ∈ strL := List.mem_of_getElem? (i := 26) rfl
theorem st27 : ("WebHost$Requests", 288, "Content-Type: text/plain", 27) ∈ strL := List.mem_of_getElem? (i := 27) rfl
theorem st28 : ("WebHost$Requests", 290, "Allow: GET, HEAD", 28) ∈ strL := List.mem_of_getElem? (i := 28) rfl
theorem st29 : ("WebHost$Requests", 296, "ETag: ", 29) ∈ strL := List.mem_of_getElem? (i := 29) rfl
theorem st30 : ("WebHost$Requests", 300, "Not Modified", 30) ∈ strL := List.mem_of_getElem? (i := 30) rfl
theorem st31 : ("WebHost$Requests", 304, ".html", 31) ∈ strL := List.mem_of_getElem? (i := 31) rfl
theorem st32 : ("WebHost$Requests", 310, "text/html", 32) ∈ strL := List.mem_of_getElem? (i := 32) rfl
theorem st33 : ("WebHost$Requests", 312, ".css", 33) ∈ strL := List.mem_of_getElem? (i := 33) rfl
theorem st34 : ("WebHost$Requests", 314, "text/css", 34) ∈ strL := List.mem_of_getElem? (i := 34) rfl
theorem st35 : ("WebHost$Requests", 316, ".js", 35) ∈ strL := List.mem_of_getElem? (i := 35) rfl
theorem st36 : ("WebHost$Requests", 318, "text/javascript", 36) ∈ strL := List.mem_of_getElem? (i := 36) rfl
theorem st37 : ("WebHost$Requests", 320, ".txt", 37) ∈ strL := List.mem_of_getElem? (i := 37) rfl
theorem st38 : ("WebHost$Requests", 322, "text/plain", 38) ∈ strL := List.mem_of_getElem? (i := 38) rfl
theorem st39 : ("WebHost$Requests", 324, ".png", 39) ∈ strL := List.mem_of_getElem? (i := 39) rfl
theorem st40 : ("WebHost$Requests", 326, "image/png", 40) ∈ strL := List.mem_of_getElem? (i := 40) rfl
theorem st41 : ("WebHost$Requests", 328, "application/octet-stream", 41) ∈ strL := List.mem_of_getElem? (i := 41) rfl
theorem st42 : ("WebHost$Requests", 330, "OK", 42) ∈ strL := List.mem_of_getElem? (i := 42) rfl
theorem st43 : ("WebHost$Requests", 334, "Content-Type: ", 43) ∈ strL := List.mem_of_getElem? (i := 43) rfl
theorem st44 : ("WebHostModel", 696, "HTTP/1.0", 44) ∈ strL := List.mem_of_getElem? (i := 44) rfl
theorem st45 : ("WebHostModel", 702, "HTTP/1.1", 45) ∈ strL := List.mem_of_getElem? (i := 45) rfl
theorem st46 : ("WebHostModel", 704, "HEAD", 46) ∈ strL := List.mem_of_getElem? (i := 46) rfl
theorem st47 : ("WebHostModel", 706, "GET", 47) ∈ strL := List.mem_of_getElem? (i := 47) rfl
theorem st48 : ("WebHostModel", 737, "host", 48) ∈ strL := List.mem_of_getElem? (i := 48) rfl
theorem st49 : ("WebHostModel", 742, "transfer-encoding", 49) ∈ strL := List.mem_of_getElem? (i := 49) rfl
theorem st50 : ("WebHostModel", 744, "content-length", 50) ∈ strL := List.mem_of_getElem? (i := 50) rfl
theorem st51 : ("WebHostModel", 749, "connection", 51) ∈ strL := List.mem_of_getElem? (i := 51) rfl
theorem st52 : ("WebHostModel", 754, "if-none-match", 52) ∈ strL := List.mem_of_getElem? (i := 52) rfl
theorem st53 : ("WebHostModel", 763, "close", 53) ∈ strL := List.mem_of_getElem? (i := 53) rfl
theorem st54 : ("WebHostModel", 764, "keep-alive", 54) ∈ strL := List.mem_of_getElem? (i := 54) rfl
theorem st55 : ("WebHostModel", 782, "index.html", 55) ∈ strL := List.mem_of_getElem? (i := 55) rfl
theorem st56 : ("WebHostModel", 784, "*", 56) ∈ strL := List.mem_of_getElem? (i := 56) rfl
theorem st57 : ("WebHostModel", 792, "OK", 57) ∈ strL := List.mem_of_getElem? (i := 57) rfl
theorem st58 : ("WebHostModel", 794, "Not Modified", 58) ∈ strL := List.mem_of_getElem? (i := 58) rfl
theorem st59 : ("WebHostModel", 796, "Bad Request", 59) ∈ strL := List.mem_of_getElem? (i := 59) rfl
theorem st60 : ("WebHostModel", 798, "Not Found", 60) ∈ strL := List.mem_of_getElem? (i := 60) rfl
theorem st61 : ("WebHostModel", 800, "Method Not Allowed", 61) ∈ strL := List.mem_of_getElem? (i := 61) rfl
theorem st62 : ("WebHostModel", 802, "Content Too Large", 62) ∈ strL := List.mem_of_getElem? (i := 62) rfl
theorem st63 : ("WebHostModel", 804, "Request Header Fields Too Large", 63) ∈ strL := List.mem_of_getElem? (i := 63) rfl
theorem st64 : ("WebHostModel", 806, "Internal Server Error", 64) ∈ strL := List.mem_of_getElem? (i := 64) rfl
theorem st65 : ("WebHostModel", 808, "Not Implemented", 65) ∈ strL := List.mem_of_getElem? (i := 65) rfl
theorem st66 : ("WebHostModel", 810, ".txt", 66) ∈ strL := List.mem_of_getElem? (i := 66) rfl
theorem st67 : ("WebHostModel", 816, "text/plain", 67) ∈ strL := List.mem_of_getElem? (i := 67) rfl
theorem st68 : ("WebHostModel", 818, ".html", 68) ∈ strL := List.mem_of_getElem? (i := 68) rfl
theorem st69 : ("WebHostModel", 820, "text/html", 69) ∈ strL := List.mem_of_getElem? (i := 69) rfl
theorem st70 : ("WebHostModel", 822, ".css", 70) ∈ strL := List.mem_of_getElem? (i := 70) rfl
theorem st71 : ("WebHostModel", 824, "text/css", 71) ∈ strL := List.mem_of_getElem? (i := 71) rfl
theorem st72 : ("WebHostModel", 826, ".js", 72) ∈ strL := List.mem_of_getElem? (i := 72) rfl
theorem st73 : ("WebHostModel", 828, "text/javascript", 73) ∈ strL := List.mem_of_getElem? (i := 73) rfl
theorem st74 : ("WebHostModel", 830, ".png", 74) ∈ strL := List.mem_of_getElem? (i := 74) rfl
theorem st75 : ("WebHostModel", 832, "image/png", 75) ∈ strL := List.mem_of_getElem? (i := 75) rfl
theorem st76 : ("WebHostModel", 834, "application/octet-stream", 76) ∈ strL := List.mem_of_getElem? (i := 76) rfl
theorem st77 : ("WebHostModel", 836, "HTTP/1.1 ", 77) ∈ strL := List.mem_of_getElem? (i := 77) rfl
theorem st78 : ("WebHostModel", 852, "Content-Length: ", 78) ∈ strL := List.mem_of_getElem? (i := 78) rfl
theorem st79 : ("WebHostModel", 854, "Content-Type: ", 79) ∈ strL := List.mem_of_getElem? (i := 79) rfl
theorem st80 : ("WebHostModel", 859, "ETag: \"", 80) ∈ strL := List.mem_of_getElem? (i := 80) rfl
theorem st81 : ("WebHostModel", 861, "Allow: GET, HEAD", 81) ∈ strL := List.mem_of_getElem? (i := 81) rfl
theorem st82 : ("WebHostModel", 863, "Connection: close", 82) ∈ strL := List.mem_of_getElem? (i := 82) rfl
