/-! texts, answers of nothing, new arrays of bytes -/
set_option maxRecDepth 100000
def slI (t : Nat) : Int32 := nI (sLen.getD t 0)
def sby (t : Nat) (x : Int32) : Int32 := (sByt.getD t []).getD x.toNatClampNeg 0
def ch16 (v : Int32) : Prop := narrow .char (.int v) = .int v
theorem fcat {v : Value} (h : v = .null ∨ ∃ a, v = .ref a) : v.category = 1 := by rcases h with rfl | ⟨a, rfl⟩ <;> rfl
def QVp (G : Gh) (H : Heap) (Q : Prop) : Array Value → State → Outcome → State → Prop := va_Qv (fun (_ : Unit) => Q) (fun _ U => U.heap = H) (gA G)
def row3 (σ : St) (k i : Nat) (f : Nat → Int32) : St := va_up σ k (va_up (σ k) i f)
def nw21 (σ : St) (n : Int32) : St := up3 (row3 σ 21 0 (fun _ => 0)) 90 0 0 n
def nw44 (σ : St) (i : Nat) (n : Int32) : St := up3 (row3 σ 44 i (fun _ => 0)) 90 (i + 1) 0 n
theorem row3_s {σ : St} {k i : Nat} {f : Nat → Int32} : row3 σ k i f k i = f := by simp [row3, va_up]
theorem row3_o {σ : St} {k i k' i' : Nat} {f : Nat → Int32} (h : ¬ (k' = k ∧ i' = i)) : row3 σ k i f k' i' = σ k' i' := by
  by_cases hk : k' = k
  · subst hk
    have : i' ≠ i := fun e => h ⟨rfl, e⟩
    simp [row3, va_up, this]
  · simp [row3, va_up, hk]
theorem rt_cases {k j : Nat} {q : Nat × Nat} (h : rt k j = some q) : (k < 19 ∧ (j, q.1, q.2) ∈ rtF.getD k []) ∨ (¬ k < 19 ∧ (k, q.1, q.2) ∈ raF) := by
  unfold rt at h
  split at h
  · rename_i hk
    obtain ⟨z, h1, h2⟩ := Option.map_eq_some_iff.mp h
    have e1 := List.find?_some h1
    have e2 := List.mem_of_find?_eq_some h1
    have e3 : z.1 = j := by simpa using e1
    subst h2
    subst e3
    exact Or.inl ⟨hk, e2⟩
  · rename_i hk
    obtain ⟨z, h1, h2⟩ := Option.map_eq_some_iff.mp h
    have e1 := List.find?_some h1
    have e2 := List.mem_of_find?_eq_some h1
    have e3 : z.1 = k := by simpa using e1
    subst h2
    subst e3
    exact Or.inr ⟨hk, e2⟩
theorem hd_lt {G : Gh} {a1 : Nat → Nat → Nat} {ρ : St} {H : Heap} (hH : Hd G a1 ρ H) {k i : Nat} (hi : i < kcnt k) : adr G a1 k i < H.size := by
  by_cases hk : k < 19
  · obtain ⟨cell, h1, -⟩ := hH.1 k i hk hi
    exact (Array.getElem?_eq_some_iff.mp h1).1
  · exact (Array.getElem?_eq_some_iff.mp (hH.2.1 k i (by omega) hi)).1
/-- what a place holds does not look at the array that is replaced -/
theorem fvl_new {G : Gh} {a1 a2 : Nat → Nat → Nat} {ρ ρ' : St} {kb ib k i j : Nat} (ha : ∀ k' i', ¬ (k' = kb ∧ i' = ib) → adr G a2 k' i' = adr G a1 k' i') (hrow : ρ' k i = ρ k i)
    (h2 : ∀ t, rt k j = some (t, 2) → (ρ k i j).toNatClampNeg ≠ kb) (h1 : ∀ q, rt k j = some q → q.2 ≠ 2 → q.1 = kb → q.2 = 1 ∧ i ≠ ib) : fvl G a2 ρ' k i j = fvl G a1 ρ k i j := by
  unfold fvl
  cases hr : rt k j with
  | none => simp only [hrow]
  | some q =>
    obtain ⟨t, md⟩ := q
    simp only [hrow, rfv]
    by_cases m2 : md = 2
    · subst m2
      have h3 := h2 t hr
      simp only [show ¬ (2 : Nat) = 0 by decide, show ¬ (2 : Nat) = 1 by decide, if_false, if_true]
      split
      · rfl
      · rw [ha _ _ (fun z => h3 z.1)]
    · have h3 := h1 _ hr m2
      by_cases et : t = kb
      · obtain ⟨h4, h5⟩ := h3 et
        have h4' : md = 1 := h4
        subst h4'
        simp only [show ¬ (1 : Nat) = 0 by decide, if_false, if_true]
        rw [ha _ _ (fun z => h5 z.2)]
      · split
        · rw [ha _ _ (fun z => et z.1)]
        · split
          · rw [ha _ _ (fun z => et z.1)]
          · split
            · rw [ha _ _ (fun z => et z.1)]
            · rw [ha _ _ (fun z => et z.1)]
section ROWS
variable {p : Program} {l : Launch} {e : Env} {R : Room} {s : State} {m : MethodId} {args : Array Value} {below : List Frame} {meth : Method} {c : Code} {H : Heap} {locs : List Loc} {cells slots : Nat} {Q : State → Prop}
variable {cc : ByteArray} {pc : Nat} {ls : Array Slot} {rest : List Value} {nL : Nat} {ret : Option FieldType} {own : String} {G : Gh} {a1 : Nat → Nat → Nat} {σ τ ρ : St}
theorem va_ldcwS {T : State} (X : Stand p l e R s m args below meth c T locs cells slots) (hexec : p.tables.exec = Jvm.exec) {text : String} {index a : Nat} (hown : s.vm.findClass own = some m.cls)
    (hconst : (Cond.stringRef own index text).before #[] s = true) (hev : (Term.string own index).eval #[] s none [] s = some (.ref a)) {g : JFrame} (hg : g.method = m) (hdg : decode c.code g.pc = .ok (.ldc_w index, 3)) :
    ∀ target, Steps p.tables e below (T.setTop { g with pc := g.pc + 3, stack := .ref a :: g.stack }) target → Steps p.tables e below (T.setTop g) target := by
  obtain ⟨k, cf, i, a', hk, hcf, hcp, -, hr, hev'⟩ := Cond.stringRef_spec hown hconst
  cases hev.symm.trans hev'
  obtain ⟨k', hk', he⟩ := X.warmed.alike.2.2 _ _ hk
  have hr' : k'.resolved[index]? = some (some (.string a)) := by
    rcases X.warmed.entry hk hk' index with h | ⟨h, -⟩
    · rw [h]; exact hr
    · rw [hr] at h; cases h
  intro target hrest
  subst hg
  jvm_step X.here [hexec, hdg, ldc_w.wp_string (e := e) (s := T) (f := g) X.here.top hk' (by rw [he]; exact hcf) hcp hr']
  exact hrest
theorem str_ldc (C : Cx p e s m args meth c cc nL ret own G) {index n : Nat} {tx : String} (h : (own, index, tx, n) ∈ strL) (hdg : decode cc pc = .ok (.ldc index, 2))
    (kk : W p l e R s m args below meth c H locs cells slots Q (F0 m (pc + 2) ls (.ref (gs G n) :: rest))) : W p l e R s m args below meth c H locs cells slots Q (F0 m pc ls rest) :=
  va_ldcS C.1 C.2.1 C.2.2.2.2.2.1 (C.2.2.2.2.2.2.2.1.2.2 _ h) hdg kk
theorem str_ldcw (C : Cx p e s m args meth c cc nL ret own G) {index n : Nat} {tx : String} (h : (own, index, tx, n) ∈ strL) (hdg : decode cc pc = .ok (.ldc_w index, 3))
    (kk : W p l e R s m args below meth c H locs cells slots Q (F0 m (pc + 3) ls (.ref (gs G n) :: rest))) : W p l e R s m args below meth c H locs cells slots Q (F0 m pc ls rest) := by
  have hZ := C.2.2.2.2.2.2.2.1.2.2 _ h
  intro T hT X
  obtain ⟨t, a, b⟩ := kk T hT X
  exact ⟨t, va_ldcwS X C.1 C.2.2.2.2.2.1 hZ.1 hZ.2 (g := F0 m pc ls rest) rfl (by rw [C.2.1]; exact hdg) t a, b⟩
theorem str_val (C : Cx p e s m args meth c cc nL ret own G) (hS : va_S (gA G) s.heap H locs) {t index : Nat} (ht : t < nS) (hl : Cond.fieldLink own index "java/lang/String" "value" "[B" ∈ lw_all) (hdg : decode cc pc = .ok (.getfield index, 3))
    (kk : W p l e R s m args below meth c H locs cells slots Q (F0 m (pc + 3) ls (.ref (gv G t) :: rest))) : W p l e R s m args below meth c H locs cells slots Q (F0 m pc ls (.ref (gs G t) :: rest)) :=
  vk_getf C.1 C.2.1 (C.2.2.2.2.2.2.2.2.1 t ht).2.2.1 hS C.2.2.2.2.2.1 (C.2.2.2.2.2.2.1 _ hl) (fun _ h => h) hdg kk
theorem str_cod (C : Cx p e s m args meth c cc nL ret own G) (hS : va_S (gA G) s.heap H locs) {t index : Nat} (ht : t < nS) (hl : Cond.fieldLink own index "java/lang/String" "coder" "B" ∈ lw_all) (hdg : decode cc pc = .ok (.getfield index, 3))
    (kk : W p l e R s m args below meth c H locs cells slots Q (F0 m (pc + 3) ls (.int 0 :: rest))) : W p l e R s m args below meth c H locs cells slots Q (F0 m pc ls (.ref (gs G t) :: rest)) :=
  vk_getf C.1 C.2.1 (C.2.2.2.2.2.2.2.2.1 t ht).2.1 hS C.2.2.2.2.2.1 (C.2.2.2.2.2.2.1 _ hl) (fun _ h => h) hdg kk
theorem str_cs (C : Cx p e s m args meth c cc nL ret own G) (hS : va_S (gA G) s.heap H locs) {index : Nat} (hl : Cond.fieldLink own index "java/lang/String" "COMPACT_STRINGS" "Z" ∈ lw_all) (hdg : decode cc pc = .ok (.getstatic index, 3))
    (kk : W p l e R s m args below meth c H locs cells slots Q (F0 m (pc + 3) ls (.int 1 :: rest))) : W p l e R s m args below meth c H locs cells slots Q (F0 m pc ls rest) :=
  va_gets C.1 C.2.1 C.2.2.2.2.2.2.2.2.2.1 hS C.2.2.2.2.2.1 (C.2.2.2.2.2.2.1 _ hl) (fun _ h => h) hdg kk
theorem str_ff (C : Cx p e s m args meth c cc nL ret own G) (hS : va_S (gA G) s.heap H locs) {index : Nat} (hl : Cond.fieldLink own index "jdk/internal/util/Preconditions" "SIOOBE_FORMATTER" "Ljava/util/function/BiFunction;" ∈ lw_all) (hdg : decode cc pc = .ok (.getstatic index, 3))
    (kk : ∀ v : Value, (v = .null ∨ ∃ a, v = .ref a) → W p l e R s m args below meth c H locs cells slots Q (F0 m (pc + 3) ls (v :: rest))) : W p l e R s m args below meth c H locs cells slots Q (F0 m pc ls rest) := by
  rcases C.2.2.2.2.2.2.2.2.2.2 with h | ⟨t, h⟩
  · exact va_gets C.1 C.2.1 h hS C.2.2.2.2.2.1 (C.2.2.2.2.2.2.1 _ hl) (fun _ h => h) hdg (kk _ (Or.inl rfl))
  · exact va_gets C.1 C.2.1 h hS C.2.2.2.2.2.1 (C.2.2.2.2.2.2.1 _ hl) (fun _ h => h) hdg (kk _ (Or.inr ⟨t, rfl⟩))
theorem str_alen (C : Cx p e s m args meth c cc nL ret own G) (hS : va_S (gA G) s.heap H locs) {t : Nat} (ht : t < nS) (hdg : decode cc pc = .ok (.arraylength, 1))
    (kk : W p l e R s m args below meth c H locs cells slots Q (F0 m (pc + 1) ls (.int (slI t) :: rest))) : W p l e R s m args below meth c H locs cells slots Q (F0 m pc ls (.ref (gv G t) :: rest)) :=
  va_tlen C.1 C.2.1 (C.2.2.2.2.2.2.2.2.1 t ht).2.2.2 hS rfl hdg kk
theorem str_bald (C : Cx p e s m args meth c cc nL ret own G) (hS : va_S (gA G) s.heap H locs) {t : Nat} (ht : t < nS) {x : Int32} (hin : vp_in x (sLen.getD t 0)) (hdg : decode cc pc = .ok (.baload, 1))
    (kk : W p l e R s m args below meth c H locs cells slots Q (F0 m (pc + 1) ls (.int (sby t x) :: rest))) : W p l e R s m args below meth c H locs cells slots Q (F0 m pc ls (.int x :: .ref (gv G t) :: rest)) :=
  va_tb C.1 C.2.1 (C.2.2.2.2.2.2.2.2.1 t ht).2.2.2 hS hin rfl hdg kk
variable {y : MethodName} {bytes : ByteArray} {maxL mc ms n index : Nat} {retY : Option FieldType} {rm : Room} {Qc : Array Value → State → Outcome → State → Prop} {As st0 : List Value}
theorem rn_vS (C : Cx p e s m args meth c cc nL ret own G) (hH : Hd G a1 ρ H) (hS : va_S (gA G) s.heap H locs) {t : Nat} (ht : t < nS) (hM : Met l y (ws_ y bytes maxL retY) rm (PcP G a1 ρ H (.ref (gs G t) :: As)) Qc mc ms (gA G)) (cw : CallW R s args own "java/lang/String" index y bytes maxL retY (ws_ y bytes maxL retY) rm mc ms n)
    (hn : As.length = n) (hz : ls.size = nL) (hst : st0 = As.reverse ++ .ref (gs G t) :: rest) (hw : (rest.map fun v => v.category).sum ≤ 8) (hdg : decode cc pc = .ok (.invokevirtual index, 3)) (hf : cells + mc ≤ R.cells ∧ slots + ms ≤ R.slots) :
    va_Run p l e R s m args below meth c H locs cells slots mc ms (F0 m pc ls st0) rest (Qc (Value.ref (gs G t) :: As).toArray) (gA G) := by
  obtain ⟨cell, g1, g2, g3, -⟩ := (C.2.2.2.2.2.2.2.2.1 t ht).1.kept hS.2.1
  exact va_runV (Ts := lw_all) ⟨C.1, C.2.1, C.2.2.2.2.1, C.2.2.2.2.2.1, C.2.2.2.2.2.2.1⟩ hM cw ⟨fun a U g mk q => ⟨q.1, q.2.1, q.2.2.calling a U g mk⟩, ⟨cell, g1, g2, g3⟩, fun U hU hW => ⟨rfl, hU, Iv.at C hH hS hU hW⟩⟩ rfl hn hz hst (lv_room (m := m) (pc := pc) (ls := ls) (rest := st0) hw) hdg hf
theorem rt_vp {Q' : Prop} (C : Cx p e s m args meth c cc nL none own G) (hS : va_S (gA G) s.heap H locs) (hw : Q') (hdg : decode cc pc = .ok (.return_, 1)) : W p l e R s m args below meth c H locs cells slots (MQ below (QVp G H Q') args s cells slots (gA G)) (F0 m pc ls []) :=
  W.vret C.1 C.2.1 C.2.2.1 (fun t ht _ => ⟨⟨(), rfl, hw, ht⟩, hS.F ht⟩) hS.2.2 hdg C.2.2.2.1
variable {av : Array Value}
theorem kc_vp {Q' : Prop} (hr : va_Run p l e R s m args below meth c H locs cells slots 0 0 (F0 m pc ls st0) rest (QVp G H Q' av) (gA G)) (hS : va_S (gA G) s.heap H locs)
    (kk : ∀ (locs1 : List Loc), Q' → va_S (gA G) s.heap H locs1 → W p l e R s m args below meth c H locs1 cells slots Q (F0 m (pc + 3) ls rest)) : W p l e R s m args below meth c H locs cells slots Q (F0 m pc ls st0) :=
  va_callv hr hS (fun _ _ h => h) (fun _ h => h) fun u t H1 locs1 ht _ hw hB _ _ hS1 => by
    have e9 : H1 = H := ht.symm.trans hB
    subst e9
    exact kk locs1 hw hS1
/-- a new array of bytes, put into a field at once -/
theorem hd_newb (C : Cx p e s m args meth c cc nL ret own G) (hH : Hd G a1 ρ H) (hS0 : va_S (gA G) s.heap H locs) {Cn : String} {T : u_T} {N : Nat} (k i j : Nat) (hk : k < 19) (hc : hcl[k]? = some (Cn, T, N)) (hN : kfn k = N) (hi : i < kcnt k) (hin : ∀ w ∈ u_ws Cn T N, w ∈ lw_all) (ty0 : Nat → FieldType) (hty : ∀ k, k < N → parseFieldDescriptor (T k).2.2.1 = some (ty0 k)) (hnm : ∀ a, a < N → ∀ b, b < N → a ≠ b → (T a).2.1 ≠ (T b).2.1) (hj : j < N) {nm ds : String} (hl : Cond.fieldLink own index Cn nm ds ∈ lw_all) (hT : (T j).1 = Cn ∧ (T j).2.1 = nm ∧ (T j).2.2.1 = ds) (hfin : (T j).2.2.2 = false) (hd : ty0 j = .array .byte)
    {kb ib md : Nat} (hr : rt k j = some (kb, md)) (hmd : (md = 0 ∧ ib = 0 ∧ kcnt k = 1) ∨ (md = 1 ∧ ib = i)) (hkb : kb = 21 ∨ kb = 44) (hib : ib < kcnt kb) (harK : ∀ j, rt kb j = none) (h01 : ∀ k' j' q, rt k' j' = some q → q.2 ≠ 2 → q.1 = kb → k' = k ∧ j' = j) (h2 : ∀ k' i' j' t, rt k' j' = some (t, 2) → i' < kcnt k' → (ρ k' i' j').toNatClampNeg ≠ kb)
    {ρ' : St} {n : Int32} (r1 : ρ' kb ib = fun _ => 0) (r2 : ∀ k' i', k' < 90 → ¬ (k' = kb ∧ i' = ib) → ρ' k' i' = ρ k' i') (r3 : ∀ k' i', i' < kcnt k' → ¬ (k' = kb ∧ i' = ib) → alen ρ' k' i' = alen ρ k' i') (r4 : alen ρ' kb ib = n.toNatClampNeg) (r5 : ∀ k i j, okv (tyk k j) (ρ' k i j))
    (hn0 : ¬ n < 0) (hn1 : n.toNatClampNeg ≤ 66047) (hcells : 1 ≤ R.cells) (hslots : 66047 ≤ R.slots) (hdg : decode cc pc = .ok (.newarray .byte, 2)) (hdg2 : decode cc (pc + 2) = .ok (.putfield index, 3))
    (kk : ∀ (a2 : Nat → Nat → Nat) (H1 : Heap) (locs1 : List Loc), Hd G a2 ρ' H1 → va_S (gA G) s.heap H1 locs1 → W p l e R s m args below meth c H1 locs1 1 66047 Q (F0 m (pc + 2 + 3) ls rest)) :
    W p l e R s m args below meth c H locs 0 0 Q (F0 m pc ls (.int n :: .ref (ga G k i) :: rest)) := by
  rw [← adr_st (G := G) (a1 := a1) (k := k) (i := i) (show k ≠ 21 by omega) (show k ≠ 44 by omega)]
  obtain ⟨hx, hb, -, -, -, hown, hts, hK, -⟩ := C
  refine va_newaK (N := n.toNatClampNeg) hx hb (atype := .byte) (hts _ q213) rfl hdg rfl hn0 rfl (by show n.toNatClampNeg * 1 ≤ 536870912; omega) (by omega) (by omega) rfl fun H1 cA e1 z1 o1 hAr hNm => ?_
  have hcA : cA = gc G 2 := by
    have h9 := (hK.1.2 2 (gc G 2, .byte) rfl).2
    exact Option.some.inj (hNm.symm.trans h9)
  subst hcA
  have hap := va_apart (own := own) hts hin ty0 hty hnm hK.1 hc
  have hlt := hd_lt hH hi
  obtain ⟨cell, q1, q2, q3, q4⟩ := hH.1 k i hk hi
  obtain ⟨hS, hfc, kC, hkC, hkind⟩ := hK.1.1 k _ hc
  obtain ⟨cf, kf, fi, f, hi', hsl⟩ := hS j hj
  obtain ⟨t1, t2, t3⟩ := hT
  have hlink := hts _ hl
  rw [← t2, ← t3, ← t1] at hlink
  have hlay := hts _ (hin _ (u_in_lay hj))
  unfold u_lay at hlay
  rw [if_neg (by rw [hfin]; decide)] at hlay
  have hst := (u_facts hfc hkC (u_lays hts hin hj) hi').1
  have hd' : parseFieldDescriptor (T j).2.2.1 = some (.array .byte) := by rw [hty j hj, hd]
  have h6 := u_store (v := .ref H.size) hfc hkC hkind hlay hi' hd' rfl rfl
  rw [hN] at q4
  refine W.putK hx hb (f := f) (a := adr G a1 k i) ⟨hown, hlink, ⟨_, _, _, hi'⟩, hst⟩ (by rw [q2]; exact h6) ((o1 _ hlt).trans q1) q3 (by rw [hsl]; exact k2_hasslot (q4 j hj)) rfl rfl hdg2 fun H' g1 g2 g3 => ?_
  rw [hsl] at g1 ⊢
  refine W.widen (k := 1) (n := 66047) (by omega) (by omega) ?_
  have hgz : gz G ≤ H.size := Nat.le_of_lt (Nat.lt_of_le_of_lt (hH.2.2.2.1 k i hi) hlt)
  have hS1 : va_S (gA G) s.heap H1 locs := ⟨Nat.le_trans hS0.1 (by omega), fun q w1 w2 => (o1 q (Nat.lt_of_lt_of_le w1 hS0.1)).trans (hS0.2.1 q w1 w2), hS0.2.2⟩
  obtain ⟨a2, ha2⟩ : ∃ a2 : Nat → Nat → Nat, a2 = fun k' i' => if k' = kb ∧ i' = ib then H.size else a1 k' i' := ⟨_, rfl⟩
  have had : ∀ k' i', ¬ (k' = kb ∧ i' = ib) → adr G a2 k' i' = adr G a1 k' i' := by
    intro k' i' h
    subst ha2
    simp only [adr, if_neg h]
  have hnew : adr G a2 kb ib = H.size := by
    subst ha2
    simp [adr, hkb]
  have hkne : k ≠ kb := by omega
  have hadk : adr G a2 k i = adr G a1 k i := had k i (fun z => hkne z.1)
  have hkeep : ∀ k' i', i' < kcnt k' → ¬ (k' = k ∧ i' = i) → ¬ (k' = kb ∧ i' = ib) → H'[adr G a1 k' i']? = H[adr G a1 k' i']? := by
    intro k' i' w1 w2 w3
    rw [g3 _ (fun z => w2 (hH.2.2.1 _ _ _ _ w1 hi z)), o1 _ (hd_lt hH w1)]
  have hk90 : ∀ k' i', i' < kcnt k' → k' < 90 := by
    intro k' i' w
    rcases Nat.lt_or_ge k' 90 with w2 | w2
    · exact w2
    · have : kcnt k' = 0 := by
        unfold kcnt
        rw [List.getD_eq_getElem?_getD, List.getElem?_eq_none (Nat.le_trans (by decide) w2)]
        rfl
      omega
  have hval : ∀ k' i' j', i' < kcnt k' → ¬ (k' = kb ∧ i' = ib) → ¬ (k' = k ∧ i' = i ∧ j' = j) → fvl G a2 ρ' k' i' j' = fvl G a1 ρ k' i' j' := by
    intro k' i' j' w1 w2 w3
    refine fvl_new had (r2 k' i' (hk90 _ _ w1) w2) (fun t ht => h2 k' i' j' t ht w1) (fun q hq n2 n1 => ?_)
    obtain ⟨rfl, rfl⟩ := h01 k' j' q hq n2 n1
    cases hr.symm.trans hq
    rcases hmd with ⟨m1, m2, m3⟩ | ⟨m1, m2⟩
    · exact absurd ⟨rfl, by omega, rfl⟩ w3
    · exact ⟨m1, fun z => w3 ⟨rfl, z.trans m2, rfl⟩⟩
  refine kk a2 H' _ ⟨fun k' i' w1 w2 => ?_, fun k' i' w1 w2 => ?_, ?_, ?_, r5⟩ (hS1.put g2 g3 (hH.2.2.2.1 k i hi))
  · have w3 : ¬ (k' = kb ∧ i' = ib) := fun z => by omega
    rw [had k' i' w3]
    by_cases w4 : k' = k ∧ i' = i
    · obtain ⟨rfl, rfl⟩ := w4
      rw [hN]
      refine t_OB.to (V := updV (fvl G a1 ρ k' i') j (.ref H.size)) ⟨_, g1, q2, q3, t_set q4 hap hj _⟩ (fun j' hj' => ?_)
      by_cases e9 : j' = j
      · subst e9
        rw [fvl_r hr]
        simp only [updV, if_true, rfv]
        rcases hmd with ⟨m1, m2, m3⟩ | ⟨m1, m2⟩
        · subst m1; subst m2
          simp only [if_true]
          rw [hnew]
        · subst m1; subst m2
          simp only [show ¬ (1 : Nat) = 0 by decide, if_false, if_true]
          rw [hnew]
      · simp only [updV, if_neg e9]
        exact (hval k' i' j' w2 w3 (fun z => e9 z.2.2)).symm
    · refine ((hH.1 k' i' w1 w2).kept (hkeep k' i' w2 w4 w3)).to (fun j' _ => ?_)
      exact (hval k' i' j' w2 w3 (fun z => w4 ⟨z.1, z.2.1⟩)).symm
  · by_cases w3 : k' = kb ∧ i' = ib
    · obtain ⟨rfl, rfl⟩ := w3
      rw [hnew, g3 _ (Nat.ne_of_gt hlt), e1, r4]
      have haty : aty k' = 2 := by rcases hkb with rfl | rfl <;> rfl
      rw [haty]
      congr 2
      funext j'
      rw [fvl_i (harK j'), r1]
      rfl
    · have w4 : ¬ (k' = k ∧ i' = i) := fun z => by omega
      rw [had k' i' w3, hkeep k' i' w2 w4 w3, r3 k' i' w2 w3, hH.2.1 k' i' w1 w2]
      congr 2
      funext j'
      exact (hval k' i' j' w2 w3 (fun z => w4 ⟨z.1, z.2.1⟩)).symm
  · intro k' i' k'' i'' w1 w2 w3
    by_cases u1 : k' = kb ∧ i' = ib
    · by_cases u2 : k'' = kb ∧ i'' = ib
      · exact ⟨u1.1.trans u2.1.symm, u1.2.trans u2.2.symm⟩
      · rw [u1.1, u1.2, hnew, had _ _ u2] at w3
        have := hd_lt hH w2
        omega
    · by_cases u2 : k'' = kb ∧ i'' = ib
      · rw [u2.1, u2.2, hnew, had _ _ u1] at w3
        have := hd_lt hH w1
        omega
      · rw [had _ _ u1, had _ _ u2] at w3
        exact hH.2.2.1 _ _ _ _ w1 w2 w3
  · intro k' i' w1
    by_cases u1 : k' = kb ∧ i' = ib
    · rw [u1.1, u1.2, hnew]
      exact hgz
    · rw [had _ _ u1]
      exact hH.2.2.2.1 _ _ w1
end ROWS
theorem rt2_all {k j t : Nat} (h : rt k j = some (t, 2)) : (k = 1 ∧ j = 3) ∨ (k = 10 ∧ j = 7) := by
  rcases rt_cases h with ⟨h1, h2⟩ | ⟨h1, h2⟩
  · have key : ∀ k, k < 19 → ∀ e ∈ rtF.getD k [], e.2.2 = 2 → (k = 1 ∧ e.1 = 3) ∨ (k = 10 ∧ e.1 = 7) := by decide
    exact key k h1 _ h2 rfl
  · have key : ∀ e ∈ raF, e.2.2 ≠ 2 := by decide
    exact absurd rfl (key _ h2)
theorem rt21 : ∀ k' j' q, rt k' j' = some q → q.2 ≠ 2 → q.1 = 21 → k' = 1 ∧ j' = 0 := by
  intro k j q h n1 n2
  rcases rt_cases h with ⟨h1, h2⟩ | ⟨h1, h2⟩
  · have key : ∀ k, k < 19 → ∀ e ∈ rtF.getD k [], e.2.2 ≠ 2 → e.2.1 = 21 → k = 1 ∧ e.1 = 0 := by decide
    exact key k h1 _ h2 n1 n2
  · have key : ∀ e ∈ raF, e.2.1 ≠ 21 := by decide
    exact absurd n2 (key _ h2)
theorem rt44 : ∀ k' j' q, rt k' j' = some q → q.2 ≠ 2 → q.1 = 44 → k' = 13 ∧ j' = 0 := by
  intro k j q h n1 n2
  rcases rt_cases h with ⟨h1, h2⟩ | ⟨h1, h2⟩
  · have key : ∀ k, k < 19 → ∀ e ∈ rtF.getD k [], e.2.2 ≠ 2 → e.2.1 = 44 → k = 13 ∧ e.1 = 0 := by decide
    exact key k h1 _ h2 n1 n2
  · have key : ∀ e ∈ raF, e.2.1 ≠ 44 := by decide
    exact absurd n2 (key _ h2)
theorem okv_new {σ τ : St} {K I a b : Nat} {n : Int32} (h : ∀ k i j, okv (tyk k j) (cmb σ τ k i j)) : ∀ k i j, okv (tyk k j) (cmb (up3 (row3 σ K I (fun _ => 0)) 90 a b n) τ k i j) := by
  intro k i j
  by_cases h3 : mkd k = true
  · have h4 := h k i j
    simp only [cmb, if_pos h3] at h4 ⊢
    exact h4
  · have h4 := h k i j
    simp only [cmb, if_neg h3] at h4 ⊢
    by_cases e : k = 90 ∧ i = a
    · rw [e.1, tyk_a 90 0 (by decide) (by decide) j]
      exact ⟨fun h => absurd h (by decide), fun h => absurd h (by decide)⟩
    · rw [up3_i e]
      by_cases e2 : k = K ∧ i = I
      · rw [e2.1, e2.2, row3_s]
        exact ⟨fun _ => Or.inl rfl, fun _ => rfl⟩
      · rw [row3_o e2]
        exact h4
theorem nw_o {σ : St} {K I a b k' i' : Nat} {n : Int32} (h1 : k' < 90) (h2 : ¬ (k' = K ∧ i' = I)) : up3 (row3 σ K I (fun _ => 0)) 90 a b n k' i' = σ k' i' := by
  rw [up3_i (fun z => by omega), row3_o h2]
theorem nw_c {σ τ : St} {K I a b k' i' : Nat} {n : Int32} (h1 : k' < 90) (h2 : ¬ (k' = K ∧ i' = I)) : cmb (up3 (row3 σ K I (fun _ => 0)) 90 a b n) τ k' i' = cmb σ τ k' i' := by
  by_cases h3 : mkd k' = true
  · simp only [cmb, if_pos h3]
  · simp only [cmb, if_neg h3]
    exact nw_o h1 h2
section ROWS
variable {p : Program} {l : Launch} {e : Env} {R : Room} {s : State} {m : MethodId} {args : Array Value} {below : List Frame} {meth : Method} {c : Code} {H : Heap} {locs : List Loc} {cells slots : Nat} {Q : State → Prop}
variable {cc : ByteArray} {pc : Nat} {ls : Array Slot} {rest : List Value} {nL : Nat} {ret : Option FieldType} {own : String} {G : Gh} {a1 : Nat → Nat → Nat} {σ τ : St}
/-- the arrays that a field of any kind may name are not the one that goes -/
def fre (σ : St) (K : Nat) : Prop := (σ 1 0 3).toNatClampNeg ≠ K ∧ (σ 10 0 7).toNatClampNeg ≠ K
theorem fre_h2 {K : Nat} (h : fre σ K) : ∀ k' i' j' t, rt k' j' = some (t, 2) → i' < kcnt k' → (cmb σ τ k' i' j').toNatClampNeg ≠ K := by
  intro k' i' j' t h1 h2
  rcases rt2_all h1 with ⟨rfl, rfl⟩ | ⟨rfl, rfl⟩
  · have : i' = 0 := by have h3 : kcnt 1 = 1 := rfl; omega
    subst this
    exact h.1
  · have : i' = 0 := by have h3 : kcnt 10 = 1 := rfl; omega
    subst this
    exact h.2
theorem new21 (C : Cx p e s m args meth c cc nL ret own G) (hH : Hd G a1 (cmb σ τ) H) (hS : va_S (gA G) s.heap H locs) {n : Int32} (hn0 : ¬ n < 0) (hn1 : n.toNatClampNeg ≤ 66047) (hf : fre σ 21) (hcells : 1 ≤ R.cells) (hslots : 66047 ≤ R.slots) {index : Nat} (hl : Cond.fieldLink own index "WebHost$Store" "bytes" "[B" ∈ lw_all) (hdg : decode cc pc = .ok (.newarray .byte, 2)) (hdg2 : decode cc (pc + 2) = .ok (.putfield index, 3))
    (kk : ∀ (σ' : St), σ' = nw21 σ n → ∀ (a2 : Nat → Nat → Nat) (H1 : Heap) (locs1 : List Loc), Hd G a2 (cmb σ' τ) H1 → va_S (gA G) s.heap H1 locs1 → W p l e R s m args below meth c H1 locs1 1 66047 Q (F0 m (pc + 2 + 3) ls rest)) :
    W p l e R s m args below meth c H locs 0 0 Q (F0 m pc ls (.int n :: .ref (ga G 1 0) :: rest)) := by
  refine hd_newb C hH hS 1 0 0 (by decide) rfl rfl (by decide) in_X1 tyX1 tyX1_ok nmX1 (by decide) hl ⟨rfl, rfl, rfl⟩ rfl rfl (kb := 21) (ib := 0) (md := 0) (by decide) (Or.inl ⟨rfl, rfl, rfl⟩) (Or.inl rfl) (by decide) (rt_a 21 none (by decide) (by decide)) rt21 (fre_h2 hf) (ρ' := cmb (nw21 σ n) τ) ?_ ?_ ?_ ?_ ?_ hn0 hn1 hcells hslots hdg hdg2 (fun a2 H1 locs1 h1 h2 => kk _ rfl a2 H1 locs1 h1 h2)
  · rw [cmb_ll (by decide), nw21, up3_i (by decide), row3_s]
  · intro k' i' h1 h2
    exact nw_c h1 h2
  · intro k' i' h1 h2
    rw [alen_cmb, alen_cmb]
    have e1 : ∀ i, nw21 σ n 90 (i + 1) 0 = σ 90 (i + 1) 0 := by intro i; rw [nw21, up3_i (by simp), row3_o (by simp)]
    unfold alen
    by_cases h5 : k' = 21
    · subst h5
      have h6 : kcnt 21 = 1 := rfl
      exact absurd ⟨rfl, by omega⟩ h2
    · simp only [if_neg h5, e1]
  · rw [alen_cmb]
    have e0 : nw21 σ n 90 0 0 = n := by rw [nw21, up3_s]; simp [va_up]
    simp [alen, e0]
  · exact okv_new hH.2.2.2.2
theorem new44 (C : Cx p e s m args meth c cc nL ret own G) (hH : Hd G a1 (cmb σ τ) H) (hS : va_S (gA G) s.heap H locs) {i : Nat} (hi : i < 16) {n : Int32} (hn0 : ¬ n < 0) (hn1 : n.toNatClampNeg ≤ 66047) (hf : fre σ 44) (hcells : 1 ≤ R.cells) (hslots : 66047 ≤ R.slots) {index : Nat} (hl : Cond.fieldLink own index "WebHost$Answer" "bytes" "[B" ∈ lw_all) (hdg : decode cc pc = .ok (.newarray .byte, 2)) (hdg2 : decode cc (pc + 2) = .ok (.putfield index, 3))
    (kk : ∀ (σ' : St), σ' = nw44 σ i n → ∀ (a2 : Nat → Nat → Nat) (H1 : Heap) (locs1 : List Loc), Hd G a2 (cmb σ' τ) H1 → va_S (gA G) s.heap H1 locs1 → W p l e R s m args below meth c H1 locs1 1 66047 Q (F0 m (pc + 2 + 3) ls rest)) :
    W p l e R s m args below meth c H locs 0 0 Q (F0 m pc ls (.int n :: .ref (ga G 13 i) :: rest)) := by
  refine hd_newb C hH hS 13 i 0 (by decide) rfl rfl hi in_X13 tyX13 tyX13_ok nmX13 (by decide) hl ⟨rfl, rfl, rfl⟩ rfl rfl (kb := 44) (ib := i) (md := 1) (by decide) (Or.inr ⟨rfl, rfl⟩) (Or.inr rfl) hi (rt_a 44 none (by decide) (by decide)) rt44 (fre_h2 hf) (ρ' := cmb (nw44 σ i n) τ) ?_ ?_ ?_ ?_ ?_ hn0 hn1 hcells hslots hdg hdg2 (fun a2 H1 locs1 h1 h2 => kk _ rfl a2 H1 locs1 h1 h2)
  · rw [cmb_ll (by decide), nw44, up3_i (by simp), row3_s]
  · intro k' i' h1 h2
    exact nw_c h1 h2
  · intro k' i' h1 h2
    rw [alen_cmb, alen_cmb]
    have e1 : ∀ j, nw44 σ i n 90 0 j = σ 90 0 j := by intro j; rw [nw44, up3_i (by simp), row3_o (by simp)]
    unfold alen
    by_cases h5 : k' = 44
    · subst h5
      have h6 : ¬ i' = i := fun z => h2 ⟨rfl, z⟩
      have e2 : nw44 σ i n 90 (i' + 1) 0 = σ 90 (i' + 1) 0 := by
        rw [nw44, up3_i (by simp [h6]), row3_o (by simp)]
      simp [e2]
    · simp only [if_neg h5, e1]
  · rw [alen_cmb]
    have e0 : nw44 σ i n 90 (i + 1) 0 = n := by rw [nw44, up3_s]; simp [va_up]
    simp [alen, e0]
  · exact okv_new hH.2.2.2.2
end ROWS
