/-! rows for references, a method's start and its ends, calls -/
set_option maxRecDepth 100000
def QVs (G : Gh) (a1 : Nat → Nat → Nat) (f : St → St) (Q : St → Prop) : Array Value → State → Outcome → State → Prop := va_Qv Q (fun u U => Hd G a1 (f u) U.heap) (gA G)
def QIs (G : Gh) (a1 : Nat → Nat → Nat) (f : St → St) (Q : Int32 → St → Prop) : Array Value → State → Outcome → State → Prop := va_Qi Q (fun u U => Hd G a1 (f u) U.heap) (gA G)
def QJs (G : Gh) (a1 : Nat → Nat → Nat) (f : St → St) (Q : Int64 → St → Prop) : Array Value → State → Outcome → State → Prop := va_Ql Q (fun u U => Hd G a1 (f u) U.heap) (gA G)
def QEs (G : Gh) (a1 : Nat → Nat → Nat) (k : Nat) (f : St → St) (Q : Option Nat → St → Prop) : Array Value → State → Outcome → State → Prop := va_Qe (ga G k) Q (fun u U => Hd G a1 (f u) U.heap) (gA G)
def QIp (G : Gh) (H : Heap) (Q : Int32 → Prop) : Array Value → State → Outcome → State → Prop := va_Qi (fun r (_ : Unit) => Q r) (fun _ U => U.heap = H) (gA G)
def QJp (G : Gh) (H : Heap) (Q : Int64 → Prop) : Array Value → State → Outcome → State → Prop := va_Ql (fun r (_ : Unit) => Q r) (fun _ U => U.heap = H) (gA G)
def QEp (G : Gh) (H : Heap) (k : Nat) (Q : Option Nat → Prop) : Array Value → State → Outcome → State → Prop := va_Qe (ga G k) (fun r (_ : Unit) => Q r) (fun _ U => U.heap = H) (gA G)
def QTp (G : Gh) (H : Heap) (Q : Nat → Prop) : Array Value → State → Outcome → State → Prop := va_Qe (gs G) (fun r (_ : Unit) => ∃ t, r = some t ∧ Q t) (fun _ U => U.heap = H) (gA G)
def QVa (G : Gh) (f : St → St) (Q : St → Prop) : Array Value → State → Outcome → State → Prop := va_Qv (fun u : St × (Nat → Nat → Nat) => Q u.1) (fun u U => Hd G u.2 (f u.1) U.heap) (gA G)
def QIa (G : Gh) (f : St → St) (Q : Int32 → St → Prop) : Array Value → State → Outcome → State → Prop := va_Qi (fun r (u : St × (Nat → Nat → Nat)) => Q r u.1) (fun u U => Hd G u.2 (f u.1) U.heap) (gA G)
def PcS (G : Gh) (a1 : Nat → Nat → Nat) (ρ : St) (av : List Value) : Array Value → State → Prop := va_Pc av (Iv G a1 ρ)
def PcP (G : Gh) (a1 : Nat → Nat → Nat) (ρ : St) (H : Heap) (av : List Value) : Array Value → State → Prop := va_Pc av (fun U => U.heap = H ∧ Iv G a1 ρ U)
theorem met_w {l : Launch} {y : MethodName} {cc : ByteArray} {nL : Nat} {ret : Option FieldType} {rm : Room} {G : Gh} {a1 : Nat → Nat → Nat} {ρ : St} {av : List Value} {Qc : Array Value → State → Outcome → State → Prop} {mc ms : Nat} {free : Addr → Prop} (hy : plainName y.cls = true) (hn : (lg_sl av).length ≤ nL)
    (h : ∀ p e s m below meth c ls, Cx p e s m av.toArray meth c cc nL ret y.cls G → Hd G a1 ρ s.heap → va_S (gA G) s.heap s.heap [] → lv_has ls nL (lv_args 0 av) → W p l e rm s m av.toArray below meth c s.heap [] 0 0 (MQ below Qc av.toArray s mc ms free) (F0 m 0 ls [])) :
    Met l y (ws_ y cc nL ret) rm (PcS G a1 ρ av) Qc mc ms free := by
  refine Met.ofW (cc := cc) (maxL := nL) (ret := ret) hy rfl ?_
  intro p e s m args below meth c s₁ B hml hv
  obtain ⟨rfl, hH, hK, hE⟩ := hv
  have hts := atoms_spec (ws := ws_ y cc nL ret) B.pre
  have hts' : ∀ w ∈ lw_all, w.before _ s = true := fun w h => hts w (List.mem_cons_of_mem _ h)
  have hl := lv_entry av (n := nL) hn
  rw [lg_entry_eq]
  exact h p e s m below meth c _ ⟨B.exec, B.bytes, B.returns, B.notSynchronized, hml, findClass_of_methodNamed B.named, hts', hK, hE⟩ hH va_S.rf hl
theorem met_p {l : Launch} {y : MethodName} {cc : ByteArray} {nL : Nat} {ret : Option FieldType} {rm : Room} {G : Gh} {a1 : Nat → Nat → Nat} {ρ : St} {H : Heap} {av : List Value} {Qc : Array Value → State → Outcome → State → Prop} {mc ms : Nat} {free : Addr → Prop} (hy : plainName y.cls = true) (hn : (lg_sl av).length ≤ nL)
    (h : ∀ p e s m below meth c ls, s.heap = H → Cx p e s m av.toArray meth c cc nL ret y.cls G → Hd G a1 ρ H → va_S (gA G) s.heap H [] → lv_has ls nL (lv_args 0 av) → W p l e rm s m av.toArray below meth c H [] 0 0 (MQ below Qc av.toArray s mc ms free) (F0 m 0 ls [])) :
    Met l y (ws_ y cc nL ret) rm (PcP G a1 ρ H av) Qc mc ms free := by
  refine Met.ofW (cc := cc) (maxL := nL) (ret := ret) hy rfl ?_
  intro p e s m args below meth c s₁ B hml hv
  obtain ⟨rfl, rfl, hH, hK, hE⟩ := hv
  have hts := atoms_spec (ws := ws_ y cc nL ret) B.pre
  have hts' : ∀ w ∈ lw_all, w.before _ s = true := fun w h => hts w (List.mem_cons_of_mem _ h)
  have hl := lv_entry av (n := nL) hn
  rw [lg_entry_eq]
  exact h p e s m below meth c _ rfl ⟨B.exec, B.bytes, B.returns, B.notSynchronized, hml, findClass_of_methodNamed B.named, hts', hK, hE⟩ hH va_S.rf hl
section ROWS
variable {p : Program} {l : Launch} {e : Env} {R : Room} {s : State} {m : MethodId} {args : Array Value} {below : List Frame} {meth : Method} {c : Code} {H : Heap} {locs : List Loc} {cells slots : Nat} {Q : State → Prop}
variable {cc : ByteArray} {pc : Nat} {ls : Array Slot} {rest : List Value} {nL : Nat} {ret : Option FieldType} {own : String} {G : Gh} {a1 : Nat → Nat → Nat} {ρ : St} {f : St → St}
theorem rt_v {Q' : St → Prop} {u : St} (C : Cx p e s m args meth c cc nL none own G) (hH : Hd G a1 (f u) H) (hS : va_S (gA G) s.heap H locs) (hw : Q' u) (hdg : decode cc pc = .ok (.return_, 1)) : W p l e R s m args below meth c H locs cells slots (MQ below (QVs G a1 f Q') args s cells slots (gA G)) (F0 m pc ls []) :=
  W.vret C.1 C.2.1 C.2.2.1 (fun t ht _ => ⟨⟨u, rfl, hw, by show Hd _ _ _ t.heap; rw [ht]; exact hH⟩, hS.F ht⟩) hS.2.2 hdg C.2.2.2.1
theorem rt_va {Q' : St → Prop} {u : St} (C : Cx p e s m args meth c cc nL none own G) (hH : Hd G a1 (f u) H) (hS : va_S (gA G) s.heap H locs) (hw : Q' u) (hdg : decode cc pc = .ok (.return_, 1)) : W p l e R s m args below meth c H locs cells slots (MQ below (QVa G f Q') args s cells slots (gA G)) (F0 m pc ls []) :=
  W.vret C.1 C.2.1 C.2.2.1 (fun t ht _ => ⟨⟨(u, a1), rfl, hw, by show Hd _ _ _ t.heap; rw [ht]; exact hH⟩, hS.F ht⟩) hS.2.2 hdg C.2.2.2.1
theorem rt_i {Q' : Int32 → St → Prop} {u : St} {v : Int32} {ty : FieldType} (C : Cx p e s m args meth c cc nL (some ty) own G) (hn : narrow ty (.int v) = .int v) (hH : Hd G a1 (f u) H) (hS : va_S (gA G) s.heap H locs) (hw : Q' v u) (hdg : decode cc pc = .ok (.ireturn, 1)) : W p l e R s m args below meth c H locs cells slots (MQ below (QIs G a1 f Q') args s cells slots (gA G)) (F0 m pc ls [.int v]) :=
  W.zret C.1 C.2.1 C.2.2.1 hn (fun t ht _ => ⟨⟨v, u, rfl, hw, by show Hd _ _ _ t.heap; rw [ht]; exact hH⟩, hS.F ht⟩) hS.2.2 hdg C.2.2.2.1
theorem rt_ia {Q' : Int32 → St → Prop} {u : St} {v : Int32} {ty : FieldType} (C : Cx p e s m args meth c cc nL (some ty) own G) (hn : narrow ty (.int v) = .int v) (hH : Hd G a1 (f u) H) (hS : va_S (gA G) s.heap H locs) (hw : Q' v u) (hdg : decode cc pc = .ok (.ireturn, 1)) : W p l e R s m args below meth c H locs cells slots (MQ below (QIa G f Q') args s cells slots (gA G)) (F0 m pc ls [.int v]) :=
  W.zret C.1 C.2.1 C.2.2.1 hn (fun t ht _ => ⟨⟨v, (u, a1), rfl, hw, by show Hd _ _ _ t.heap; rw [ht]; exact hH⟩, hS.F ht⟩) hS.2.2 hdg C.2.2.2.1
theorem rt_ip {Q' : Int32 → Prop} {v : Int32} {ty : FieldType} (C : Cx p e s m args meth c cc nL (some ty) own G) (hn : narrow ty (.int v) = .int v) (hS : va_S (gA G) s.heap H locs) (hw : Q' v) (hdg : decode cc pc = .ok (.ireturn, 1)) : W p l e R s m args below meth c H locs cells slots (MQ below (QIp G H Q') args s cells slots (gA G)) (F0 m pc ls [.int v]) :=
  W.zret C.1 C.2.1 C.2.2.1 hn (fun t ht _ => ⟨⟨v, (), rfl, hw, ht⟩, hS.F ht⟩) hS.2.2 hdg C.2.2.2.1
theorem rt_jp {Q' : Int64 → Prop} {v : Int64} (C : Cx p e s m args meth c cc nL (some .long) own G) (hS : va_S (gA G) s.heap H locs) (hw : Q' v) (hdg : decode cc pc = .ok (.lreturn, 1)) : W p l e R s m args below meth c H locs cells slots (MQ below (QJp G H Q') args s cells slots (gA G)) (F0 m pc ls [.long v]) :=
  W.lret C.1 C.2.1 C.2.2.1 (fun t ht _ => ⟨⟨v, (), rfl, hw, ht⟩, hS.F ht⟩) hS.2.2 hdg C.2.2.2.1
theorem rt_ep {Q' : Option Nat → Prop} {k : Nat} (o : Option Nat) {v : Value} {nm : String} (C : Cx p e s m args meth c cc nL (some (.object nm)) own G) (hv : va_re (ga G k) o = v) (hS : va_S (gA G) s.heap H locs) (hw : Q' o) (hdg : decode cc pc = .ok (.areturn, 1)) : W p l e R s m args below meth c H locs cells slots (MQ below (QEp G H k Q') args s cells slots (gA G)) (F0 m pc ls [v]) := by
  subst hv
  exact W.aret C.1 C.2.1 C.2.2.1 (Or.inl ⟨nm, rfl⟩) (va_re_or _ _) (fun t ht _ => ⟨⟨o, (), rfl, hw, ht⟩, hS.F ht⟩) hS.2.2 hdg C.2.2.2.1
theorem rt_e {Q' : Option Nat → St → Prop} {u : St} {k : Nat} (o : Option Nat) {v : Value} {nm : String} (C : Cx p e s m args meth c cc nL (some (.object nm)) own G) (hv : va_re (ga G k) o = v) (hH : Hd G a1 (f u) H) (hS : va_S (gA G) s.heap H locs) (hw : Q' o u) (hdg : decode cc pc = .ok (.areturn, 1)) : W p l e R s m args below meth c H locs cells slots (MQ below (QEs G a1 k f Q') args s cells slots (gA G)) (F0 m pc ls [v]) := by
  subst hv
  exact W.aret C.1 C.2.1 C.2.2.1 (Or.inl ⟨nm, rfl⟩) (va_re_or _ _) (fun t ht _ => ⟨⟨o, u, rfl, hw, by show Hd _ _ _ t.heap; rw [ht]; exact hH⟩, hS.F ht⟩) hS.2.2 hdg C.2.2.2.1
theorem rt_tp {Q' : Nat → Prop} (t : Nat) {nm : String} (C : Cx p e s m args meth c cc nL (some (.object nm)) own G) (hS : va_S (gA G) s.heap H locs) (hw : Q' t) (hdg : decode cc pc = .ok (.areturn, 1)) : W p l e R s m args below meth c H locs cells slots (MQ below (QTp G H Q') args s cells slots (gA G)) (F0 m pc ls [.ref (gs G t)]) :=
  W.aret C.1 C.2.1 C.2.2.1 (Or.inl ⟨nm, rfl⟩) (Or.inr ⟨_, rfl⟩) (fun T ht _ => ⟨⟨some t, (), rfl, ⟨t, rfl, hw⟩, ht⟩, hS.F ht⟩) hS.2.2 hdg C.2.2.2.1
/-! calls: the run -/
variable {y : MethodName} {bytes : ByteArray} {maxL mc ms n index : Nat} {retY : Option FieldType} {rm : Room} {Qc : Array Value → State → Outcome → State → Prop} {As st0 : List Value}
theorem Iv.at (C : Cx p e s m args meth c cc nL ret own G) (hH : Hd G a1 ρ H) (hS : va_S (gA G) s.heap H locs) {U : State} (hU : U.heap = H) (hW : s.WarmedH U.vm) : Iv G a1 ρ U := by
  obtain ⟨-, -, -, -, -, -, -, hK, hE⟩ := C
  subst hU
  exact ⟨hH, hK.warm hW, (hE.kept hS.2.1).moved hW.alike⟩
theorem hd_recv (C : Cx p e s m args meth c cc nL ret own G) (hH : Hd G a1 ρ H) {Cn : String} {T : u_T} {N : Nat} {k i : Nat} (hk : k < 19) (hc : hcl[k]? = some (Cn, T, N)) (hi : i < kcnt k) : ∃ cell : Cell, H[ga G k i]? = some cell ∧ cell.vm.isStatics = false ∧ s.vm.findClass Cn = some cell.cls := by
  obtain ⟨-, -, -, -, -, -, -, hK, hE⟩ := C
  obtain ⟨cell, q1, q2, q3, q4⟩ := hH.1 k i hk hi
  rw [adr_st (show k ≠ 21 by omega) (show k ≠ 44 by omega)] at q1
  exact ⟨cell, q1, by rw [q3]; rfl, by rw [q2]; exact (hK.1.1 k _ hc).2.1⟩
theorem rn_v (C : Cx p e s m args meth c cc nL ret own G) (hH : Hd G a1 ρ H) (hS : va_S (gA G) s.heap H locs) {Cn : String} {T : u_T} {N : Nat} {k i : Nat} (hk : k < 19) (hc : hcl[k]? = some (Cn, T, N)) (hi : i < kcnt k) (hM : Met l y (ws_ y bytes maxL retY) rm (PcS G a1 ρ (.ref (ga G k i) :: As)) Qc mc ms (gA G)) (cw : CallW R s args own Cn index y bytes maxL retY (ws_ y bytes maxL retY) rm mc ms n)
    (hn : As.length = n) (hz : ls.size = nL) (hst : st0 = As.reverse ++ .ref (ga G k i) :: rest) (hw : (rest.map fun v => v.category).sum ≤ 8) (hdg : decode cc pc = .ok (.invokevirtual index, 3)) (hf : cells + mc ≤ R.cells ∧ slots + ms ≤ R.slots) :
    va_Run p l e R s m args below meth c H locs cells slots mc ms (F0 m pc ls st0) rest (Qc (Value.ref (ga G k i) :: As).toArray) (gA G) :=
  va_runV (Ts := lw_all) ⟨C.1, C.2.1, C.2.2.2.2.1, C.2.2.2.2.2.1, C.2.2.2.2.2.2.1⟩ hM cw ⟨fun a U g mk q => ⟨q.1, q.2.calling a U g mk⟩, hd_recv C hH hk hc hi, fun U hU hW => ⟨rfl, Iv.at C hH hS hU hW⟩⟩ rfl hn hz hst (lv_room (m := m) (pc := pc) (ls := ls) (rest := st0) hw) hdg hf
theorem rn_vp (C : Cx p e s m args meth c cc nL ret own G) (hH : Hd G a1 ρ H) (hS : va_S (gA G) s.heap H locs) {Cn : String} {T : u_T} {N : Nat} {k i : Nat} (hk : k < 19) (hc : hcl[k]? = some (Cn, T, N)) (hi : i < kcnt k) (hM : Met l y (ws_ y bytes maxL retY) rm (PcP G a1 ρ H (.ref (ga G k i) :: As)) Qc mc ms (gA G)) (cw : CallW R s args own Cn index y bytes maxL retY (ws_ y bytes maxL retY) rm mc ms n)
    (hn : As.length = n) (hz : ls.size = nL) (hst : st0 = As.reverse ++ .ref (ga G k i) :: rest) (hw : (rest.map fun v => v.category).sum ≤ 8) (hdg : decode cc pc = .ok (.invokevirtual index, 3)) (hf : cells + mc ≤ R.cells ∧ slots + ms ≤ R.slots) :
    va_Run p l e R s m args below meth c H locs cells slots mc ms (F0 m pc ls st0) rest (Qc (Value.ref (ga G k i) :: As).toArray) (gA G) :=
  va_runV (Ts := lw_all) ⟨C.1, C.2.1, C.2.2.2.2.1, C.2.2.2.2.2.1, C.2.2.2.2.2.2.1⟩ hM cw ⟨fun a U g mk q => ⟨q.1, q.2.1, q.2.2.calling a U g mk⟩, hd_recv C hH hk hc hi, fun U hU hW => ⟨rfl, hU, Iv.at C hH hS hU hW⟩⟩ rfl hn hz hst (lv_room (m := m) (pc := pc) (ls := ls) (rest := st0) hw) hdg hf
theorem rn_s (C : Cx p e s m args meth c cc nL ret own G) (hH : Hd G a1 ρ H) (hS : va_S (gA G) s.heap H locs) (hM : Met l y (ws_ y bytes maxL retY) rm (PcS G a1 ρ As) Qc mc ms (gA G)) (cw : CallB R s args own index y bytes maxL retY (ws_ y bytes maxL retY) rm mc ms n ∧ (Cond.static y).before args s = true)
    (hn : As.length = n) (hz : ls.size = nL) (hst : st0 = As.reverse ++ rest) (hw : (rest.map fun v => v.category).sum ≤ 8) (hdg : decode cc pc = .ok (.invokestatic index, 3)) (hf : cells + mc ≤ R.cells ∧ slots + ms ≤ R.slots) :
    va_Run p l e R s m args below meth c H locs cells slots mc ms (F0 m pc ls st0) rest (Qc As.toArray) (gA G) :=
  va_runS (Ts := lw_all) ⟨C.1, C.2.1, C.2.2.2.2.1, C.2.2.2.2.2.1, C.2.2.2.2.2.2.1⟩ hM cw ⟨fun a U g mk q => ⟨q.1, q.2.calling a U g mk⟩, fun U hU hW => ⟨rfl, Iv.at C hH hS hU hW⟩⟩ rfl hn hz hst (lv_room (m := m) (pc := pc) (ls := ls) (rest := st0) hw) hdg hf
theorem rn_sp (C : Cx p e s m args meth c cc nL ret own G) (hH : Hd G a1 ρ H) (hS : va_S (gA G) s.heap H locs) (hM : Met l y (ws_ y bytes maxL retY) rm (PcP G a1 ρ H As) Qc mc ms (gA G)) (cw : CallB R s args own index y bytes maxL retY (ws_ y bytes maxL retY) rm mc ms n ∧ (Cond.static y).before args s = true)
    (hn : As.length = n) (hz : ls.size = nL) (hst : st0 = As.reverse ++ rest) (hw : (rest.map fun v => v.category).sum ≤ 8) (hdg : decode cc pc = .ok (.invokestatic index, 3)) (hf : cells + mc ≤ R.cells ∧ slots + ms ≤ R.slots) :
    va_Run p l e R s m args below meth c H locs cells slots mc ms (F0 m pc ls st0) rest (Qc As.toArray) (gA G) :=
  va_runS (Ts := lw_all) ⟨C.1, C.2.1, C.2.2.2.2.1, C.2.2.2.2.2.1, C.2.2.2.2.2.2.1⟩ hM cw ⟨fun a U g mk q => ⟨q.1, q.2.1, q.2.2.calling a U g mk⟩, fun U hU hW => ⟨rfl, hU, Iv.at C hH hS hU hW⟩⟩ rfl hn hz hst (lv_room (m := m) (pc := pc) (ls := ls) (rest := st0) hw) hdg hf
/-! calls: behind them -/
variable {av : Array Value} {A0 : Nat → Prop}
theorem kc_v {Q' : St → Prop} (hr : va_Run p l e R s m args below meth c H locs cells slots 0 0 (F0 m pc ls st0) rest (QVs G a1 f Q' av) (gA G)) (hS : va_S (gA G) s.heap H locs)
    (kk : ∀ (u : St) (H1 : Heap) (locs1 : List Loc), Q' u → Hd G a1 (f u) H1 → va_S (gA G) s.heap H1 locs1 → W p l e R s m args below meth c H1 locs1 cells slots Q (F0 m (pc + 3) ls rest)) : W p l e R s m args below meth c H locs cells slots Q (F0 m pc ls st0) :=
  va_callv hr hS (fun _ _ h => h) (fun _ h => h) fun u t H1 locs1 ht _ hw hB _ _ hS1 => kk u H1 locs1 hw (by rw [← ht]; exact hB) hS1
theorem kc_i {Q' : Int32 → St → Prop} (hr : va_Run p l e R s m args below meth c H locs cells slots 0 0 (F0 m pc ls st0) rest (QIs G a1 f Q' av) (gA G)) (hS : va_S (gA G) s.heap H locs)
    (kk : ∀ (r : Int32) (u : St) (H1 : Heap) (locs1 : List Loc), Q' r u → Hd G a1 (f u) H1 → va_S (gA G) s.heap H1 locs1 → W p l e R s m args below meth c H1 locs1 cells slots Q (F0 m (pc + 3) ls (.int r :: rest))) : W p l e R s m args below meth c H locs cells slots Q (F0 m pc ls st0) :=
  va_calli hr hS (fun _ _ h => h) (fun _ h => h) fun r u t H1 locs1 ht _ hw hB _ _ hS1 => kk r u H1 locs1 hw (by rw [← ht]; exact hB) hS1
theorem kc_e {Q' : Option Nat → St → Prop} {k : Nat} (hr : va_Run p l e R s m args below meth c H locs cells slots 0 0 (F0 m pc ls st0) rest (QEs G a1 k f Q' av) (gA G)) (hS : va_S (gA G) s.heap H locs)
    (kk : ∀ (r : Option Nat) (u : St) (H1 : Heap) (locs1 : List Loc), Q' r u → Hd G a1 (f u) H1 → va_S (gA G) s.heap H1 locs1 → W p l e R s m args below meth c H1 locs1 cells slots Q (F0 m (pc + 3) ls (va_re (ga G k) r :: rest))) : W p l e R s m args below meth c H locs cells slots Q (F0 m pc ls st0) :=
  va_calle hr hS (fun _ _ h => h) (fun _ h => h) fun r u t H1 locs1 ht _ hw hB _ _ hS1 => kk r u H1 locs1 hw (by rw [← ht]; exact hB) hS1
theorem kc_va {Q' : St → Prop} (hr : va_Run p l e R s m args below meth c H locs cells slots mc ms (F0 m pc ls st0) rest (QVa G f Q' av) (gA G)) (hS : va_S (gA G) s.heap H locs)
    (kk : ∀ (u : St) (a2 : Nat → Nat → Nat) (H1 : Heap) (locs1 : List Loc), Q' u → Hd G a2 (f u) H1 → va_S (gA G) s.heap H1 locs1 → W p l e R s m args below meth c H1 locs1 (cells + mc) (slots + ms) Q (F0 m (pc + 3) ls rest)) : W p l e R s m args below meth c H locs cells slots Q (F0 m pc ls st0) :=
  va_callv hr hS (fun _ _ h => h) (fun _ h => h) fun u t H1 locs1 ht _ hw hB _ _ hS1 => kk u.1 u.2 H1 locs1 hw (by rw [← ht]; exact hB) hS1
theorem kc_ia {Q' : Int32 → St → Prop} (hr : va_Run p l e R s m args below meth c H locs cells slots mc ms (F0 m pc ls st0) rest (QIa G f Q' av) (gA G)) (hS : va_S (gA G) s.heap H locs)
    (kk : ∀ (r : Int32) (u : St) (a2 : Nat → Nat → Nat) (H1 : Heap) (locs1 : List Loc), Q' r u → Hd G a2 (f u) H1 → va_S (gA G) s.heap H1 locs1 → W p l e R s m args below meth c H1 locs1 (cells + mc) (slots + ms) Q (F0 m (pc + 3) ls (.int r :: rest))) : W p l e R s m args below meth c H locs cells slots Q (F0 m pc ls st0) :=
  va_calli hr hS (fun _ _ h => h) (fun _ h => h) fun r u t H1 locs1 ht _ hw hB _ _ hS1 => kk r u.1 u.2 H1 locs1 hw (by rw [← ht]; exact hB) hS1
theorem kc_ip {Q' : Int32 → Prop} (hr : va_Run p l e R s m args below meth c H locs cells slots 0 0 (F0 m pc ls st0) rest (QIp G H Q' av) (gA G)) (hS : va_S (gA G) s.heap H locs)
    (kk : ∀ (r : Int32) (locs1 : List Loc), Q' r → va_S (gA G) s.heap H locs1 → W p l e R s m args below meth c H locs1 cells slots Q (F0 m (pc + 3) ls (.int r :: rest))) : W p l e R s m args below meth c H locs cells slots Q (F0 m pc ls st0) :=
  va_calli hr hS (fun _ _ h => h) (fun _ h => h) fun r u t H1 locs1 ht _ hw hB _ _ hS1 => by
    have e9 : H1 = H := ht.symm.trans hB
    subst e9
    exact kk r locs1 hw hS1
theorem kc_jp {Q' : Int64 → Prop} (hr : va_Run p l e R s m args below meth c H locs cells slots 0 0 (F0 m pc ls st0) rest (QJp G H Q' av) (gA G)) (hS : va_S (gA G) s.heap H locs)
    (kk : ∀ (r : Int64) (locs1 : List Loc), Q' r → va_S (gA G) s.heap H locs1 → W p l e R s m args below meth c H locs1 cells slots Q (F0 m (pc + 3) ls (.long r :: rest))) : W p l e R s m args below meth c H locs cells slots Q (F0 m pc ls st0) :=
  va_calll hr hS (fun _ _ h => h) (fun _ h => h) fun r u t H1 locs1 ht _ hw hB _ _ hS1 => by
    have e9 : H1 = H := ht.symm.trans hB
    subst e9
    exact kk r locs1 hw hS1
theorem kc_ep {Q' : Option Nat → Prop} {k : Nat} (hr : va_Run p l e R s m args below meth c H locs cells slots 0 0 (F0 m pc ls st0) rest (QEp G H k Q' av) (gA G)) (hS : va_S (gA G) s.heap H locs)
    (kk : ∀ (r : Option Nat) (locs1 : List Loc), Q' r → va_S (gA G) s.heap H locs1 → W p l e R s m args below meth c H locs1 cells slots Q (F0 m (pc + 3) ls (va_re (ga G k) r :: rest))) : W p l e R s m args below meth c H locs cells slots Q (F0 m pc ls st0) :=
  va_calle hr hS (fun _ _ h => h) (fun _ h => h) fun r u t H1 locs1 ht _ hw hB _ _ hS1 => by
    have e9 : H1 = H := ht.symm.trans hB
    subst e9
    exact kk r locs1 hw hS1
theorem kc_tp {Q' : Nat → Prop} (hr : va_Run p l e R s m args below meth c H locs cells slots 0 0 (F0 m pc ls st0) rest (QTp G H Q' av) (gA G)) (hS : va_S (gA G) s.heap H locs)
    (kk : ∀ (t : Nat) (locs1 : List Loc), Q' t → va_S (gA G) s.heap H locs1 → W p l e R s m args below meth c H locs1 cells slots Q (F0 m (pc + 3) ls (.ref (gs G t) :: rest))) : W p l e R s m args below meth c H locs cells slots Q (F0 m pc ls st0) :=
  va_calle hr hS (fun _ _ h => h) (fun _ h => h) fun r u t H1 locs1 ht _ hw hB _ _ hS1 => by
    have e9 : H1 = H := ht.symm.trans hB
    subst e9
    obtain ⟨t9, rfl, hw⟩ := hw
    exact kk t9 locs1 hw hS1
/-! references in arrays and fields -/
theorem hd_aald (C : Cx p e s m args meth c cc nL ret own G) (hH : Hd G a1 ρ H) {k i t md : Nat} {ty : FieldType} (hk : 19 ≤ k) (hi : i < kcnt k) (hr : ∀ j, rt k j = some (t, md)) (ht : (tysl G)[aty k]? = some (gc G (aty k), ty)) (hty : ty.isReference = true) {x : Int32} {v : Value} (hin : vp_in x (alen ρ k i)) (hv : rfv G a1 t md i x.toNatClampNeg (ρ k i) = v) (hdg : decode cc pc = .ok (.aaload, 1))
    (kk : W p l e R s m args below meth c H locs cells slots Q (F0 m (pc + 1) ls (v :: rest))) : W p l e R s m args below meth c H locs cells slots Q (F0 m pc ls (.int x :: .ref (adr G a1 k i) :: rest)) := by
  obtain ⟨hx, hb, -, -, -, hown, hts, hK, -⟩ := C
  have hlt := vp_lt hin
  have ha := hH.2.1 k i hk hi
  refine W.aald (v := v) (ty := ty) hx hb ha ((hK.1.2 (aty k) _ ht).1 _ _) hty (fun q => by cases q) (by rw [arrV_size]; exact hin) ?_ rfl rfl hdg kk
  rw [arrV_read _ _ hlt, fvl_r (hr _), hv]
theorem hd_aast (C : Cx p e s m args meth c cc nL ret own G) (hH : Hd G a1 ρ H) (hS0 : va_S (gA G) s.heap H locs) {k i t i2 : Nat} {Cn : String} {T : u_T} {N : Nat} (hk : 19 ≤ k) (hk90 : k ≠ 90) (hi : i < kcnt k) (hr : ∀ j, rt k j = some (t, 4)) (hty : ∀ j, tyk k j = 0) (ht : (tysl G)[aty k]? = some (gc G (aty k), .object Cn)) (ht19 : t < 19) (hc : hcl[t]? = some (Cn, T, N)) (hi2 : i2 < kcnt t) (hb2 : i2 < 1000) {x : Int32} (hin : vp_in x (alen ρ k i)) (hdg : decode cc pc = .ok (.aastore, 1))
    (kk : ∀ (H1 : Heap) (locs1 : List Loc), Hd G a1 (up3 ρ k i x.toNatClampNeg (nI i2)) H1 → va_S (gA G) s.heap H1 locs1 → W p l e R s m args below meth c H1 locs1 cells slots Q (F0 m (pc + 1) ls rest)) : W p l e R s m args below meth c H locs cells slots Q (F0 m pc ls (.ref (ga G t i2) :: .int x :: .ref (adr G a1 k i) :: rest)) := by
  rw [← adr_st (G := G) (a1 := a1) (k := t) (i := i2) (show t ≠ 21 by omega) (show t ≠ 44 by omega)]
  obtain ⟨hx, hb, -, -, -, hown, hts, hK, -⟩ := C
  have hlt := vp_lt hin
  have h0 : ¬ x < 0 := fun q => hin (Or.inl q)
  have ha := hH.2.1 k i hk hi
  obtain ⟨cellV, g1, g2, g3, -⟩ := hH.1 t i2 ht19 hi2
  have hcls := (hK.1.1 t _ hc).2
  obtain ⟨kA, comp, k1, k2, k3, -⟩ := (hK.1.2 (aty k) _ ht).2
  have hcomp : comp = (gD G).1 t := Option.some.inj (k3.symm.trans hcls.1)
  subst hcomp
  obtain ⟨kC, hkC, -⟩ := hcls.2
  refine W.aast hx hb ha (fun q h => by cases h) (fun h => by cases h) k1 k2 rfl hkC ⟨h0, by rw [arrV_size]; exact hlt⟩ g1 (fun q h => by rw [g3] at h; cases h) (by rw [g2]; exact hkC) (by rw [g2]; exact va_assign hcls) rfl rfl hdg fun H1 e1 z oq => ?_
  refine kk H1 _ (hH.upd (k := k) (i := i) hi oq (fun k' i' h => fvl_oth h) (alen_up hk90) ⟨fun h => absurd h (Nat.not_lt.mpr hk), fun _ => ?_⟩ (okv_up hH.2.2.2.2 (by rw [hty]; exact ⟨fun h => absurd h (by decide), fun h => absurd h (by decide)⟩))) (hS0.put z oq (hH.2.2.2.1 k i hi))
  rw [e1, arrV_store, alen_up hk90]
  congr 2
  funext j
  rw [fvl_r (hr j), up3_s]
  by_cases e9 : j = x.toNatClampNeg
  · subst e9
    simp [updV, va_up, rfv, nI_clamp (show i2 < 2 ^ 31 by omega)]
  · simp only [updV, if_neg e9]
    rw [fvl_r (hr j)]
    simp [va_up, e9, rfv]
/-- a field that holds an array: which one is written down at j and j + 100 -/
theorem hd_puta (C : Cx p e s m args meth c cc nL ret own G) (hH : Hd G a1 ρ H) (hS0 : va_S (gA G) s.heap H locs) {Cn : String} {T : u_T} {N : Nat} (k i j : Nat) (hk : k < 19) (hc : hcl[k]? = some (Cn, T, N)) (hN : kfn k = N) (hi : i < kcnt k) (hin : ∀ w ∈ u_ws Cn T N, w ∈ lw_all) (ty0 : Nat → FieldType) (hty : ∀ k, k < N → parseFieldDescriptor (T k).2.2.1 = some (ty0 k)) (hnm : ∀ a, a < N → ∀ b, b < N → a ≠ b → (T a).2.1 ≠ (T b).2.1) (hj : j < N) (hj2 : N < 100) {index : Nat} {nm ds : String} (hl : Cond.fieldLink own index Cn nm ds ∈ lw_all) (hT : (T j).1 = Cn ∧ (T j).2.1 = nm ∧ (T j).2.2.1 = ds) (hfin : (T j).2.2.2 = false) (hd : ty0 j = .array .byte) {t : Nat} (hr : rt k j = some (t, 2)) (hr2 : ∀ j', j' < N → j' ≠ j → ∀ q, rt k j' = some q → q.2 ≠ 2) (hto : tyk k j = 0 ∧ tyk k (j + 100) = 0) {kb ib : Nat} (hkb : kb ≠ 0 ∧ kb < 1000 ∧ ib < 1000)
    (hdg : decode cc pc = .ok (.putfield index, 3)) (kk : ∀ (H1 : Heap) (locs1 : List Loc), Hd G a1 (up3 (up3 ρ k i j (nI kb)) k i (j + 100) (nI ib)) H1 → va_S (gA G) s.heap H1 locs1 → W p l e R s m args below meth c H1 locs1 cells slots Q (F0 m (pc + 3) ls rest)) : W p l e R s m args below meth c H locs cells slots Q (F0 m pc ls (.ref (adr G a1 kb ib) :: .ref (ga G k i) :: rest)) := by
  rw [← adr_st (G := G) (a1 := a1) (k := k) (i := i) (show k ≠ 21 by omega) (show k ≠ 44 by omega)]
  obtain ⟨hx, hb, -, -, -, hown, hts, hK, -⟩ := C
  have hap := va_apart (own := own) hts hin ty0 hty hnm hK.1 hc
  obtain ⟨cell, q1, q2, q3, q4⟩ := hH.1 k i hk hi
  obtain ⟨hS, hfc, kC, hkC, hkind⟩ := hK.1.1 k _ hc
  obtain ⟨cf, kf, fi, f, hi', hsl⟩ := hS j hj
  obtain ⟨e1, e2, e3⟩ := hT
  have hlink := hts _ hl
  rw [← e2, ← e3, ← e1] at hlink
  have hlay := hts _ (hin _ (u_in_lay hj))
  unfold u_lay at hlay
  rw [if_neg (by rw [hfin]; decide)] at hlay
  have hst := (u_facts hfc hkC (u_lays hts hin hj) hi').1
  have hd' : parseFieldDescriptor (T j).2.2.1 = some (.array .byte) := by rw [hty j hj, hd]
  have h6 := u_store (v := .ref (adr G a1 kb ib)) hfc hkC hkind hlay hi' hd' rfl rfl
  rw [hN] at q4
  refine W.putK hx hb (f := f) ⟨hown, hlink, ⟨_, _, _, hi'⟩, hst⟩ (by rw [q2]; exact h6) q1 q3 (by rw [hsl]; exact k2_hasslot (q4 j hj)) rfl rfl hdg fun H' e1 e2 e3 => ?_
  rw [hsl] at e1 ⊢
  have hk90 : k ≠ 90 := by omega
  have hz : ∀ v, okv 0 v := fun v => ⟨fun h => absurd h (by decide), fun h => absurd h (by decide)⟩
  refine kk H' _ (hH.upd (k := k) (i := i) hi e3 (fun k' i' h => (fvl_oth h).trans (fvl_oth h)) (fun k' i' => (alen_up hk90 k' i').trans (alen_up hk90 k' i')) ⟨fun _ => ?_, fun h => absurd hk (Nat.not_lt.mpr h)⟩ (okv_up (okv_up hH.2.2.2.2 (by rw [hto.1]; exact hz _)) (by rw [hto.2]; exact hz _))) (hS0.put e2 e3 (hH.2.2.2.1 k i hi))
  rw [hN]
  refine t_OB.to (V := updV (fvl G a1 ρ k i) j (.ref (adr G a1 kb ib))) ⟨_, e1, q2, q3, t_set q4 hap hj _⟩ (fun j' hj' => ?_)
  have nk := nI_clamp (show kb < 2 ^ 31 by omega)
  have ni := nI_clamp (show ib < 2 ^ 31 by omega)
  by_cases e9 : j' = j
  · subst e9
    rw [fvl_r hr, up3_s, up3_s]
    simp [updV, va_up, rfv, nk, ni, hkb.1]
  · simp only [updV, if_neg e9]
    have e10 : j' ≠ j + 100 := by omega
    cases hq : rt k j' with
    | none => rw [fvl_i hq, fvl_i hq, up3_s, up3_s]; simp [va_up, e9, e10]
    | some q =>
      have h2 := hr2 j' hj' e9 q hq
      rw [fvl_r hq, fvl_r hq, up3_s, up3_s]
      exact rfv_ext (by simp [va_up, e9, e10]) (by simp [va_up, show j' + 100 ≠ j by omega, e9])
end ROWS
