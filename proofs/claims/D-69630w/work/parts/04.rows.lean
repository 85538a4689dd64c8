/-! rows over the state: reading and writing fields and arrays -/
set_option maxRecDepth 100000
theorem rfv_ext {G : Gh} {a1 : Nat → Nat → Nat} {t md i j : Nat} {r r' : Nat → Int32} (h1 : r j = r' j) (h2 : r (j + 100) = r' (j + 100)) : rfv G a1 t md i j r = rfv G a1 t md i j r' := by simp [rfv, h1, h2]
theorem alen_up {ρ : St} {k i j : Nat} {v : Int32} (h : k ≠ 90) (k' i' : Nat) : alen (up3 ρ k i j v) k' i' = alen ρ k' i' := by
  simp [alen, up3_k (Ne.symm h)]
theorem fvl_oth {G : Gh} {a1 : Nat → Nat → Nat} {ρ : St} {k i j k' i' : Nat} {v : Int32} (h : ¬ (k' = k ∧ i' = i)) : fvl G a1 (up3 ρ k i j v) k' i' = fvl G a1 ρ k' i' := by
  funext j'
  simp only [fvl, up3_i h]
theorem okv_up {ρ : St} {k i j : Nat} {v : Int32} (h : ∀ k i j, okv (tyk k j) (ρ k i j)) (hv : okv (tyk k j) v) : ∀ k' i' j', okv (tyk k' j') (up3 ρ k i j v k' i' j') := by
  intro k' i' j'
  by_cases e : k' = k ∧ i' = i
  · obtain ⟨rfl, rfl⟩ := e
    rw [up3_s]
    by_cases e2 : j' = j
    · subst e2
      simpa [va_up] using hv
    · simpa [va_up, e2] using h k' i' j'
  · rw [up3_i e]
    exact h k' i' j'
/-- one cell is new, the others stay -/
theorem Hd.upd {G : Gh} {a1 : Nat → Nat → Nat} {ρ ρ' : St} {H H' : Heap} (h : Hd G a1 ρ H) {k i : Nat} (hi : i < kcnt k) (heq : ∀ q, q ≠ adr G a1 k i → H'[q]? = H[q]?)
    (ho : ∀ k' i', ¬ (k' = k ∧ i' = i) → fvl G a1 ρ' k' i' = fvl G a1 ρ k' i') (ha : ∀ k' i', alen ρ' k' i' = alen ρ k' i')
    (hs : (k < 19 → t_OB (adr G a1 k i) ((gD G).1 k) (kfn k) ((gD G).2 k) H' (fvl G a1 ρ' k i)) ∧ (19 ≤ k → H'[adr G a1 k i]? = some (arrV (gc G (aty k)) (alen ρ' k i) (fvl G a1 ρ' k i)))) (hok : ∀ k i j, okv (tyk k j) (ρ' k i j)) : Hd G a1 ρ' H' := by
  obtain ⟨h1, h2, h3, h4, h5⟩ := h
  refine ⟨fun k' i' hk hi' => ?_, fun k' i' hk hi' => ?_, h3, h4, hok⟩
  · by_cases e : k' = k ∧ i' = i
    · obtain ⟨rfl, rfl⟩ := e
      exact hs.1 hk
    · rw [ho k' i' e]
      exact (h1 k' i' hk hi').kept (heq _ (fun z => e (h3 _ _ _ _ hi' hi z)))
  · by_cases e : k' = k ∧ i' = i
    · obtain ⟨rfl, rfl⟩ := e
      exact hs.2 hk
    · rw [ho k' i' e, ha, heq _ (fun z => e (h3 _ _ _ _ hi' hi z))]
      exact h2 k' i' hk hi'
/-- what holds all through a method's body -/
def Cx (p : Program) (e : Env) (s : State) (m : MethodId) (args : Array Value) (meth : Method) (c : Code) (cc : ByteArray) (nL : Nat) (ret : Option FieldType) (own : String) (G : Gh) : Prop :=
  p.tables.exec = Jvm.exec ∧ c.code = cc ∧ meth.sig.returnType = ret ∧ meth.locks = false ∧ c.maxLocals = nL ∧ s.vm.findClass own = some m.cls ∧ (∀ w ∈ lw_all, w.before args s = true) ∧ KK G s ∧ SS G s s.heap
section ROWS
variable {p : Program} {l : Launch} {e : Env} {R : Room} {s : State} {m : MethodId} {args : Array Value} {below : List Frame} {meth : Method} {c : Code} {H : Heap} {locs : List Loc} {cells slots : Nat} {Q : State → Prop}
variable {cc : ByteArray} {pc : Nat} {ls : Array Slot} {rest : List Value} {nL : Nat} {ret : Option FieldType} {own : String} {G : Gh} {a1 : Nat → Nat → Nat} {ρ : St}
theorem hd_get (C : Cx p e s m args meth c cc nL ret own G) (hH : Hd G a1 ρ H) {Cn : String} {T : u_T} {N : Nat} (k i j : Nat) (hk : k < 19) (hc : hcl[k]? = some (Cn, T, N)) (hN : kfn k = N) (hi : i < kcnt k) (hin : ∀ w ∈ u_ws Cn T N, w ∈ lw_all) (hj : j < N) {index : Nat} {nm ds : String} (hl : Cond.fieldLink own index Cn nm ds ∈ lw_all) (hT : (T j).1 = Cn ∧ (T j).2.1 = nm ∧ (T j).2.2.1 = ds) {v : Value} (hv : fvl G a1 ρ k i j = v) (hdg : decode cc pc = .ok (.getfield index, 3))
    (kk : W p l e R s m args below meth c H locs cells slots Q (F0 m (pc + 3) ls (v :: rest))) : W p l e R s m args below meth c H locs cells slots Q (F0 m pc ls (.ref (ga G k i) :: rest)) := by
  rw [← adr_st (G := G) (a1 := a1) (i := i) (show k ≠ 21 by omega) (show k ≠ 44 by omega)]
  obtain ⟨hx, hb, -, -, -, hown, hts, hK, -⟩ := C
  obtain ⟨cell, q1, q2, q3, q4⟩ := hH.1 k i hk hi
  obtain ⟨hS, hfc, kC, hkC, hkind⟩ := hK.1.1 k _ hc
  obtain ⟨cf, kf, fi, f, hi', hsl⟩ := hS j hj
  obtain ⟨e1, e2, e3⟩ := hT
  have hlink := hts _ hl
  rw [← e2, ← e3, ← e1] at hlink
  refine W.getf hx hb hown hlink hi' (u_facts hfc hkC (u_lays hts hin hj) hi').1 q1 (by rw [q3]; exact fun h => by cases h) (v := v) ?_ rfl rfl hdg kk
  rw [hsl, q4 j (by rw [hN]; exact hj), hv]
theorem hd_put (C : Cx p e s m args meth c cc nL ret own G) (hH : Hd G a1 ρ H) (hS0 : va_S (gA G) s.heap H locs) {Cn : String} {T : u_T} {N : Nat} (k i j : Nat) (hk : k < 19) (hc : hcl[k]? = some (Cn, T, N)) (hN : kfn k = N) (hi : i < kcnt k) (hin : ∀ w ∈ u_ws Cn T N, w ∈ lw_all) (ty0 : Nat → FieldType) (hty : ∀ k, k < N → parseFieldDescriptor (T k).2.2.1 = some (ty0 k)) (hnm : ∀ a, a < N → ∀ b, b < N → a ≠ b → (T a).2.1 ≠ (T b).2.1) (hj : j < N) (hj2 : j < 100) {index : Nat} {nm ds : String} (hl : Cond.fieldLink own index Cn nm ds ∈ lw_all) (hT : (T j).1 = Cn ∧ (T j).2.1 = nm ∧ (T j).2.2.1 = ds) (hfin : (T j).2.2.2 = false) {ty : FieldType} (hd : ty0 j = ty) (hr : rt k j = none) {v : Int32} (hn : narrow ty (.int v) = .int v) (hfit : fits ty (.int v) = true) (hok : okv (tyk k j) v)
    (hdg : decode cc pc = .ok (.putfield index, 3)) (kk : ∀ (H1 : Heap) (locs1 : List Loc), Hd G a1 (up3 ρ k i j v) H1 → va_S (gA G) s.heap H1 locs1 → W p l e R s m args below meth c H1 locs1 cells slots Q (F0 m (pc + 3) ls rest)) : W p l e R s m args below meth c H locs cells slots Q (F0 m pc ls (.int v :: .ref (ga G k i) :: rest)) := by
  rw [← adr_st (G := G) (a1 := a1) (i := i) (show k ≠ 21 by omega) (show k ≠ 44 by omega)]
  obtain ⟨hx, hb, -, -, -, hown, hts, hK, -⟩ := C
  have hap := va_apart (own := own) hts hin ty0 hty hnm hK.1 hc
  obtain ⟨cell, q1, q2, q3, q4⟩ := hH.1 k i hk hi
  obtain ⟨hS, hfc, kC, hkC, hkind⟩ := hK.1.1 k _ hc
  obtain ⟨cf, kf, fi, f, hi', hsl⟩ := hS j hj
  obtain ⟨e1, e2, e3⟩ := hT
  have hlink := hts _ hl
  rw [← e2, ← e3, ← e1] at hlink
  have hlay := hts _ (hin _ (u_in_lay hj))
  unfold u_lay at hlay
  rw [if_neg (by rw [hfin]; decide)] at hlay
  have hst := (u_facts hfc hkC (u_lays hts hin hj) hi').1
  have hd' : parseFieldDescriptor (T j).2.2.1 = some ty := by rw [hty j hj, hd]
  have h6 := u_store hfc hkC hkind hlay hi' hd' hn hfit
  rw [hN] at q4
  refine W.putK hx hb (f := f) ⟨hown, hlink, ⟨_, _, _, hi'⟩, hst⟩ (by rw [q2]; exact h6) q1 q3 (by rw [hsl]; exact k2_hasslot (q4 j hj)) rfl rfl hdg fun H' e1 e2 e3 => ?_
  rw [hsl] at e1 ⊢
  have hk90 : k ≠ 90 := by omega
  refine kk H' _ (hH.upd (k := k) (i := i) hi e3 (fun k' i' h => fvl_oth h) (alen_up hk90) ⟨fun _ => ?_, fun h => absurd hk (Nat.not_lt.mpr h)⟩ (okv_up hH.2.2.2.2 hok)) (hS0.put e2 e3 (hH.2.2.2.1 k i hi))
  rw [hN]
  refine t_OB.to (V := updV (fvl G a1 ρ k i) j (.int v)) ⟨_, e1, q2, q3, t_set q4 hap hj (.int v)⟩ (fun j' _ => ?_)
  by_cases e9 : j' = j
  · subst e9
    rw [fvl_i hr, up3_s]
    simp [updV, va_up]
  · simp only [updV, if_neg e9]
    cases hq : rt k j' with
    | none => rw [fvl_i hq, fvl_i hq, up3_s]; simp [va_up, e9]
    | some q =>
      rw [fvl_r hq, fvl_r hq, up3_s]
      exact rfv_ext (by simp [va_up, e9]) (by simp [va_up, show j' + 100 ≠ j by omega])
theorem vp_lt {x : Int32} {n : Nat} (h : vp_in x n) : x.toNatClampNeg < n := Nat.not_le.mp fun q => h (Or.inr q)
/-- an array of numbers is read -/
theorem hd_arr (hH : Hd G a1 ρ H) {k i : Nat} (hk : 19 ≤ k) (hi : i < kcnt k) (hr : ∀ j, rt k j = none) : H[adr G a1 k i]? = some (arrV (gc G (aty k)) (alen ρ k i) (fun j => .int (ρ k i j))) := by
  rw [hH.2.1 k i hk hi]
  congr 2
  funext j
  exact fvl_i (hr j)
theorem hd_bald (C : Cx p e s m args meth c cc nL ret own G) (hH : Hd G a1 ρ H) {k i : Nat} (hk : 19 ≤ k) (hi : i < kcnt k) (hr : ∀ j, rt k j = none) (ht : aty k = 2) {x : Int32} (hin : vp_in x (alen ρ k i)) (hdg : decode cc pc = .ok (.baload, 1))
    (kk : W p l e R s m args below meth c H locs cells slots Q (F0 m (pc + 1) ls (.int (ρ k i x.toNatClampNeg) :: rest))) : W p l e R s m args below meth c H locs cells slots Q (F0 m pc ls (.int x :: .ref (adr G a1 k i) :: rest)) := by
  obtain ⟨hx, hb, -, -, -, hown, hts, hK, -⟩ := C
  have hlt := vp_lt hin
  have ha := hd_arr hH hk hi hr
  rw [ht] at ha
  exact W.bald (v := .int (ρ k i x.toNatClampNeg)) hx hb ha ((hK.1.2 2 (gc G 2, .byte) rfl).1 _ _) (fun q => by cases q) (by rw [arrV_size]; exact hin) (by rw [arrV_read _ _ hlt]) rfl rfl hdg kk
theorem hd_zald (C : Cx p e s m args meth c cc nL ret own G) (hH : Hd G a1 ρ H) {k i : Nat} (hk : 19 ≤ k) (hi : i < kcnt k) (hr : ∀ j, rt k j = none) (ht : aty k = 1) {x : Int32} (hin : vp_in x (alen ρ k i)) (hdg : decode cc pc = .ok (.baload, 1))
    (kk : W p l e R s m args below meth c H locs cells slots Q (F0 m (pc + 1) ls (.int (ρ k i x.toNatClampNeg) :: rest))) : W p l e R s m args below meth c H locs cells slots Q (F0 m pc ls (.int x :: .ref (adr G a1 k i) :: rest)) := by
  obtain ⟨hx, hb, -, -, -, hown, hts, hK, -⟩ := C
  have hlt := vp_lt hin
  have ha := hd_arr hH hk hi hr
  rw [ht] at ha
  exact W.zald (v := .int (ρ k i x.toNatClampNeg)) hx hb ha ((hK.1.2 1 (gc G 1, .boolean) rfl).1 _ _) (fun q => by cases q) (by rw [arrV_size]; exact hin) (by rw [arrV_read _ _ hlt]) rfl rfl hdg kk
theorem hd_iald (C : Cx p e s m args meth c cc nL ret own G) (hH : Hd G a1 ρ H) {k i : Nat} (hk : 19 ≤ k) (hi : i < kcnt k) (hr : ∀ j, rt k j = none) (ht : aty k = 0) {x : Int32} (hin : vp_in x (alen ρ k i)) (hdg : decode cc pc = .ok (.iaload, 1))
    (kk : W p l e R s m args below meth c H locs cells slots Q (F0 m (pc + 1) ls (.int (ρ k i x.toNatClampNeg) :: rest))) : W p l e R s m args below meth c H locs cells slots Q (F0 m pc ls (.int x :: .ref (adr G a1 k i) :: rest)) := by
  obtain ⟨hx, hb, -, -, -, hown, hts, hK, -⟩ := C
  have hlt := vp_lt hin
  have ha := hd_arr hH hk hi hr
  rw [ht] at ha
  exact W.iald (v := .int (ρ k i x.toNatClampNeg)) hx hb ha ((hK.1.2 0 (gc G 0, .int) rfl).1 _ _) (fun q => by cases q) (by rw [arrV_size]; exact hin) (by rw [arrV_read _ _ hlt]) rfl rfl hdg kk
theorem hd_alen (C : Cx p e s m args meth c cc nL ret own G) (hH : Hd G a1 ρ H) {k i : Nat} (hk : 19 ≤ k) (hi : i < kcnt k) (hr : ∀ j, rt k j = none) (ht : aty k < 3) (hdg : decode cc pc = .ok (.arraylength, 1))
    (kk : W p l e R s m args below meth c H locs cells slots Q (F0 m (pc + 1) ls (.int (nI (alen ρ k i)) :: rest))) : W p l e R s m args below meth c H locs cells slots Q (F0 m pc ls (.ref (adr G a1 k i) :: rest)) := by
  obtain ⟨hx, hb, -, -, -, hown, hts, hK, -⟩ := C
  have ha := hd_arr hH hk hi hr
  have h3 : ∃ ty, (tysl G)[aty k]? = some (gc G (aty k), ty) := by
    generalize aty k = t at ht
    match t, ht with
    | 0, _ => exact ⟨_, rfl⟩
    | 1, _ => exact ⟨_, rfl⟩
    | 2, _ => exact ⟨_, rfl⟩
  obtain ⟨ty, h3⟩ := h3
  exact W.alen hx hb ha ((hK.1.2 (aty k) _ h3).1 _ _) (by rw [arrV_size]; rfl) rfl rfl hdg kk
theorem hd_stw {k i : Nat} {x v : Int32} (hH : Hd G a1 ρ H) (hS0 : va_S (gA G) s.heap H locs) (hk : 19 ≤ k) (hk90 : k ≠ 90) (hi : i < kcnt k) (hr : ∀ j, rt k j = none) (hok : okv (tyk k x.toNatClampNeg) v) {H' : Heap} (e1 : H'[adr G a1 k i]? = some ((arrV (gc G (aty k)) (alen ρ k i) (fun j => .int (ρ k i j))).setSlot x.toNatClampNeg (.int v))) (e2 : H'.size = H.size) (e3 : ∀ q, q ≠ adr G a1 k i → H'[q]? = H[q]?) :
    Hd G a1 (up3 ρ k i x.toNatClampNeg v) H' ∧ va_S (gA G) s.heap H' (locs ++ [⟨adr G a1 k i, x.toNatClampNeg⟩]) := by
  refine ⟨hH.upd (k := k) (i := i) hi e3 (fun k' i' h => fvl_oth h) (alen_up hk90) ⟨fun h => absurd h (Nat.not_lt.mpr hk), fun _ => ?_⟩ (okv_up hH.2.2.2.2 hok), hS0.put e2 e3 (hH.2.2.2.1 k i hi)⟩
  rw [e1, arrV_store, alen_up hk90]
  congr 2
  funext j
  rw [fvl_i (hr j), up3_s]
  by_cases e9 : j = x.toNatClampNeg
  · subst e9; simp [updV, va_up]
  · simp [updV, va_up, e9]
theorem hd_bast (C : Cx p e s m args meth c cc nL ret own G) (hH : Hd G a1 ρ H) (hS0 : va_S (gA G) s.heap H locs) {k i : Nat} (hk : 19 ≤ k) (hk90 : k ≠ 90) (hi : i < kcnt k) (hr : ∀ j, rt k j = none) (ht : aty k = 2) (hty : ∀ j, tyk k j = 2) {x v : Int32} (hin : vp_in x (alen ρ k i)) (hdg : decode cc pc = .ok (.bastore, 1))
    (kk : ∀ (H1 : Heap) (locs1 : List Loc), Hd G a1 (up3 ρ k i x.toNatClampNeg v.toInt8.toInt32) H1 → va_S (gA G) s.heap H1 locs1 → W p l e R s m args below meth c H1 locs1 cells slots Q (F0 m (pc + 1) ls rest)) : W p l e R s m args below meth c H locs cells slots Q (F0 m pc ls (.int v :: .int x :: .ref (adr G a1 k i) :: rest)) := by
  obtain ⟨hx, hb, -, -, -, hown, hts, hK, -⟩ := C
  have ha := hd_arr hH hk hi hr
  rw [ht] at ha
  refine W.bast hx hb ha ((hK.1.2 2 (gc G 2, .byte) rfl).1 _ _) (fun q => by cases q) (by rw [arrV_size]; exact hin) rfl rfl hdg fun H1 e1 z oq => ?_
  have hokv : okv (tyk k x.toNatClampNeg) v.toInt8.toInt32 := by rw [hty]; exact ⟨fun h => absurd h (by decide), fun _ => by simp [by8]⟩
  obtain ⟨g1, g2⟩ := hd_stw (v := v.toInt8.toInt32) hH hS0 hk hk90 hi hr hokv (by rw [ht, e1]; congr 2) z oq
  exact kk H1 _ g1 g2
theorem hd_zast (C : Cx p e s m args meth c cc nL ret own G) (hH : Hd G a1 ρ H) (hS0 : va_S (gA G) s.heap H locs) {k i : Nat} (hk : 19 ≤ k) (hk90 : k ≠ 90) (hi : i < kcnt k) (hr : ∀ j, rt k j = none) (ht : aty k = 1) (hty : ∀ j, tyk k j = 1) {x v : Int32} (hv : bo v) (hin : vp_in x (alen ρ k i)) (hdg : decode cc pc = .ok (.bastore, 1))
    (kk : ∀ (H1 : Heap) (locs1 : List Loc), Hd G a1 (up3 ρ k i x.toNatClampNeg v) H1 → va_S (gA G) s.heap H1 locs1 → W p l e R s m args below meth c H1 locs1 cells slots Q (F0 m (pc + 1) ls rest)) : W p l e R s m args below meth c H locs cells slots Q (F0 m pc ls (.int v :: .int x :: .ref (adr G a1 k i) :: rest)) := by
  obtain ⟨hx, hb, -, -, -, hown, hts, hK, -⟩ := C
  have ha := hd_arr hH hk hi hr
  rw [ht] at ha
  refine W.zast hx hb ha ((hK.1.2 1 (gc G 1, .boolean) rfl).1 _ _) (fun q => by cases q) (by rw [arrV_size]; exact hin) rfl rfl hdg fun H1 e1 z oq => ?_
  have hokv : okv (tyk k x.toNatClampNeg) v := by rw [hty]; exact ⟨fun _ => hv, fun h => absurd h (by decide)⟩
  have hnar : narrow .boolean (.int v) = .int v := by rcases hv with rfl | rfl <;> rfl
  obtain ⟨g1, g2⟩ := hd_stw (v := v) hH hS0 hk hk90 hi hr hokv (by rw [ht, e1, hnar]) z oq
  exact kk H1 _ g1 g2
theorem hd_iast (C : Cx p e s m args meth c cc nL ret own G) (hH : Hd G a1 ρ H) (hS0 : va_S (gA G) s.heap H locs) {k i : Nat} (hk : 19 ≤ k) (hk90 : k ≠ 90) (hi : i < kcnt k) (hr : ∀ j, rt k j = none) (ht : aty k = 0) (hty : ∀ j, tyk k j = 0) {x v : Int32} (hin : vp_in x (alen ρ k i)) (hdg : decode cc pc = .ok (.iastore, 1))
    (kk : ∀ (H1 : Heap) (locs1 : List Loc), Hd G a1 (up3 ρ k i x.toNatClampNeg v) H1 → va_S (gA G) s.heap H1 locs1 → W p l e R s m args below meth c H1 locs1 cells slots Q (F0 m (pc + 1) ls rest)) : W p l e R s m args below meth c H locs cells slots Q (F0 m pc ls (.int v :: .int x :: .ref (adr G a1 k i) :: rest)) := by
  obtain ⟨hx, hb, -, -, -, hown, hts, hK, -⟩ := C
  have ha := hd_arr hH hk hi hr
  rw [ht] at ha
  refine W.iast hx hb ha ((hK.1.2 0 (gc G 0, .int) rfl).1 _ _) (fun q => by cases q) (by rw [arrV_size]; exact hin) rfl rfl hdg fun H1 e1 z oq => ?_
  have hokv : okv (tyk k x.toNatClampNeg) v := by rw [hty]; exact ⟨fun h => absurd h (by decide), fun h => absurd h (by decide)⟩
  obtain ⟨g1, g2⟩ := hd_stw (v := v) hH hS0 hk hk90 hi hr hokv (by rw [ht, e1]) z oq
  exact kk H1 _ g1 g2
end ROWS
