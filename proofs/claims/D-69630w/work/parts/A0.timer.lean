/-! timerOut ~ runOut -/
set_option maxRecDepth 100000
/-- how often a connection may still be woken -/
def cp (τ : St) (i : Nat) : Nat := if (τ 15 i 0) = 0 then 0 else 1 + (9 - ((τ 15 i 23)).toNatClampNeg) + (1 - ((τ 15 i 30)).toNatClampNeg)
theorem RCn.cpe {σ τ : St} {t i : Nat} {c : CK} (h : RCn σ τ t i c) : cp τ i = 1 + (9 - (c 13)) + (1 - (c 17)) := by
  have q1 := h.s1
  have q2 := h.s8
  have q3 := h.tr8
  have q4 := h.d1
  unfold cp
  rw [h.est', h.etr', h.ed', if_neg (nI_ne0 (by omega) (by omega)), cl (by omega), cl (by omega)]
theorem RC0.cpe {σ τ : St} {i : Nat} (h : RC0 σ τ i) : cp τ i = 0 := by unfold cp; rw [if_pos h.2.1]
theorem up3_e {σ : St} {k i j : Nat} {v : Int32} (h : σ k i j = v) : up3 σ k i j v = σ := by
  funext k' i' j'
  rw [up3_g]
  by_cases z : k' = k ∧ i' = i ∧ j' = j
  · rw [if_pos z, z.1, z.2.1, z.2.2, h]
  · rw [if_neg z]
theorem R_rst {σ τ : St} {t l b i hd : Nat} {seq : Int32} (hi : i < 16) (ok : okS σ) (ok' : okS τ) (hN : NB σ τ t l b) (hb : b < 2147480000) (eip : (σ 11 i 3) = (τ 15 i 1)) (ept : (σ 11 i 4) = (τ 15 i 2)) (enx : (σ 11 i 6) = (τ 15 i 36)) (ehd : (σ 12 i 2) = nI hd) (ehd' : mheld τ i hd) (hd4 : hd ≤ 4096) :
    ∃ σ' τ' : St, (∀ Q : St → Prop, Q σ' → w11_segment σ i seq 20 0 0 0 0 Q) ∧ (∀ Q : St → Prop, Q τ' → w15_open τ i (fun r => w14_segmentOut τ ((τ 15 i 1)) 80 ((τ 15 i 2)) seq ((τ 15 i 36)) 20 r 0 0 Q)) ∧ okS σ' ∧ okS τ' ∧ Fr (csF i) σ σ' ∧ Fr (mF [57, 58, 59, 60, 68] [] [(14, [18, 23, 24, 25]), (17, [0, 1, 2, 3, 4, 5])] []) τ τ' ∧ NB σ' τ' t l (b + 4) := by
  obtain ⟨s5, t5, a1, a2, k1, k2, X1, X2, hN5, hC5, hM5⟩ := R_cseg0 (k3 := 0) (i3 := 0) (pl := 0) (n := 0) (hd := hd) (i := i) (seq := seq) (fl := 20) (opt := 0) (sy := false) ok ok' hN hb eip ept enx ehd ehd' hd4 (by decide) ⟨fun _ => rfl, fun _ => by decide⟩ rfl (fun _ => rfl) (by omega) (fun h => absurd h (by omega)) (fun j h => absurd h (by omega))
  have m := a2 (fun s => s = t5) rfl
  unfold mseg at m
  obtain ⟨r, m1, g1⟩ := e15_open hi ok' m
  obtain ⟨s2, m2, k3, F2, g2⟩ := e14_segmentOut ok' m1
  obtain ⟨s3, m3, k4, F3, g3⟩ := e14_pays hi k3 m2
  have F4 : Fr (mF [] [] [(15, [37, 39])] []) s2 s3 := F3.sub (mF_sub rfl sub_nil rfl (sud_c (Or.inl ⟨_, List.mem_of_getElem? (i := 0) rfl, rfl⟩) sud_nil))
  have F5 : Fr (mF [] [] [(15, [37, 39])] []) t5 s2 := fun k i j h => by rw [← m3]; exact (F4 k i j h).symm
  exact ⟨s5, s2, fun Q hQ => a1 Q hQ, fun Q hQ => g1 _ (g2 _ hQ), k1, k3, X1, F2, hN5.f (Fr.rf (M := mF [] [] [] [])) F5⟩
/-- behind a timer's end -/
def TmP (τ : St) (t l b i B : Nat) (σ' τ' : St) : Prop := ArrP t l b i B σ' τ' ∧ cp τ' i + 1 ≤ cp τ i
abbrev ctmo (c : CK) (ss' rt' : Nat) : CK := (cup (cup (cup (cup (cup c 11 ss') 10 (c 9)) 12 rt') 13 ((c 13) + 1)) 3 (c 2))
theorem RCn.tmo {σ τ σ' τ' : St} {t i ss' rt' : Nat} {c : CK} (h : RCn σ τ t i c) (hst : 2 ≤ (c 0)) (htr : (c 13) + 1 ≤ 8) (hss : 2 * (c 9) ≤ ss' ∧ ss' ≤ 40000) (hrt : 1000 ≤ rt' ∧ rt' ≤ 60000)
    (hC : σ' 11 i = (va_up (va_up (va_up (va_up (va_up (va_up (va_up (va_up (σ 11 i) 17 (nI ((c 13) + 1))) 29 0) 16 (nI rt')) 15 (nI ss')) 14 (nI (c 9))) 19 0) 18 0) 10 ((τ 15 i 3) + nI (c 2))))
    (hM : τ' 15 i = (va_up (va_up (va_up (va_up (va_up (va_up (va_up (va_up (τ 15 i) 21 0) 23 (nI ((c 13) + 1))) 12 (nI ss')) 11 (nI (c 9))) 18 0) 24 0) 13 (nI rt')) 5 ((τ 15 i 3) + nI (c 2))))
    (hr : crows σ σ' i) (hr' : mrows τ τ' i) : RCn σ' τ' t i (ctmo c ss' rt') := by
  have q1 := h.ua
  have q2 := h.ax
  have q6 := h.fin
  have q11 := h.ms2
  have n1 : (c 0) = 1 → (c 2) = 0 ∧ (c 2) = 1 ∧ (c 4) = 1 ∧ (c 1) = 1 ∧ (c 5) = 0 ∧ (c 17) = 0 ∧ (c 18) = 0 := fun z => absurd z (by omega)
  have n2 : (c 0) = 1 → (0 : Int32) = 0 ∧ (0 : Int32) = 0 := fun z => absurd z (by omega)
  have n3 : (c 2) ≤ (c 4) := by omega
  have n4 := hss.1
  have n5 : ss' ≤ 65535 := by omega
  have n6 : (c 0) = 4 ∨ (c 0) = 6 → (c 2) = (c 1) + (c 5) + 1 ∧ (0 : Int32) = 0 := fun z => ⟨(q6 z).1, rfl⟩
  have n7 : (0 : Int32) ≠ 0 → 2 ≤ (c 0) → (c 2) < (c 1) + (c 5) + (c 17) := fun z => absurd rfl z
  have n8 : (0 : Int32) ≠ 0 → ∃ tm : Nat, (σ 11 i 30) = nI tm ∧ (τ 15 i 22) = nI tm ∧ t ≤ tm ∧ tm ≤ t + 60000 := fun z => absurd rfl z
  have n9 : (c 9) ≤ 65535 := by omega
  have n10 := hrt.1
  have n11 := hrt.2
  have n12 : (c 2) ≤ (c 2) := Nat.le_refl _
  have n13 : (c 9) ≤ (c 9) := Nat.le_refl _
  obtain ⟨h12, h13, h42, h43, h44, h90⟩ := hr
  obtain ⟨g71, g72, g73, g51⟩ := hr'
  unfold ctmo
  obtain ⟨est, est', s1, s8, eip, ept, eiss, enx, ews, ewa, eun, eun', eat, eat', emx, emx', eba, eba', ua, ax, xe, syn, sy2, bu, bb, ewn, ewn', wn6, ems, ems', ms1, ms2, ecw, ecw', cw1, cw2, ess, ess', ss1, ss2, ert, ert', rt1, rt2, etr, etr', tr8, edu, erc, ehd, ehd', hd4, eft, etd, etd', td4, esk, esk', sk6, eow, efc, efn, eL, ehl, ebl, hL, bml, bmb, bmL, h5, epl, pl6, eab, eal, L6, ed, ed', d1, ef, ef', f1, fst, fin, eto, etm, tin, eti, etn, ets, eme, esr, eac, erow, ethr⟩ := id (h)
  apply RCn.mk <;> (try rw [hC]) <;> (try rw [hM]) <;> (try rw [h12]) <;> (try rw [h13]) <;> (try rw [h42]) <;> (try rw [h43]) <;> (try rw [h44]) <;> (try rw [h90]) <;> (try rw [g71]) <;> (try rw [g72]) <;> (try rw [g73]) <;> (try rw [g51]) <;> (try simp only [vu_g, cup_g, Nat.reduceEqDiff, reduceIte]) <;> (try assumption)
  all_goals first | rfl | (intro _; exact ⟨trivial, trivial⟩) | (intro z; exact ⟨(q6 z).1, trivial⟩)
abbrev csyn (c : CK) (rt' : Nat) : CK := (cup (cup (cup (cup c 10 (c 9)) 12 rt') 13 ((c 13) + 1)) 15 (4096 - (c 14)))
theorem RCn.syn2 {σ τ σ' τ' : St} {t i rt' : Nat} {c : CK} {tm0 : Int32} (h : RCn σ τ t i c) (hst : (c 0) = 1) (htr : (c 13) + 1 ≤ 8) (hrt : 1000 ≤ rt' ∧ rt' ≤ 60000)
    (hC : σ' 11 i = (va_up (va_up (va_up (va_up (va_up (va_up (va_up (va_up (va_up (σ 11 i) 17 (nI ((c 13) + 1))) 29 0) 16 (nI rt')) 34 0) 14 (nI (c 9))) 29 1) 30 (nI t + nI rt')) 21 (nI (4096 - (c 14)))) 22 0))
    (hM : τ' 15 i = (va_up (va_up (va_up (va_up (va_up (va_up (va_up (va_up (va_up (va_up (va_up (va_up (va_up (va_up (va_up (va_up (va_up (τ 15 i) 21 0) 23 (nI ((c 13) + 1))) 11 (nI (c 9))) 18 0) 24 0) 13 (nI rt')) 5 ((τ 15 i 3) + nI (c 2))) 39 0) 37 (nI (4096 - (c 14)))) 17 0) 19 ((τ 15 i 19))) 20 ((τ 15 i 20))) 21 1) 22 tm0) 5 ((τ 15 i 3) + 1)) 21 1) 22 (nI t + nI rt')))
    (hr : crows σ σ' i) (hr' : mrows τ τ' i) : RCn σ' τ' t i (csyn c rt') := by
  have q11 := h.ms2
  have qs := h.syn hst
  have q2 := h.sy2 hst
  have qa : (c 3) = 1 := qs.2.1
  have n1 : (τ 15 i 3) + 1 = (τ 15 i 3) + nI (c 3) := by rw [qa]; rfl
  have n2 : (σ 11 i 18) = 0 := q2.1
  have n3 : (σ 11 i 19) = 0 := q2.2
  have n6 : (c 0) = 4 ∨ (c 0) = 6 → (c 2) = (c 1) + (c 5) + 1 ∧ (1 : Int32) = 0 := fun z => by omega
  have n7 : (1 : Int32) ≠ 0 → 2 ≤ (c 0) → (c 2) < (c 1) + (c 5) + (c 17) := fun _ z => by omega
  have n8 : (1 : Int32) ≠ 0 → ∃ tm : Nat, nI t + nI rt' = nI tm ∧ nI t + nI rt' = nI tm ∧ t ≤ tm ∧ tm ≤ t + 60000 := fun _ => ⟨t + rt', nI_add _ _, nI_add _ _, by omega, by omega⟩
  have n9 : (c 9) ≤ 65535 := by omega
  have n10 := hrt.1
  have n11 := hrt.2
  have n13 : (c 9) ≤ (c 9) := Nat.le_refl _
  have n14 : 4096 - (c 14) ≤ 4096 := Nat.sub_le _ _
  obtain ⟨h12, h13, h42, h43, h44, h90⟩ := hr
  obtain ⟨g71, g72, g73, g51⟩ := hr'
  unfold csyn
  obtain ⟨est, est', s1, s8, eip, ept, eiss, enx, ews, ewa, eun, eun', eat, eat', emx, emx', eba, eba', ua, ax, xe, syn, sy2, bu, bb, ewn, ewn', wn6, ems, ems', ms1, ms2, ecw, ecw', cw1, cw2, ess, ess', ss1, ss2, ert, ert', rt1, rt2, etr, etr', tr8, edu, erc, ehd, ehd', hd4, eft, etd, etd', td4, esk, esk', sk6, eow, efc, efn, eL, ehl, ebl, hL, bml, bmb, bmL, h5, epl, pl6, eab, eal, L6, ed, ed', d1, ef, ef', f1, fst, fin, eto, etm, tin, eti, etn, ets, eme, esr, eac, erow, ethr⟩ := id (h)
  apply RCn.mk <;> (try rw [hC]) <;> (try rw [hM]) <;> (try rw [h12]) <;> (try rw [h13]) <;> (try rw [h42]) <;> (try rw [h43]) <;> (try rw [h44]) <;> (try rw [h90]) <;> (try rw [g71]) <;> (try rw [g72]) <;> (try rw [g73]) <;> (try rw [g51]) <;> (try simp only [vu_g, cup_g, Nat.reduceEqDiff, reduceIte]) <;> (try assumption)
  all_goals rfl
/-- what the model's timer does, ahead of the sending -/
theorem s14_runOut2 {τ : St} {i st tr rt ms u x : Nat} {I : Int32} (ok' : okS τ) (est : (τ 15 i 0) = nI st) (hst : 2 ≤ st) (hst8 : st ≤ 8) (etr : (τ 15 i 23) = nI tr) (htr : tr + 1 ≤ 8) (ert : (τ 15 i 13) = nI rt) (hrt : rt ≤ 60000) (ems : (τ 15 i 10) = nI ms) (hms : ms ≤ 1460) (eun : (τ 15 i 4) = I + nI u) (emx : (τ 15 i 6) = I + nI x) (hux : u ≤ x) (hx : x < 1000000000) :
    ∃ t7 : St, okS t7 ∧ Fr (mF [] [] [] [(15, i, [5, 11, 12, 13, 18, 21, 23, 24])]) τ t7 ∧ t7 15 i = (va_up (va_up (va_up (va_up (va_up (va_up (va_up (va_up (τ 15 i) 21 0) 23 (nI (tr + 1))) 12 (nI (max ((x - u) / 2) (2 * ms)))) 11 (nI ms)) 18 0) 24 0) 13 (nI (min 60000 (2 * rt)))) 5 (I + nI u)) ∧ ∀ Q : St → Prop, ((¬ (t7 15 i 7) = 0 → (w14_one t7 i (imin (t7 15 i 11) (t7 15 i 7)) (fun σ8 => (w14_timerSet σ8 i (fun σ9 => (Q σ9)))))) ∧ ((t7 15 i 7) = 0 → (w14_one t7 i 1 (fun σ10 => (w14_timerSet σ10 i (fun σ11 => (Q σ11))))))) → w14_runOut τ i Q := by
  obtain ⟨t1, d1⟩ : ∃ t1, t1 = up3 τ 15 i 21 0 := ⟨_, rfl⟩
  obtain ⟨t2, d2⟩ : ∃ t2, t2 = up3 t1 15 i 23 (t1 15 i 23 + 1) := ⟨_, rfl⟩
  have R1 : t1 15 i = (va_up (τ 15 i) 21 0) := by rw [d1, up3_r, if_pos ⟨rfl, rfl⟩]
  have R2 : t2 15 i = (va_up (va_up (τ 15 i) 21 0) 23 (nI (tr + 1))) := by
    rw [d2, up3_r, if_pos ⟨rfl, rfl⟩, R1]
    simp only [vu_g, Nat.reduceEqDiff, reduceIte]
    rw [etr, nI_1]
  have v2 : ∀ j, j ≠ 21 → j ≠ 23 → t2 15 i j = τ 15 i j := fun j a b => by rw [R2, vu_g, if_neg b, vu_g, if_neg a]
  obtain ⟨t3, d3⟩ : ∃ t3, t3 = up3 t2 15 i 12 (imax (((t2 15 i 6) - (t2 15 i 4)) / 2) (2 * (t2 15 i 10))) := ⟨_, rfl⟩
  have R3 : t3 15 i = (va_up (va_up (va_up (τ 15 i) 21 0) 23 (nI (tr + 1))) 12 (nI (max ((x - u) / 2) (2 * ms)))) := by
    rw [d3, up3_r, if_pos ⟨rfl, rfl⟩, v2 6 (by decide) (by decide), v2 4 (by decide) (by decide), v2 10 (by decide) (by decide), emx, eun, ems, so_4 _ _ _ hux, show nI (x - u) / 2 = nI ((x - u) / 2) from pk_div (d := 2) (by omega) (by decide) (by decide), show (2 : Int32) * nI ms = nI (2 * ms) from pk_mul 2 _, imax_n (by omega) (by omega), R2]
  obtain ⟨t4, d4⟩ : ∃ t4, t4 = up3 t3 15 i 11 (t3 15 i 10) := ⟨_, rfl⟩
  obtain ⟨t5, d5⟩ : ∃ t5, t5 = up3 t4 15 i 18 0 := ⟨_, rfl⟩
  obtain ⟨t6, d6⟩ : ∃ t6, t6 = up3 t5 15 i 24 0 := ⟨_, rfl⟩
  have R6 : t6 15 i = (va_up (va_up (va_up (va_up (va_up (va_up (τ 15 i) 21 0) 23 (nI (tr + 1))) 12 (nI (max ((x - u) / 2) (2 * ms)))) 11 (nI ms)) 18 0) 24 0) := by
    rw [d6, up3_r, if_pos ⟨rfl, rfl⟩, d5, up3_r, if_pos ⟨rfl, rfl⟩, d4, up3_r, if_pos ⟨rfl, rfl⟩, R3]
    simp only [vu_g, Nat.reduceEqDiff, reduceIte]
    rw [ems]
  have v13 : t6 15 i 13 = nI rt := by rw [R6]; simp only [vu_g, Nat.reduceEqDiff, reduceIte]; exact ert
  obtain ⟨t7, d7⟩ : ∃ t7, t7 = up3 t6 15 i 13 (imin 60000 (2 * (t6 15 i 13))) := ⟨_, rfl⟩
  have R7 : t7 15 i = (va_up (va_up (va_up (va_up (va_up (va_up (va_up (τ 15 i) 21 0) 23 (nI (tr + 1))) 12 (nI (max ((x - u) / 2) (2 * ms)))) 11 (nI ms)) 18 0) 24 0) 13 (nI (min 60000 (2 * rt)))) := by
    rw [d7, up3_r, if_pos ⟨rfl, rfl⟩, v13, show (2 : Int32) * nI rt = nI (2 * rt) from pk_mul 2 _, show imin 60000 (nI (2 * rt)) = nI (min 60000 (2 * rt)) from imin_n (a := 60000) (by omega) (by omega), R6]
  obtain ⟨t8, d8⟩ : ∃ t8, t8 = up3 t7 15 i 5 (t7 15 i 4) := ⟨_, rfl⟩
  have R8 : t8 15 i = (va_up (va_up (va_up (va_up (va_up (va_up (va_up (va_up (τ 15 i) 21 0) 23 (nI (tr + 1))) 12 (nI (max ((x - u) / 2) (2 * ms)))) 11 (nI ms)) 18 0) 24 0) 13 (nI (min 60000 (2 * rt)))) 5 (I + nI u)) := by
    rw [d8, up3_r, if_pos ⟨rfl, rfl⟩, R7]
    simp only [vu_g, Nat.reduceEqDiff, reduceIte]
    rw [eun]
  have n1 : ¬ nI st = 1 := fun z => by have := (nI_eq (b := 1) (by omega) (by omega)).mp z; omega
  have F8 : Fr (mF [] [] [] [(15, i, [5, 11, 12, 13, 18, 21, 23, 24])]) τ t8 := by
    rw [d8, d7, d6, d5, d4, d3, d2, d1]
    exact (((((((fr_u (by simp [mF])).up (by simp [mF])).up (by simp [mF])).up (by simp [mF])).up (by simp [mF])).up (by simp [mF])).up (by simp [mF])).up (by simp [mF])
  have k8 : okS t8 := by
    rw [d8, d7, d6, d5, d4, d3, d2, d1]
    exact ok_n (ok_n (ok_n (ok_z (ok_n (ok_n (ok_n (ok_z ok' rfl (Or.inl rfl)) rfl) rfl) rfl) rfl (Or.inl rfl)) rfl) rfl) rfl
  refine ⟨t8, k8, F8, R8, fun Q hq s1 e1 s2 e2 => ?_⟩
  obtain rfl := e1.trans d1.symm
  obtain rfl := e2.trans d2.symm
  have w0 : s2 15 i 0 = nI st := (v2 0 (by decide) (by decide)).trans est
  have w23 : s2 15 i 23 = nI (tr + 1) := by rw [R2]; simp only [vu_g, Nat.reduceEqDiff, reduceIte]
  refine br_v (by rw [w0]; exact n1) (br_t (by rw [w23]; exact nI_le (b := 8) htr (by omega)) (br_f (by rw [w0]; exact n1) (fun s14 e14 => ?_)))
  obtain rfl := e14.trans d3.symm
  intro s3 e3
  obtain rfl := e3.trans d4.symm
  intro s4 e4
  obtain rfl := e4.trans d5.symm
  intro s5 e5
  obtain rfl := e5.trans d6.symm
  intro s6 e6
  obtain rfl := e6.trans d7.symm
  intro s7 e7
  obtain rfl := e7.trans d8.symm
  have w8 : s7 15 i 0 = nI st := by rw [R8]; simp only [vu_g, Nat.reduceEqDiff, reduceIte]; exact est
  exact br_v (by rw [w8]; exact n1) hq
