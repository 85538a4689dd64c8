/-! sending a part of the answer: the model's way, and side by side -/
set_option maxRecDepth 100000
/-- the model's bytes to be sent -/
def dat (τ : St) (i h p : Nat) (j : Nat) : Int32 := if j < h then τ 71 i j else τ 51 0 (p + (j - h))
theorem s14_dataOut_L3 {i b h p fo n L : Nat} {I x4 : Int32} {Q K : St → Prop} (hbb : b + L < 1000000000) (hn : n ≤ 1460) (hfo : b ≤ fo) (hfn : fo + n ≤ b + L) (hhL : h ≤ L) (h5 : h ≤ 512) (hp : p + (L - h) ≤ 65535) : ∀ (m j : Nat) (σ : St), j + m = n → (σ 15 i 26) = nI h → (σ 15 i 29) = I + nI b → (σ 15 i 27) = nI p → K (row3 σ 57 0 (va_cpy (dat σ i h p) (σ 57 0) (fo - b + j) (54 + j) m)) → w14_dataOut_L3 i (I + nI fo) (nI n) x4 Q K (m + 1) σ (nI j) := by
  intro m
  induction m with
  | zero =>
    intro j σ hj e1 e2 e3 hK
    rw [cpy_0, row3_self] at hK
    exact br_t (nI_le (by omega) (by omega)) hK
  | succ m ih =>
    intro j σ hj e1 e2 e3 hK
    refine br_f (nI_ge (by omega) (by omega)) ?_
    have go : ∀ r : Int32, by8 r → r = dat σ i h p (fo - b + j) → (vp_in (54 + nI j) 1514 ∧ (∀ σ2, σ2 = up3 σ 57 0 (54 + nI j).toNatClampNeg r.toInt8.toInt32 → (w14_dataOut_L3 i (I + nI fo) (nI n) x4 Q K (m + 1) σ2 (nI j + 1)))) := by
      intro r hb hr
      rw [show (54 : Int32) + nI j = nI (54 + j) from nI_add 54 j]
      refine ⟨vin (by omega) (by omega), fun s2 es2 => ?_⟩
      rw [cl (by omega), show r.toInt8.toInt32 = r from hb, hr, up3_as] at es2
      rw [nI_1]
      have ed : dat s2 i h p = dat σ i h p := by
        funext a
        unfold dat
        rw [es2, row3_o (by omega), row3_o (by omega)]
      refine ih (j + 1) s2 (by omega) ?_ ?_ ?_ ?_
      · rw [es2, row3_g, if_neg (by omega)]; exact e1
      · rw [es2, row3_g, if_neg (by omega)]; exact e2
      · rw [es2, row3_g, if_neg (by omega)]; exact e3
      · rw [ed, es2, row3_s, row3_row3, ← Nat.add_assoc, ← Nat.add_assoc, cpy_s]
        exact hK
    unfold w14_toSend
    have ek : (I + nI fo) + nI j - (σ 15 i 29) = nI (fo - b + j) := by
      rw [e2, so_5, so_4 _ _ _ (by omega)]
      congr 1
      omega
    rw [ek, e1, e3]
    by_cases c : h ≤ fo - b + j
    · refine br_t (nI_le c (by omega)) ?_
      rw [nI_add, pk_sub (by omega)]
      refine ⟨vin (by omega) (by omega), fun hb => ⟨hb, ?_⟩⟩
      refine go _ hb ?_
      unfold dat
      rw [if_neg (by omega), cl (by omega)]
      congr 1
      omega
    · refine br_f (nI_ge (by omega) (by omega)) ⟨vin (by omega) (by omega), fun hb => ⟨hb, ?_⟩⟩
      refine go _ hb ?_
      unfold dat
      rw [if_pos (by omega), cl (by omega)]
theorem s14_dataOut {τ : St} {i b h p fo n L fi st ms : Nat} {I : Int32} {Q : St → Prop} (hbb : b + L < 1000000000) (hn : n ≤ 1460) (hfo : b ≤ fo) (hfn : fo + n ≤ b + L) (hhL : h ≤ L) (h5 : h ≤ 512) (hp : p + (L - h) ≤ 65535) (hfi : fi ≤ 1) (e1 : (τ 15 i 26) = nI h) (e1' : (τ 15 i 28) = nI (L - h)) (e2 : (τ 15 i 29) = I + nI b) (e3 : (τ 15 i 27) = nI p) (est : (τ 15 i 0) = nI st) (hst : st ≠ 1 ∧ st ≠ 4 ∧ st ≠ 6) (hst8 : st ≤ 8) (ems : (τ 15 i 10) = nI ms) (hms : n ≤ ms) (hms2 : ms ≤ 1460)
    (hq : w14_dataOut_J113 (row3 τ 57 0 (va_cpy (dat τ i h p) (τ 57 0) (fo - b) 54 n)) i (I + nI fo) (nI n) (nI fi) (pfl (0 < n ∧ fo + n = b + L) fi) Q) : w14_dataOut τ i (I + nI fo) (nI n) (nI fi) Q := by
  refine ⟨n + 1, s14_dataOut_L3 hbb hn hfo hfn hhL h5 hp n 0 τ (by omega) e1 e2 e3 ?_⟩
  rw [Nat.add_zero, Nat.add_zero]
  generalize ht2 : row3 τ 57 0 (va_cpy (dat τ i h p) (τ 57 0) (fo - b) 54 n) = t2 at hq
  have g : ∀ f, t2 15 i f = τ 15 i f := fun f => by rw [← ht2, row3_g, if_neg (by omega)]
  have j67 : ∀ x0 x1 : Int32, x1 ||| x0 = pfl (0 < n ∧ fo + n = b + L) fi → w14_dataOut_J67 t2 i (I + nI fo) (nI n) (nI fi) x0 x1 Q := by
    intro x0 x1 hx
    unfold w14_dataOut_J67
    rw [hx, g, est, g, ems]
    have ne : ∀ k : Nat, k ≤ 8 → st ≠ k → ¬ nI st = nI k := fun k hk h z => h ((nI_eq (by omega) (by omega)).mp z)
    exact br_f (ne 1 (by omega) hst.1) (br_f (ne 6 (by omega) hst.2.2) (br_f (ne 4 (by omega) hst.2.1) (br_t (nI_le hms (by omega)) hq)))
  have nof : ¬ (0 < n ∧ fo + n = b + L) → ((nI fi = 0 → w14_dataOut_J67 t2 i (I + nI fo) (nI n) (nI fi) 0 (16 ||| 0) Q) ∧ (¬ nI fi = 0 → w14_dataOut_J67 t2 i (I + nI fo) (nI n) (nI fi) 1 (16 ||| 0) Q)) := by
    intro hn
    by_cases c1 : fi = 0
    · exact br_t (by rw [c1]; rfl) (j67 _ _ (by unfold pfl; rw [if_neg hn, if_pos c1]; decide))
    · exact br_f (nI_ne0 (by omega) (by omega)) (j67 _ _ (by unfold pfl; rw [if_neg hn, if_neg c1]; decide))
  by_cases c0 : n = 0
  · exact br_t (by rw [c0]; decide) (nof (by omega))
  · refine br_f (nI_nle (by omega) (by omega)) ?_
    unfold w15_behind
    rw [g, g, g, e1, e1', e2, so_5, so_5, so_5, show b + (h + (L - h)) = b + L by omega]
    dsimp only
    have e9 := so_9 I (a := fo + n) (b := b + L) (by omega) (by omega)
    by_cases c2 : fo + n = b + L
    · refine br_u (e9.mpr c2) ?_
      by_cases c1 : fi = 0
      · exact br_t (by rw [c1]; rfl) (j67 _ _ (by unfold pfl; rw [if_pos ⟨by omega, c2⟩, if_pos c1]; decide))
      · exact br_f (nI_ne0 (by omega) (by omega)) (j67 _ _ (by unfold pfl; rw [if_pos ⟨by omega, c2⟩, if_neg c1]; decide))
    · exact br_v (fun z => c2 (e9.mp z)) (nof (fun z => c2 z.2))
theorem RK.agn {σ τ σ' τ' : St} {g : Int32} (h : RK σ τ) (a0 : (σ' 0 0 13) = (σ 0 0 13)) (a1 : (σ' 6 0 2) = (σ 6 0 2)) (a8 : ∀ j, j ≠ 4 → σ' 8 0 j = σ 8 0 j) (b8 : ∀ j, j ≠ 3 → τ' 56 0 j = τ 56 0 j) (e : σ' 8 0 4 = if g = 0 then σ 8 0 4 else σ 8 0 4 + 1) (e' : τ' 56 0 3 = if g = 0 then τ 56 0 3 else τ 56 0 3 + 1) : RK σ' τ' := by
  obtain ⟨h0, h1, h2, h3, h4, h5, h6, h7⟩ := h
  unfold RK
  rw [a0, a1, e, e', a8 3 (by decide), a8 5 (by decide), a8 6 (by decide), a8 7 (by decide), a8 8 (by decide), b8 0 (by decide), b8 1 (by decide), b8 2 (by decide), b8 4 (by decide), b8 5 (by decide), b8 6 (by decide), b8 7 (by decide), h3]
  exact ⟨h0, h1, h2, rfl, h4, h5, h6, h7⟩

abbrev rpF (i : Nat) : Nat → Nat → Nat → Bool := mF [23, 25, 26, 32, 35, 36] [] [(2, [3]), (3, [9]), (4, [0, 1, 2, 4]), (5, [2]), (8, [4])] [(11, i, [2, 10, 11, 21, 22, 28, 29, 30, 33, 34, 36, 37])]
abbrev rpG (i : Nat) : Nat → Nat → Nat → Bool := mF [56, 57, 58, 59, 60, 68] [] [(14, [18, 23, 24, 25]), (17, [0, 1, 2, 3, 4, 5])] [(15, i, [0, 5, 6, 17, 19, 20, 21, 22, 31, 37, 39])]
/-- behind a part: what is said of the component's row -/
def PartP (σ τ : St) (t l b i : Nat) (c : CK) (dn fi : Nat) (σ' τ' : St) : Prop := NB σ' τ' t l (b + 4) ∧ RK σ' τ' ∧ RCn σ' τ' t i (cpart c dn fi) ∧ (σ' 11 i 33) = (if fi = 1 ∧ (c 18) = 0 then 0 else (σ 11 i 33)) ∧ (σ' 11 i 22) = 0 ∧ ((τ 15 i 21) = 0 → (τ' 15 i 22) = nI t + nI (c 12) ∧ (τ' 15 i 21) = 1)
theorem R_part {σ τ : St} {t l b i dn fi : Nat} {c : CK} (hi : i < 16) (ok : okS σ) (ok' : okS τ) (hN : NB σ τ t l b) (hb : b < 2147480000) (hK : RK σ τ) (h : RCn σ τ t i c) (hst : 2 ≤ (c 0)) (hst4 : (c 0) ≠ 4 ∧ (c 0) ≠ 6) (hfi : fi ≤ 1) (hn1 : 1 ≤ dn + fi) (hdn : (c 3) + dn ≤ (c 1) + (c 5)) (hdm : dn ≤ (c 9)) (hfd : fi = 1 → (c 17) = 1 ∧ (c 3) + dn = (c 1) + (c 5)) :
    RunV σ τ (w11_sendPart σ i (nI (dn + fi))) (w14_one_J36 τ i (nI dn) (nI fi)) (rpF i) (rpG i) (PartP σ τ t l b i c dn fi) := by
  have q1 := h.ua
  have q2 := h.ax
  have q3 := h.xe
  have q4 := h.bu hst
  have q5 := h.fst
  have q6 := h.f1
  have q7 := h.d1
  have q8 := h.s8
  have q9 := h.bb
  have q10 := h.ms2
  have q11 := h.hL
  have q12 := h.h5
  have q13 := h.pl6
  have q14 := h.bml
  have q15 := h.bmb
  have q16 := h.bmL
  have hst27 : (c 18) = 0 → (c 0) = 2 ∨ (c 0) = 7 := by
    intro z
    have : ¬ (c 18) = 1 := by omega
    have := fun q => this (q5.mpr q)
    omega
  obtain ⟨s0, o0, n1, n2, n3, nl, n4, n5, n6⟩ := id hN
  have now1 : (σ 2 0 4) = nI t := n1.2.1.1
  have now2 : (τ 14 0 10) = nI t := n1.2.1.2.1
  generalize ht2 : row3 τ 57 0 (va_cpy (dat τ i (c 6) (c 7)) (τ 57 0) ((c 3) - (c 19)) 54 dn) = t2
  have ft2 : Fr (mF [57] [] [] []) τ t2 := by rw [← ht2]; exact fr_r (fun _ => rfl)
  have bdat : ∀ j, by8 (dat τ i (c 6) (c 7) j) := by
    intro j
    unfold dat
    split
    · exact ok_by ok' (tyk_a 71 2 (by decide) (by decide)) j
    · exact ok_by ok' (tyk_a 51 2 (by decide) (by decide)) _
  have okt2 : okS t2 := by
    rw [← ht2]
    exact ok_rowb ok' (tyk_a 57 2 (by decide) (by decide)) (by_cpy bdat (fun j => ok_by ok' (tyk_a 57 2 (by decide) (by decide)) j))
  have hj : w11_sendPart σ i (nI (dn + fi)) (fun σ' => w14_one_J36 τ i (nI dn) (nI fi) (fun τ' => PartP σ τ t l b i c dn fi σ' τ')) := by
    refine s11_sendPart (I := (τ 15 i 3)) (c := c) ok hfi hdn (fun z => (hfd z).2) q9 (by omega) (by omega) (by omega) q8 h.est h.eat h.emx h.eba h.eL h.ef (fun s4 ok4 f4 h84 hr4 => ?_)
    have f4' : Fr (mF [] [] [(8, [4]), (11, [2, 10, 11, 28, 29, 30, 33, 34, 36, 37])] []) σ s4 := f4.sub (mF_sub rfl sub_nil rfl (sud_c (Or.inl ⟨_, List.mem_of_getElem? (i := 1) rfl, rfl⟩) sud_nil))
    have hN4 : NB s4 t2 t l b := hN.f f4' ft2
    have al44 : 0 < dn → alen s4 44 i = 66047 := by
      intro z
      have e := h.eal (by omega)
      have : s4 90 (i + 1) 0 = 66047 := by rw [f4' _ _ _ rfl]; exact e
      unfold alen
      rw [if_neg (by decide), if_pos rfl, this]
      rfl
    have ab44 : abc 44 i = true := by
      have : i = 0 ∨ i = 1 ∨ i = 2 ∨ i = 3 ∨ i = 4 ∨ i = 5 ∨ i = 6 ∨ i = 7 ∨ i = 8 ∨ i = 9 ∨ i = 10 ∨ i = 11 ∨ i = 12 ∨ i = 13 ∨ i = 14 ∨ i = 15 := by omega
      rcases this with z | z | z | z | z | z | z | z | z | z | z | z | z | z | z | z <;> rw [z] <;> rfl
    have qL6 := h.L6
    have m2 : mheld t2 i (c 14) := by
      unfold mheld
      rw [ft2 _ _ _ rfl, ft2 _ _ _ rfl, ft2 _ _ _ rfl]
      exact h.ehd'
    obtain ⟨s5, t5, g1, g2, k1, k2, x1, x2, h3, hC5, hM5⟩ := R_cseg0 (k3 := 44) (i3 := i) (pl := (c 3) - (c 1)) (n := dn) (hd := (c 14)) (seq := (τ 15 i 3) + nI (c 3)) (fl := pfl (0 < dn ∧ (c 3) + dn = (c 1) + (c 5)) fi) (opt := 0) (sy := false) ok4 okt2 hN4 hb (by rw [f4' _ _ _ rfl, ft2 _ _ _ rfl]; exact h.eip) (by rw [f4' _ _ _ rfl, ft2 _ _ _ rfl]; exact h.ept) (by rw [f4' _ _ _ rfl, ft2 _ _ _ rfl]; exact h.enx) (by rw [f4' _ _ _ rfl]; exact h.ehd) m2 h.hd4 pfl16 ⟨fun _ => rfl, fun _ => pfl2⟩ rfl (fun z => absurd z (by decide)) (by omega) (fun z => ⟨ab44, by decide, by rw [al44 z]; omega, by omega⟩) (fun j hj => by
      rw [f4' _ _ _ rfl, ← ht2, row3_s, pk_cpy_in (by omega) (by omega), h.eab _ (by omega) (by omega), show (c 3) - (c 19) + (54 + j - 54) = (c 3) - (c 1) + j by omega]
      rfl)
    refine g1 _ ?_
    -- the model
    unfold w14_one_J36
    rw [h.eat']
    refine s14_dataOut (b := (c 19)) (h := (c 6)) (p := (c 7)) (L := (c 20)) (st := (c 0)) (ms := (c 9)) (by omega) (by omega) (by omega) (by omega) q11 q12 q13 hfi h.ehl h.ebl h.eba' h.epl h.est' ⟨by omega, by omega, by omega⟩ q8 h.ems' hdm q10 ?_
    rw [ht2, q14]
    refine g2 _ ?_
    have r56 : t5 15 i 6 = (τ 15 i 6) := by rw [hM5]; simp only [vu_g, Nat.reduceEqDiff, reduceIte]; exact ft2 _ _ _ rfl
    refine s14_noted (g := agn (c 3) (c 4)) k2 (by rw [r56, h.emx']; exact agn_i (by omega) (by omega)) (fun t6 f6 okt6 h56 hr6 => ?_)
    have r2 : t2 15 i = τ 15 i := ft2.row fun _ => rfl
    rw [r2] at hM5
    have v17 : t5 15 i 17 = (τ 15 i 17) := by rw [hM5]; simp only [vu_g, Nat.reduceEqDiff, reduceIte]
    have v19 : t5 15 i 19 = (τ 15 i 19) := by rw [hM5]; simp only [vu_g, Nat.reduceEqDiff, reduceIte]
    have v20 : t5 15 i 20 = (τ 15 i 20) := by rw [hM5]; simp only [vu_g, Nat.reduceEqDiff, reduceIte]
    have v21 : t5 15 i 21 = (τ 15 i 21) := by rw [hM5]; simp only [vu_g, Nat.reduceEqDiff, reduceIte]
    have v22 : t5 15 i 22 = (τ 15 i 22) := by rw [hM5]; simp only [vu_g, Nat.reduceEqDiff, reduceIte]
    have v13 : t5 15 i 13 = (τ 15 i 13) := by rw [hM5]; simp only [vu_g, Nat.reduceEqDiff, reduceIte]
    have v10 : t5 14 0 10 = (τ 14 0 10) := (x2 _ _ _ (by simp [mF])).trans (ft2 _ _ _ rfl)
    rw [v17, v19, v20, v21, v22, v13, v10, hM5] at hr6
    -- the end: where it is now
    have fin : ∀ t7 : St, okS t7 → Fr (mF [] [] [] [(15, i, [0, 31])]) t6 t7 → t7 15 i = (va_up (va_up (t6 15 i) 31 (nI (max (c 18) fi))) 0 (nI (if fi = 1 ∧ (c 18) = 0 then (if (c 0) = 7 then 8 else 3) else (c 0)))) → w14_one_J69 t7 i (nI fi) (((τ 15 i 3) + nI (c 3)) + nI dn) i (fun τ' => PartP σ τ t l b i c dn fi s5 τ') := by
      intro t7 okt7 f7 hr7 t8 e8
      rw [so_5, so_5, ← Nat.add_assoc] at e8
      have w5 : t8 15 i 5 = (τ 15 i 3) + nI ((c 3) + dn + fi) := by rw [e8, up3_g, if_pos ⟨rfl, rfl, rfl⟩]
      have w6 : t8 15 i 6 = (τ 15 i 3) + nI (c 4) := by
        rw [e8, up3_g, if_neg (by omega), hr7, hr6]
        simp only [vu_g, Nat.reduceEqDiff, reduceIte]
        exact h.emx'
      rw [w5, w6]
      have okt8 : okS t8 := by rw [e8]; exact ok_n okt7 rfl
      -- the post
      have post : ∀ t9 : St, okS t9 → Fr (mF [] [] [] [(15, i, [6])]) t8 t9 → t9 15 i = va_up (t8 15 i) 6 ((τ 15 i 3) + nI (max (c 4) ((c 3) + dn + fi))) → PartP σ τ t l b i c dn fi s5 t9 := by
        intro t9 okt9 f9 hr9
        have F59 : Fr (mF [] [] [(56, [3]), (15, [0, 5, 6, 17, 19, 20, 21, 22, 31])] []) t5 t9 := by
          refine (f6.sub (mF_sub rfl sub_nil rfl (sud_c (Or.inl ⟨_, List.mem_of_getElem? (i := 1) rfl, rfl⟩) sud_nil))).tr ((f7.sub (mF_sub rfl sub_nil rfl (sud_c (Or.inl ⟨_, List.mem_of_getElem? (i := 1) rfl, rfl⟩) sud_nil))).tr ?_)
          refine Fr.tr ?_ (f9.sub (mF_sub rfl sub_nil rfl (sud_c (Or.inl ⟨_, List.mem_of_getElem? (i := 1) rfl, rfl⟩) sud_nil)))
          rw [e8]
          exact fr_u rfl
        have fC : crows σ s5 i := by
          have a := crows.f (i := i) f4'
          have b := crows.f (i := i) x1
          exact ⟨b.1.trans a.1, b.2.1.trans a.2.1, b.2.2.1.trans a.2.2.1, b.2.2.2.1.trans a.2.2.2.1, b.2.2.2.2.1.trans a.2.2.2.2.1, b.2.2.2.2.2.trans a.2.2.2.2.2⟩
        have fM : mrows τ t9 i := by
          have a := mrows.f (i := i) ft2
          have b := mrows.f (i := i) x2
          have d := mrows.f (i := i) F59
          exact ⟨d.1.trans (b.1.trans a.1), d.2.1.trans (b.2.1.trans a.2.1), d.2.2.1.trans (b.2.2.1.trans a.2.2.1), d.2.2.2.trans (b.2.2.2.trans a.2.2.2)⟩
        have hCrow : s5 11 i = (va_up (va_up (prow (σ 11 i) ((τ 15 i 3)) (agn (c 3) (c 4)) (nI t) (nI (c 12)) c dn fi) 21 (nI (4096 - (c 14)))) 22 0) := by rw [hC5, hr4, now1, h.ert]
        have hMrow : t9 15 i = (va_up (va_up (va_up (va_up (va_up (va_up (va_up (va_up (va_up (va_up (va_up (τ 15 i) 39 0) 37 (nI (4096 - (c 14)))) 17 (tgv (agn (c 3) (c 4)) ((τ 15 i 17)))) 19 (keepv (agn (c 3) (c 4)) ((τ 15 i 17)) ((τ 15 i 19)) ((τ 15 i 3) + nI (c 3)))) 20 (keepv (agn (c 3) (c 4)) ((τ 15 i 17)) ((τ 15 i 20)) (nI t))) 21 1) 22 (offv ((τ 15 i 21)) ((τ 15 i 22)) (nI t + nI (c 12)))) 31 (nI (max (c 18) fi))) 0 (nI (if fi = 1 ∧ (c 18) = 0 then (if (c 0) = 7 then 8 else 3) else (c 0)))) 5 ((τ 15 i 3) + nI ((c 3) + dn + fi))) 6 ((τ 15 i 3) + nI (max (c 4) ((c 3) + dn + fi)))) := by
          rw [hr9, e8, up3_r, if_pos ⟨rfl, rfl⟩, hr7, hr6, now2, h.ert']
        refine ⟨h3.f (Fr.rf (M := mF [] [] [] [])) F59, ?_, ?_, ?_, ?_, fun z => ?_⟩
        · refine RK.agn (g := agn (c 3) (c 4)) hK ?_ ?_ (fun j hj => ?_) (fun j hj => ?_) ?_ ?_
          · exact (x1 _ _ _ (by simp [mF])).trans (f4' _ _ _ rfl)
          · exact (x1 _ _ _ (by simp [mF])).trans (f4' _ _ _ rfl)
          · exact (x1 _ _ _ (by simp [mF])).trans (f4' _ _ _ (by simp [mF, hj]))
          · exact (F59 _ _ _ (by simp [mF, hj])).trans ((x2 _ _ _ (by simp [mF])).trans (ft2 _ _ _ rfl))
          · rw [x1 _ _ _ (by simp [mF])]; exact h84
          · have e6 : t9 56 0 3 = t6 56 0 3 := by
              rw [f9 _ _ _ (by simp [mF]), e8, up3_g, if_neg (by omega), f7 _ _ _ (by simp [mF])]
            rw [e6, h56, x2 _ _ _ (by simp [mF]), ft2 _ _ _ rfl]
        · refine h.part hst hst4 hfi hn1 hdn hfd hCrow hMrow fC fM rfl ?_ ?_ ?_
          · unfold keepv
            rw [h.eti, h.etn]
          · obtain ⟨z, z1, z2, z3⟩ := h.ets
            unfold keepv
            rw [h.eti]
            by_cases c1 : agn (c 3) (c 4) = 0 ∧ (τ 15 i 17) = 0
            · rw [if_pos c1, if_pos c1]; exact ⟨t, rfl, rfl, Nat.le_refl _⟩
            · rw [if_neg c1, if_neg c1]; exact ⟨z, z1, z2, z3⟩
          · unfold offv
            have := h.rt2
            by_cases c1 : (τ 15 i 21) = 0
            · rw [h.eto, if_pos c1, if_pos c1, nI_add]
              exact ⟨t + (c 12), rfl, rfl, by omega, by omega⟩
            · obtain ⟨z, z1, z2, z3⟩ := h.etm (by rw [h.eto]; exact c1)
              rw [h.eto, if_neg c1, if_neg c1]
              exact ⟨z, z1, z2, z3⟩
        · rw [hCrow]
          simp only [vu_g, Nat.reduceEqDiff, reduceIte]
        · rw [hCrow]
          simp only [vu_g, Nat.reduceEqDiff, reduceIte]
        · rw [hMrow]
          unfold offv
          rw [if_pos z]
          simp only [vu_g, Nat.reduceEqDiff, reduceIte]
          exact ⟨trivial, trivial⟩
      have ecmp : 0 ≤ ((τ 15 i 3) + nI (c 4)) - ((τ 15 i 3) + nI ((c 3) + dn + fi)) ↔ ¬ (c 4) < (c 3) + dn + fi := by
        rw [← Int32.not_lt, so_7 _ (by omega) (by omega)]
      by_cases c1 : (c 4) < (c 3) + dn + fi
      · refine br_f (fun z => (ecmp.mp z) c1) (br_f (by decide) (fun t9 e9 => post t9 (by rw [e9]; exact ok_n okt8 rfl) (by rw [e9]; exact fr_u (by simp [mF])) ?_))
        rw [e9, up3_r, if_pos ⟨rfl, rfl⟩, Nat.max_eq_right (by omega)]
      · refine br_t (ecmp.mpr c1) (br_t rfl (post t8 okt8 Fr.rf ?_))
        rw [Nat.max_eq_left (by omega), vu_eq w6]
    have last : ∀ t7 : St, w14_one_J69 t7 i (nI fi) (((τ 15 i 3) + nI (c 3)) + nI dn) i (fun τ' => PartP σ τ t l b i c dn fi s5 τ') → ((nI fi = 0 → (w14_one_J69 t7 i 0 (((τ 15 i 3) + nI (c 3)) + nI dn) i (fun τ' => PartP σ τ t l b i c dn fi s5 τ'))) ∧ (¬ nI fi = 0 → (w14_one_J69 t7 i 1 (((τ 15 i 3) + nI (c 3)) + nI dn) i (fun τ' => PartP σ τ t l b i c dn fi s5 τ')))) := by
      intro t7 hw
      by_cases c1 : fi = 0
      · rw [c1] at hw ⊢; exact br_t rfl hw
      · have : fi = 1 := by omega
        rw [this] at hw ⊢; exact br_f (by decide) hw
    have u31 : t6 15 i 31 = nI (c 18) := by rw [hr6]; simp only [vu_g, Nat.reduceEqDiff, reduceIte]; exact h.ef'
    have u0 : t6 15 i 0 = nI (c 0) := by rw [hr6]; simp only [vu_g, Nat.reduceEqDiff, reduceIte]; exact h.est'
    have same : ¬ (fi = 1 ∧ (c 18) = 0) → w14_one_J69 t6 i (nI fi) (((τ 15 i 3) + nI (c 3)) + nI dn) i (fun τ' => PartP σ τ t l b i c dn fi s5 τ') := by
      intro hn
      refine fin t6 okt6 Fr.rf ?_
      rw [if_neg hn, show max (c 18) fi = (c 18) by omega, vu_eq u31, vu_eq u0]
    by_cases c1 : fi = 0
    · exact br_t (by rw [c1]; rfl) (last t6 (same (by omega)))
    · have c1' : fi = 1 := by omega
      refine br_f (nI_ne0 (by omega) (by omega)) (fun _ => ?_)
      rw [u31]
      by_cases c2 : (c 18) = 0
      · refine br_u (by rw [c2]; rfl) (fun t10 e10 => ?_)
        have u10 : t10 15 i 0 = nI (c 0) := by rw [e10, up3_g, if_neg (by omega)]; exact u0
        rw [u10]
        have go : ∀ v : Nat, (if (c 0) = 7 then 8 else 3) = v → w14_one_J69 (up3 t10 15 i 0 (nI v)) i (nI fi) (((τ 15 i 3) + nI (c 3)) + nI dn) i (fun τ' => PartP σ τ t l b i c dn fi s5 τ') := by
          intro v hv
          refine fin _ ?_ ?_ ?_
          · rw [e10]; exact ok_n (ok_z okt6 rfl (Or.inr rfl)) rfl
          · rw [e10]; exact (fr_u (by simp [mF])).up (by simp [mF])
          · rw [up3_r, if_pos ⟨rfl, rfl⟩, e10, up3_r, if_pos ⟨rfl, rfl⟩, if_pos ⟨c1', c2⟩, hv, c1', c2]
            rfl
        rcases hst27 c2 with z | z
        · exact br_u (by rw [z]; rfl) (fun t12 e12 => by rw [e12]; exact last _ (go 3 (by rw [if_neg (by omega)])))
        · exact br_v (by rw [z]; decide) (fun t11 e11 => by rw [e11]; exact last _ (go 8 (by rw [if_pos z])))
      · have c2' : (c 18) = 1 := by omega
        exact br_v (by rw [c2']; decide) (last t6 (same (by omega)))
  obtain ⟨σ', h, k1, f1, g1⟩ := e11_sendPart hi ok hj
  obtain ⟨τ', h, k2, f2, g2⟩ := e14_one_J36 hi ok' h
  exact ⟨σ', τ', g1, g2, k1, k2, f1, f2, h⟩
