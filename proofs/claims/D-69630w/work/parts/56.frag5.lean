/-! fragments: finding or beginning one -/
set_option maxRecDepth 100000
theorem NB.ord {σ τ σ' τ' : St} {t l b l' : Nat} {o : Nat} (h : NB σ τ t l b) (ho : (τ 14 0 25) = nI o) (hlt : o < 2147480000) (hb : b < 2147480000) (f1 : Fr (mF [37, 38, 39] [] [(6, [1, 2]), (7, [0, 1, 2, 3, 6, 7])] []) σ σ') (f2 : Fr (mF [64, 69, 70] [] [(14, [25, 30]), (18, [0, 1, 2, 3, 4, 5, 6]), (56, [1])] []) τ τ') (h25 : (τ' 14 0 25) = nI (o + 1)) (hl' : l' ≤ o + 1) (hob : o + 1 ≤ b + 1) : NB σ' τ' t l' (b + 1) := by
  obtain ⟨s, o', ⟨hM, hV, hH, hW, hA, hP⟩, h2, h3, hl, h4, h5, h6⟩ := h
  have e : o' = o := by
    obtain ⟨w, q, r, hX⟩ := hW.x
    have := hX.2.2.1
    rw [ho] at this
    exact ((nI_eq (by omega) (by omega)).mp this).symm
  subst e
  obtain ⟨w, q, r, w1, w2, w3, w4, w5, w6, w7, w8⟩ := hW.x
  have e17 : τ' 17 = τ 17 := f2.kind fun _ _ => rfl
  have hW' : RW σ' τ' t (o' + 1) := by
    refine ⟨w, w1, by rw [f1 _ _ _ rfl]; exact w2, h25, by rw [e17]; exact w4, q, r, fun k hk => ?_, w6, by rw [e17]; exact w7, by rw [e17]; exact w8⟩
    obtain ⟨a1, a2, a3, a4, a5⟩ := w5 k hk
    rw [e17, hrw_c (f1.row fun _ => rfl)]
    exact ⟨a1, a2, a3, by omega, a5.c (f1.row fun _ => rfl) (f1.row fun _ => rfl) (f2.row fun _ => rfl) (f2.row fun _ => rfl)⟩
  refine ⟨s, o' + 1, ⟨hM.c (f1 _ _ _ rfl) (f1 _ _ _ rfl) (f1 _ _ _ rfl) (f1 _ _ _ rfl) (f1 _ _ _ rfl) (f1 _ _ _ rfl) (f1.row fun _ => rfl) (f2 _ _ _ rfl) (f2 _ _ _ rfl) (f2 _ _ _ rfl) (f2 _ _ _ rfl) (f2 _ _ _ rfl), hV.c (f1 _ _ _ rfl) (f1 _ _ _ rfl) (f1.kind fun _ _ => rfl) (f1.row fun _ => rfl) (f1.row fun _ => rfl) (f2 _ _ _ rfl) (f2 _ _ _ rfl) (f2.row fun _ => rfl) (f2.row fun _ => rfl) (f2.row fun _ => rfl), hH.c (f1 _ _ _ rfl) (f1.row fun _ => rfl) (f1.row fun _ => rfl) (f1.row fun _ => rfl) (f2.kind fun _ _ => rfl), hW', hA.c (f1.row fun _ => rfl) (f1.row fun _ => rfl), hP.c (f1.row fun _ => rfl)⟩, by rw [f1 _ _ _ rfl, f2 _ _ _ rfl]; exact h2, by rw [WS_c e17]; omega, hl', by omega, by rw [f2 _ _ _ rfl]; exact h5, h6⟩
theorem s7_begin {σ : St} {o0 : Nat} {x1 x2 x3 x4 : Int32} {Q : St → Prop} (hQ : ∀ σ', (σ' 7 o0 0) = x1 → (σ' 7 o0 1) = x2 → (σ' 7 o0 2) = x3 → (σ' 7 o0 3) = x4 → (σ' 7 o0 6) = 0 → (σ' 7 o0 7) = -1 → (∀ a, a < 4096 → σ' 39 o0 a = 0) → Q σ') : w7_begin σ o0 x1 x2 x3 x4 Q := by
  intro s1 e1 s2 e2 s3 e3 s4 e4 s5 e5 s6 e6
  refine ⟨4097, s7_begin_L s6 (fun s' f h => ?_) 4096 0 s6 (by omega) Fr.rf (fun i => by rw [if_neg (by omega)])⟩
  have g : ∀ j, s' 7 o0 j = s6 7 o0 j := fun j => f _ _ _ (by simp [mF])
  refine hQ s' ?_ ?_ ?_ ?_ ?_ ?_ (fun a ha => by rw [h a, if_pos ha])
  all_goals (rw [g, e6, e5, e4, e3, e2, e1]; simp only [up3_g]; simp)
theorem j_frag {σ τ : St} {t l b n off at_ : Nat} {from_ pr isL more id_ : Int32} {Q : Option Nat → St → St → Prop} (ok : okS σ) (ok' : okS τ) (hN : NB σ τ t l b) (hb9 : b < 2147400000) (hF : RF σ τ t l) (hK : RK σ τ) (htr : σ 20 0 = τ 50 0) (hid : id_ = two (τ 50 0) 18) (hno : off + n ≤ 4096) (hat : at_ + n ≤ 65540) (hm : isL = 0 ↔ ¬ more = 0) (hn0 : ¬ more = 0 → 0 < n)
    (hn : ∀ σ' τ', FP σ τ t (b + 1) σ' τ' → Q none σ' τ')
    (hs : ∀ (i e : Nat) σ' τ', FP σ τ t (b + 1) σ' τ' → i < 4 → e ≤ 4096 → (σ' 7 i 7) = nI e → (∀ j, j < e → σ' 38 i j = τ' 64 0 j) → (τ' 14 0 30) = from_ → w14_taken τ' pr (nI e) (Q (some i) σ')) :
    w6_take_J18 σ 20 0 (nI at_) (nI n) from_ id_ pr (nI off) isL (nI t) (fun p σ' => w14_fragment τ from_ pr (nI off) (nI at_) (nI n) more (Q p σ')) := by
  subst hid
  obtain ⟨z, q, r, hX⟩ := hF
  obtain ⟨z1, z2, z3, z4, z5, z6, z7, z8⟩ := id hX
  have keys : ∀ k, k < z → (σ 7 (frw σ k) 0 = from_ ∧ σ 7 (frw σ k) 1 = two (τ 50 0) 18 ∧ σ 7 (frw σ k) 2 = pr ↔ (τ 18 (q k) 1) = from_ ∧ (τ 18 (q k) 2) = two (τ 50 0) 18 ∧ (τ 18 (q k) 3) = pr) := by
    intro k hk
    obtain ⟨p1, p2, p3, _⟩ := (z4 k hk).2.2.2.2
    rw [p1, p2, p3]
  -- what the model finds
  have mo : ∀ R : St → Prop, _ → w14_fragment τ from_ pr (nI off) (nI at_) (nI n) more R := fun R h => s14_trayHalf (a := 18) (by omega) ⟨5, s14_fragment_L17 4 none none (by omega) h⟩
  unfold w6_take_J18
  rw [nI_add]
  refine br_t (nI_le (b := 4096) hno (by decide)) ⟨z + 1, s6_find_L z2 z1 z8.1 z 0 (by omega) ?_⟩
  have hle := (scan_le (fun j => decide (¬ (σ 7 (frw σ j) 0 = from_ ∧ σ 7 (frw σ j) 1 = two (τ 50 0) 18 ∧ σ 7 (frw σ j) 2 = pr))) z 0).2
  have hall := scan_all (fun j => decide (¬ (σ 7 (frw σ j) 0 = from_ ∧ σ 7 (frw σ j) 1 = two (τ 50 0) 18 ∧ σ 7 (frw σ j) 2 = pr))) z 0
  have hstop := scan_stop (fun j => decide (¬ (σ 7 (frw σ j) 0 = from_ ∧ σ 7 (frw σ j) 1 = two (τ 50 0) 18 ∧ σ 7 (frw σ j) 2 = pr))) z 0
  generalize scan (fun j => decide (¬ (σ 7 (frw σ j) 0 = from_ ∧ σ 7 (frw σ j) 1 = two (τ 50 0) 18 ∧ σ 7 (frw σ j) 2 = pr))) z 0 = k at hle hall hstop
  by_cases c : k < z
  · -- it is known
    have hkey := hstop (by omega)
    have hkey := Decidable.not_not.mp (of_decide_eq_false hkey)
    have hkm := (keys k c).mp hkey
    have e1 : ¬ nI k = 4 := fun y => by have := (nI_eq (b := 4) (by omega) (by decide)).mp y; omega
    have e2 : ¬ nI k = σ 6 0 1 := by rw [z2]; exact fun y => by have := (nI_eq (by omega) (by omega)).mp y; omega
    refine br_v e1 (br_v e2 ?_)
    have h1 := j_frag1 (Q := Q) (b := b) (from_ := from_) (pr := pr) ok ok' hN hX c hK Fr.rf Fr.rf htr hno hat hm hn0 (fun σ' τ' h => hn σ' τ' ⟨h.1, h.2.1, (let ⟨l', x, y⟩ := h.2.2.1; ⟨l', x.up (by omega), y⟩), h.2.2.2⟩) (fun i e σ' τ' h => hs i e σ' τ' ⟨h.1, h.2.1, (let ⟨l', x, y⟩ := h.2.2.1; ⟨l', x.up (by omega), y⟩), h.2.2.2⟩)
    have hfm : fm (fun j => decide ((τ 18 j 0) ≠ 0 ∧ (τ 18 j 1) = from_ ∧ (τ 18 j 2) = two (τ 50 0) 18 ∧ (τ 18 j 3) = pr)) 4 none = some (q k) := by
      cases hf : fm (fun j => decide ((τ 18 j 0) ≠ 0 ∧ (τ 18 j 1) = from_ ∧ (τ 18 j 2) = two (τ 50 0) 18 ∧ (τ 18 j 3) = pr)) 4 none with
      | none =>
        have := (fm_none _ 4 none hf).2 (q k) (z4 k c).1
        exact absurd ⟨by rw [(z4 k c).2.1]; decide, hkm⟩ (of_decide_eq_false this)
      | some j =>
        rcases fm_some _ 4 none j hf with h | h
        · cases h
        · obtain ⟨y1, y2⟩ := h
          have y3 := of_decide_eq_true y2
          obtain ⟨k', hk', rfl⟩ := z6 j y1 y3.1
          by_cases e : k' = k
          · rw [e]
          · exact absurd ⟨y3.2.1.trans hkm.1.symm, y3.2.2.1.trans hkm.2.1.symm, y3.2.2.2.trans hkm.2.2.symm⟩ (z7 k' k hk' c e)
    obtain ⟨p9, s9, h9, ok9, _, g9⟩ := e6_take_J87 rfl ok h1
    refine g9 _ (mo _ ?_)
    rw [hfm]
    exact po_s rfl ⟨(z4 k c).1, h9⟩
  · have hkz : k = z := by omega
    subst hkz
    have nokey : ∀ k', k' < k → ¬ ((τ 18 (q k') 1) = from_ ∧ (τ 18 (q k') 2) = two (τ 50 0) 18 ∧ (τ 18 (q k') 3) = pr) := fun k' hk' y => of_decide_eq_true (hall k' (Nat.zero_le _) hk') ((keys k' hk').mpr y)
    have hfm : fm (fun j => decide ((τ 18 j 0) ≠ 0 ∧ (τ 18 j 1) = from_ ∧ (τ 18 j 2) = two (τ 50 0) 18 ∧ (τ 18 j 3) = pr)) 4 none = none := by
      cases hf : fm (fun j => decide ((τ 18 j 0) ≠ 0 ∧ (τ 18 j 1) = from_ ∧ (τ 18 j 2) = two (τ 50 0) 18 ∧ (τ 18 j 3) = pr)) 4 none with
      | none => rfl
      | some j =>
        rcases fm_some _ 4 none j hf with h | h
        · cases h
        · have y3 := of_decide_eq_true h.2
          obtain ⟨k', hk', rfl⟩ := z6 j h.1 y3.1
          exact absurd y3.2 (nokey k' hk')
    have base : FP σ τ t (b + 1) σ τ := ⟨ok, ok', ⟨l, hN.up (by omega), k, q, r, hX⟩, hK, Fr.rf, Fr.rf⟩
    by_cases c4 : k = 4
    · refine br_u (by rw [c4]; rfl) (mo _ ?_)
      rw [hfm]
      have hff : fm (fun j => decide ((τ 18 j 0) = 0)) 4 none = none := by
        cases hf : fm (fun j => decide ((τ 18 j 0) = 0)) 4 none with
        | none => rfl
        | some j =>
          rcases fm_some _ 4 none j hf with h | h
          · cases h
          · exact absurd (of_decide_eq_true h.2) (cnt_all (by rw [z3]; exact c4) j h.1)
      rw [hff]
      exact po_n rfl (po_n rfl (hn σ τ base))
    · have hk4 : k < 4 := by omega
      have hp4 := z8.1 k hk4
      -- the model has a free place
      have hff : ∃ j, fm (fun j => decide ((τ 18 j 0) = 0)) 4 none = some j ∧ j < 4 ∧ (τ 18 j 0) = 0 := by
        cases hf : fm (fun j => decide ((τ 18 j 0) = 0)) 4 none with
        | none =>
          exfalso
          have h1 := (fm_none _ 4 none hf).2
          have : cnt (fun j => (τ 18 j 0)) 4 = 4 := by
            have g : ∀ j, j < 4 → ¬ (τ 18 j 0) = 0 := fun j hj => of_decide_eq_false (h1 j hj)
            simp only [cnt]
            rw [if_neg (g 0 (by omega)), if_neg (g 1 (by omega)), if_neg (g 2 (by omega)), if_neg (g 3 (by omega))]
          omega
        | some j =>
          rcases fm_some _ 4 none j hf with h | h
          · cases h
          · exact ⟨j, rfl, h.1, of_decide_eq_true h.2⟩
      obtain ⟨j, hj1, hj2, hj3⟩ := hff
      obtain ⟨s0, o0, n1, n2, n3, nl, n4, n5, n6⟩ := id hN
      have h25 : τ 14 0 25 = nI o0 := by
        obtain ⟨w, q, r, hX⟩ := n1.2.2.2.1.x
        exact hX.2.2.1
      refine br_v (fun y => c4 ((nI_eq (b := 4) (by omega) (by decide)).mp y)) (br_u z2.symm ⟨vin (by omega) (by omega), ?_⟩)
      rw [cl (by omega)]
      refine ⟨hp4, ?_⟩
      show w7_begin σ (frw σ k) from_ (two (τ 50 0) 18) pr (nI t) _
      have hbg : w7_begin σ (frw σ k) from_ (two (τ 50 0) 18) pr (nI t) (fun σ' => (σ' 7 (frw σ k) 0) = from_ ∧ (σ' 7 (frw σ k) 1) = two (τ 50 0) 18 ∧ (σ' 7 (frw σ k) 2) = pr ∧ (σ' 7 (frw σ k) 3) = nI t ∧ (σ' 7 (frw σ k) 6) = 0 ∧ (σ' 7 (frw σ k) 7) = -1 ∧ ∀ a, a < 4096 → σ' 39 (frw σ k) a = 0) := s7_begin (fun σ' a b c d e f g => ⟨a, b, c, d, e, f, g⟩)
      obtain ⟨s9, ⟨a1, a2, a3, a4, a5, a6, a7⟩, ok9, f9, g9⟩ := e7_begin hp4 ok hbg
      refine g9 _ (fun s10 e10 => ?_)
      have z10 : s10 6 0 1 = nI (k + 1) := by
        rw [e10, up3_g, if_pos ⟨rfl, rfl, rfl⟩, f9 _ _ _ (by simp [mF]), z2]
        exact nI_1 k
      have ok10 : okS s10 := by rw [e10]; exact ok_n ok9 rfl
      have g10 : ∀ k' i j, k' ≠ 6 → s10 k' i j = s9 k' i j := fun k' i j h => by rw [e10, up3_g, if_neg (fun y => h y.1)]
      have f10 : Fr frF σ s10 := by
        rw [e10]
        exact (f9.sub (mF_sub rfl (sub_c (Or.inl rfl) sub_nil) rfl (sud_c (Or.inl ⟨_, List.mem_of_getElem? (i := 1) rfl, rfl⟩) sud_nil))).up rfl
      -- the model's new one
      generalize ht14 : up3 (up3 (up3 (up3 (up3 (up3 (up3 (up3 τ 18 j 0 1) 18 j 1 from_) 18 j 2 (two (τ 50 0) 18)) 18 j 3 pr) 18 j 4 (-1)) 18 j 5 (nI t)) 14 0 25 (nI (o0 + 1))) 18 j 6 (nI (o0 + 1)) = t14
      have okt14 : okS t14 := by
        rw [← ht14]
        exact ok_n (ok_n (ok_n (ok_n (ok_n (ok_n (ok_n (ok_z ok' rfl (Or.inr rfl)) rfl) rfl) rfl) rfl) rfl) rfl) rfl
      have f14 : Fr (mF [] [] [(14, [25])] [(18, j, [0, 1, 2, 3, 4, 5, 6])]) τ t14 := by
        rw [← ht14]
        exact (((((((fr_u (by simp [mF])).up (by simp [mF])).up (by simp [mF])).up (by simp [mF])).up (by simp [mF])).up (by simp [mF])).up (by simp [mF])).up (by simp [mF])
      have v14 : t14 18 j 0 = 1 ∧ t14 18 j 1 = from_ ∧ t14 18 j 2 = two (τ 50 0) 18 ∧ t14 18 j 3 = pr ∧ t14 18 j 4 = -1 ∧ t14 18 j 5 = nI t ∧ t14 18 j 6 = nI (o0 + 1) ∧ t14 14 0 25 = nI (o0 + 1) := by
        rw [← ht14]
        simp only [up3_g]
        simp
      obtain ⟨v0, v1, v2, v3, v4, v5, v6, v7⟩ := v14
      have hcl : w14_fragment_L161 from_ pr (nI off) (nI at_) (nI n) more j (fun _ => True) (fun s => ∀ i, s 70 j i = if i < 4096 then 0 else t14 70 j i) 4097 t14 (nI 0) := s14_fragment_L161 t14 (fun s' f h => h) 4096 0 t14 (by omega) Fr.rf (fun i => by rw [if_neg (by omega)])
      obtain ⟨t17, h17, okt17, ft17, gt17⟩ := e14_fragment_L161 hj2 4097 okt14 hcl
      have G17 : Fr frG τ t17 := (f14.sub (mF_sub rfl sub_nil rfl (sud_c (Or.inl ⟨_, List.mem_of_getElem? (i := 1) rfl, rfl⟩) sud_nil))).tr (ft17.sub (mF_sub rfl (sub_c (Or.inl rfl) sub_nil) rfl sud_nil))
      have w18 : ∀ f, t17 18 j f = t14 18 j f := fun f => ft17 _ _ _ (by simp [mF])
      have w25 : t17 14 0 25 = nI (o0 + 1) := by rw [ft17 _ _ _ (by simp [mF])]; exact v7
      have hNn : NB s10 t17 t (o0 + 1) (b + 1) := hN.ord h25 (by omega) (by omega) f10 G17 w25 (Nat.le_refl _) (by omega)
      have hFn : RFx s10 t17 t (o0 + 1) (k + 1) (fun i => if i = k then j else q i) (fun i => if i = k then o0 + 1 else r i) := by
        refine RF_new hX hk4 hj2 hj3 (by omega) (fun i hi => ?_) ?_ z10 (fun p hp => ⟨?_, ?_, ?_⟩) (fun j' hj' => ⟨?_, ?_, ?_⟩) ?_ ?_ ?_ (by omega) ?_
        · rw [w18, w18, w18, v1, v2, v3]
          exact nokey i hi
        · rw [e10, up3_r, if_neg (by omega)]
          exact f9.row (fun j => by simp [mF])
        · rw [e10, up3_r, if_neg (by omega)]
          exact f9.row (fun j => by simp [mF, Ne.symm hp])
        · rw [e10, up3_r, if_neg (by omega)]
          exact f9.row (fun j => by simp [mF])
        · rw [e10, up3_r, if_neg (by omega)]
          exact f9.row (fun j => by simp [mF, Ne.symm hp])
        · exact (ft17.row (fun f => by simp [mF])).trans (f14.row (fun f => by simp [mF, Ne.symm hj']))
        · exact (ft17.row (fun f => by simp [mF])).trans (f14.row (fun f => by simp [mF]))
        · exact (ft17.row (fun f => by simp [mF, Ne.symm hj'])).trans (f14.row (fun f => by simp [mF]))
        · rw [w18]; exact v0
        · rw [w18]; exact v6
        · rw [w18]; exact v5
        · unfold fpair
          rw [w18, w18, w18, w18, w18, v1, v2, v3, v4, v5, g10 _ _ _ (by decide), g10 _ _ _ (by decide), g10 _ _ _ (by decide), g10 _ _ _ (by decide), g10 _ _ _ (by decide), g10 _ _ _ (by decide), a1, a2, a3, a4, a5, a6]
          refine ⟨rfl, rfl, rfl, rfl, rfl, fun a ha => ?_, fun a ha hz => ?_, t, 0, rfl, Nat.le_refl _, by omega, rfl, by omega, fun a _ ha => ?_, Or.inl ⟨rfl, Or.inl rfl⟩⟩
          · rw [g10 _ _ _ (by decide), a7 a ha, h17 a, if_pos ha]
          · rw [h17 a, if_pos ha] at hz
            exact absurd rfl hz
          · rw [h17 a, if_pos ha]
      have hKn : RK s10 t17 := by
        refine hK.f (A := mF [39] [] [(6, [1]), (7, [0, 1, 2, 3, 6, 7])] []) (B := mF [70] [] [(14, [25]), (18, [0, 1, 2, 3, 4, 5, 6])] []) ?_ ?_
        · rw [e10]
          exact (f9.sub (mF_sub rfl (sub_c (Or.inl rfl) sub_nil) rfl (sud_c (Or.inl ⟨_, List.mem_of_getElem? (i := 1) rfl, rfl⟩) sud_nil))).up rfl
        · exact (f14.sub (mF_sub rfl sub_nil rfl (sud_c (Or.inl ⟨_, List.mem_of_getElem? (i := 1) rfl, rfl⟩) sud_nil))).tr (ft17.sub (mF_sub rfl (sub_c (Or.inl rfl) sub_nil) rfl sud_nil))
      have h1 := j_frag1 (k := k) (Q := Q) (b := b + 1) (from_ := from_) (pr := pr) ok10 okt17 hNn hFn (by omega) hKn f10 G17 (by rw [f10.row (k := 20) (fun _ => rfl), G17.row (k := 50) (fun _ => rfl)]; exact htr) hno hat hm hn0 hn hs
      rw [if_pos rfl] at h1
      obtain ⟨p9, s9', h9, ok9', _, g9'⟩ := e6_take_J87 rfl ok10 h1
      refine g9' _ (mo _ ?_)
      rw [hfm, hj1]
      refine po_n rfl (po_s rfl ⟨hj2, ?_⟩)
      intro t7 e7 t8 e8 t9 e9 t10 e10' t11 e11 t12 e12 t13 e13 t14' e14
      have x12 : t11 14 0 10 = nI t := by
        rw [e11, e10', e9, e8, e7]
        simp only [up3_g]
        simp
        exact n1.2.1.2.1
      have x13 : t12 14 0 25 = nI o0 := by
        rw [e12, e11, e10', e9, e8, e7]
        simp only [up3_g]
        simp
        exact h25
      rw [x13, nI_1] at e13
      have x14 : t13 14 0 25 = nI (o0 + 1) := by rw [e13, up3_g, if_pos ⟨rfl, rfl, rfl⟩]
      rw [x14] at e14
      rw [x12] at e12
      have e14' : t14' = t14 := by rw [e14, e13, e12, e11, e10', e9, e8, e7]; exact ht14
      rw [e14']
      exact ⟨4097, gt17 _ _ h9⟩
