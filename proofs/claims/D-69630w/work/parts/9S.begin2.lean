/-! begin ~ the end of alone -/
set_option maxRecDepth 100000
/-- the numbers of a connection that begins -/
def c0n (p wn ms cw : Nat) : CK := fun j => [1, 1, 0, 1, 1, 0, 0, p, wn, ms, cw, 65535, 1000, 0, 0, 4096, 0, 0, 0, 1, 0].getD j 0
abbrev bnF (i : Nat) : Nat → Nat → Nat → Bool := mF [23, 25, 26, 32, 35, 36] [(43, i)] [(2, [3]), (3, [9]), (4, [0, 1, 2, 4]), (5, [2]), (8, [6])] [(11, i, [2, 3, 4, 5, 6, 7, 8, 9, 10, 11, 12, 13, 14, 15, 16, 17, 18, 19, 21, 22, 23, 26, 27, 28, 29, 30, 32, 33, 34, 35, 36, 37]), (12, i, [2, 3]), (13, i, [1])]
abbrev bnG (i : Nat) : Nat → Nat → Nat → Bool := mF [57, 58, 59, 60, 68] [(73, i)] [(14, [12, 18, 23, 24, 25]), (17, [0, 1, 2, 3, 4, 5]), (56, [3, 5])] [(15, i, [0, 1, 2, 3, 4, 5, 6, 7, 8, 9, 10, 11, 12, 13, 16, 17, 18, 19, 20, 21, 22, 23, 24, 26, 28, 29, 30, 31, 34, 35, 36, 37, 38, 39, 40, 41])]
def BgP (σ τ : St) (t l b i : Nat) (σ' τ' : St) : Prop := NB σ' τ' t l b ∧ RK σ' τ' ∧ (σ' 8 0 6) = (τ' 14 0 12) ∧ RCB σ' τ' t i 1 ∧ Fr (bnF i) σ σ' ∧ Fr (bnG i) τ τ' ∧ (σ' 11 i 3) = (σ 10 0 0) ∧ (σ' 11 i 4) = (σ 10 0 1)
theorem j_begin {σ τ : St} {t l b i ms wv : Nat} (ok : okS σ) (ok' : okS τ) (htt : t ≤ 100000000) (hN : NB σ τ t l b) (hb : b < 2147480000) (hK : RK σ τ) (hbg : (σ 8 0 6) = (τ 14 0 12)) (hS : RS σ τ) (hms : (σ 10 0 10) = nI ms) (m1 : 64 ≤ ms) (m2 : ms ≤ 1460) (hw : (τ 14 0 37) = nI wv) (w6 : wv ≤ 65535) (hop : ∀ (s : St) (Q : Int32 → Prop), s 14 0 40 = τ 14 0 40 → s 64 0 = τ 64 0 → Q (nI ms) → w14_optionMss s Q) (h0 : RC0 σ τ i) {P : St → St → Prop} (hq : ∀ σ' τ', BgP σ τ t l (b + 4) i σ' τ' → P σ' τ') :
    ∀ σ9, σ9 = up3 σ 8 0 6 (σ 8 0 6 + 1) → w11_begin σ9 i (σ9 8 0 6) (fun σ' => aloneB τ i (fun τ' => P σ' τ')) := by
  intro σ9 e9
  obtain ⟨n0, o0, n1, n2, n3, nl, n4, n5, n6⟩ := id hN
  have now1 : (σ 2 0 4) = nI t := n1.2.1.1
  have now2 : (τ 14 0 10) = nI t := n1.2.1.2.1
  obtain ⟨r0, r1, r2, r3, r4, r5, r6, r7⟩ := id hS
  obtain ⟨z1, z2, z3, z4, z5, z6, z7, p, z8, z9⟩ := h0
  have ok9 : okS σ9 := by rw [e9]; exact ok_n ok rfl
  have F9 : Fr (mF [] [] [(8, [6])] []) σ σ9 := by rw [e9]; exact fr_u rfl
  have N9 : σ9 8 0 6 = τ 14 0 12 + 1 := by rw [e9, up3_g, if_pos ⟨rfl, rfl, rfl⟩]; rw [show σ 8 0 6 = τ 14 0 12 from hbg]
  obtain ⟨I, hI⟩ : ∃ I : Int32, 64000 * (τ 14 0 12 + 1) + 250 * nI t = I := ⟨_, rfl⟩
  obtain ⟨cw, hcw⟩ : ∃ cw : Nat, cw = if 1095 < ms then 3 * ms else 4 * ms := ⟨_, rfl⟩
  have cw1 : ms ≤ cw ∧ cw ≤ 65535 := by
    by_cases c1 : 1095 < ms
    · rw [if_pos c1] at hcw; omega
    · rw [if_neg c1] at hcw; omega
  obtain ⟨t1, kt1, G1, g12, g56, gR, g73, gM⟩ := s14_begin (ms := ms) (cw := cw) ok' now2 hI hop m2 hcw
  rw [N9]
  refine s11_begin (t := t) (ms := ms) (cw := cw) (I := I) ok9 (by rw [F9 _ _ _ rfl]; exact now1) hI (by rw [F9 _ _ _ rfl]; exact hms) m2 hcw (fun s1 ks1 F1 fR f12 f13 f43 => ?_)
  rw [F9 10 0 0 rfl, F9 10 0 1 rfl, F9 10 0 3 rfl, F9 10 0 6 rfl, F9.row (k := 11) (fun _ => rfl)] at fR
  rw [F9.row (k := 12) (fun _ => rfl)] at f12
  rw [F9.row (k := 13) (fun _ => rfl)] at f13
  rw [F9.row (k := 43) (fun _ => rfl)] at f43
  have F19 : Fr (bnF i) σ s1 := (F9.sub (mF_sub rfl sub_nil rfl sud_nil)).tr (F1.sub (mF_sub rfl (sub_c (Or.inr (List.mem_of_getElem? (i := 0) rfl)) sub_nil) rfl (sud_c (Or.inr ⟨_, List.mem_of_getElem? (i := 0) rfl, rfl⟩) (sud_c (Or.inr ⟨_, List.mem_of_getElem? (i := 1) rfl, rfl⟩) (sud_c (Or.inr ⟨_, List.mem_of_getElem? (i := 2) rfl, rfl⟩) sud_nil)))))
  have Fc : Fr (mF [43] [] [(8, [6]), (11, [2, 3, 4, 5, 6, 7, 8, 9, 10, 11, 12, 13, 14, 15, 16, 17, 18, 19, 22, 23, 26, 27, 28, 29, 30, 32, 33, 34, 35, 36, 37]), (12, [2, 3]), (13, [1])] []) σ s1 := (F9.sub (mF_sub rfl sub_nil rfl sud_nil)).tr (F1.sub (mF_sub rfl (sub_c (Or.inl rfl) sub_nil) rfl (sud_c (Or.inl ⟨_, List.mem_of_getElem? (i := 1) rfl, rfl⟩) (sud_c (Or.inl ⟨_, List.mem_of_getElem? (i := 2) rfl, rfl⟩) (sud_c (Or.inl ⟨_, List.mem_of_getElem? (i := 3) rfl, rfl⟩) sud_nil)))))
  have Gc : Fr (mF [73] [] [(14, [12]), (56, [5]), (15, [0, 1, 2, 3, 4, 5, 6, 7, 8, 9, 10, 11, 12, 13, 16, 17, 18, 21, 23, 24, 26, 28, 29, 30, 31, 34, 35, 36, 37, 38, 39, 40, 41])] []) τ t1 := G1.sub (mF_sub rfl (sub_c (Or.inl rfl) sub_nil) rfl (sud_c (Or.inl ⟨_, List.mem_of_getElem? (i := 2) rfl, rfl⟩) sud_nil))
  have hN1 : NB s1 t1 t l b := hN.f Fc Gc
  have x3 : s1 11 i 3 = σ 10 0 0 := by rw [fR]; simp only [vu_g, Nat.reduceEqDiff, reduceIte]
  have x4 : s1 11 i 4 = σ 10 0 1 := by rw [fR]; simp only [vu_g, Nat.reduceEqDiff, reduceIte]
  have x6 : s1 11 i 6 = σ 10 0 3 + 1 := by rw [fR]; simp only [vu_g, Nat.reduceEqDiff, reduceIte]
  have y1 : t1 15 i 1 = τ 14 0 30 := by rw [gR]; simp only [vu_g, Nat.reduceEqDiff, reduceIte]
  have y2 : t1 15 i 2 = τ 14 0 32 := by rw [gR]; simp only [vu_g, Nat.reduceEqDiff, reduceIte]
  have y3 : t1 15 i 3 = I := by rw [gR]; simp only [vu_g, Nat.reduceEqDiff, reduceIte]
  have y36 : t1 15 i 36 = τ 14 0 34 + 1 := by rw [gR]; simp only [vu_g, Nat.reduceEqDiff, reduceIte]
  have y35 : t1 15 i 35 = τ 14 0 34 + 1 := by rw [gR]; simp only [vu_g, Nat.reduceEqDiff, reduceIte]
  have y41 : t1 15 i 41 = 0 := by rw [gR]; simp only [vu_g, Nat.reduceEqDiff, reduceIte]
  have x12 : s1 12 i 2 = nI 0 := by rw [f12]; simp only [vu_g, Nat.reduceEqDiff, reduceIte]; rfl
  have hmh : mheld t1 i 0 := by
    unfold mheld
    rw [y36, y35, y41, show nI 0 = 0 from rfl, Int32.add_zero, Int32.add_zero]
  obtain ⟨s5, t5, a1, a2, k1, k2, X1, X2, hN5, hC5, hM5⟩ := R_cseg0 (k3 := 0) (i3 := 0) (pl := 0) (n := 0) (hd := 0) (i := i) (seq := I) (fl := 18) (opt := 4) (sy := true) ks1 kt1 hN1 hb (by rw [x3, y1]; exact r0) (by rw [x4, y2]; exact r1) (by rw [x6, y36, r3]) x12 hmh (by omega) (by decide) ⟨fun h => absurd h (by decide), fun h => absurd h (by decide)⟩ rfl (fun _ => rfl) (by omega) (fun h => absurd h (by omega)) (fun j h => absurd h (by omega))
  refine a1 _ (gM _ ?_)
  have wy : ∀ Q : St → Prop, w14_noted t5 i (t5 15 i 3) (fun σ4 => (∀ σ5, σ5 = up3 σ4 15 i 5 ((σ4 15 i 3) + 1) → (w14_before σ5 (σ5 15 i 6) (σ5 15 i 5) (fun r6 => ((r6 = 0 → Q σ5) ∧ (¬ r6 = 0 → (∀ σ7, σ7 = up3 σ5 15 i 6 (σ5 15 i 5) → (Q σ7)))))))) → w14_synAck t1 i Q := by
    intro Q hQ
    unfold w14_synAck
    rw [y3]
    exact a2 _ hQ
  refine wy _ ?_
  have v3 : t5 15 i 3 = I := by rw [hM5]; simp only [vu_g, Nat.reduceEqDiff, reduceIte]; exact y3
  have v6 : t5 15 i 6 = I := by rw [hM5, gR]; simp only [vu_g, Nat.reduceEqDiff, reduceIte]
  have v17 : t5 15 i 17 = 0 := by rw [hM5, gR]; simp only [vu_g, Nat.reduceEqDiff, reduceIte]
  have v21 : t5 15 i 21 = 0 := by rw [hM5, gR]; simp only [vu_g, Nat.reduceEqDiff, reduceIte]
  have v13 : t5 15 i 13 = 1000 := by rw [hM5, gR]; simp only [vu_g, Nat.reduceEqDiff, reduceIte]
  have vn : t5 14 0 10 = nI t := by rw [X2 _ _ _ rfl, G1 _ _ _ rfl]; exact now2
  rw [v3]
  refine s14_noted (g := 0) k2 ⟨fun _ => by rw [v6, Int32.sub_self]; decide, fun _ => rfl⟩ (fun t6 f6 k6 c6 R6 => ?_)
  rw [v17, v21, v13, vn, show nI t + 1000 = nI (t + 1000) from nI_add t 1000, show tgv 0 0 = 1 from rfl, show keepv 0 0 (t5 15 i 19) I = I from rfl, show keepv 0 0 (t5 15 i 20) (nI t) = nI t from rfl, show offv 0 (t5 15 i 22) (nI (t + 1000)) = nI (t + 1000) from rfl] at R6
  rw [if_pos rfl] at c6
  intro t7 e7
  have u3 : t6 15 i 3 = I := by rw [R6]; simp only [vu_g, Nat.reduceEqDiff, reduceIte]; exact v3
  rw [u3] at e7
  have u5 : t7 15 i 5 = I + 1 := by rw [e7, up3_g, if_pos ⟨rfl, rfl, rfl⟩]
  have u6 : t7 15 i 6 = I := by rw [e7, up3_g, if_neg (by omega), R6]; simp only [vu_g, Nat.reduceEqDiff, reduceIte]; exact v6
  rw [u5, u6]
  refine ⟨fun z => absurd z (by rw [show I - (I + 1) = -1 by grind]; decide), fun _ => br_f (by decide) (fun t8 e8 => ?_)⟩
  have R8 : t8 15 i = (va_up (va_up (va_up (va_up (va_up (va_up (va_up (t5 15 i) 17 1) 19 I) 20 (nI t)) 21 1) 22 (nI (t + 1000))) 5 (I + 1)) 6 (I + 1)) := by rw [e8, up3_r, if_pos ⟨rfl, rfl⟩, e7, up3_r, if_pos ⟨rfl, rfl⟩, R6]
  have G8 : Fr (mF [] [] [(56, [3])] [(15, i, [5, 6, 17, 19, 20, 21, 22])]) t5 t8 := by
    rw [e8, e7]
    exact (((f6.sub (mF_sub rfl sub_nil rfl (sud_c (Or.inr ⟨_, List.mem_of_getElem? (i := 0) rfl, rfl⟩) sud_nil))).up (by simp [mF])).up (by simp [mF]))
  have Gc8 : Fr (mF [] [] [(56, [3]), (15, [5, 6, 17, 19, 20, 21, 22])] []) t5 t8 := G8.sub (mF_sub rfl sub_nil rfl (sud_c (Or.inl ⟨_, List.mem_of_getElem? (i := 1) rfl, rfl⟩) sud_nil))
  have GG : Fr (bnG i) τ t8 := (G1.sub (mF_sub rfl (sub_c (Or.inr (List.mem_of_getElem? (i := 0) rfl)) sub_nil) rfl (sud_c (Or.inr ⟨_, List.mem_of_getElem? (i := 0) rfl, rfl⟩) sud_nil))).tr ((X2.sub (mF_sub rfl sub_nil rfl (sud_c (Or.inr ⟨_, List.mem_of_getElem? (i := 0) rfl, rfl⟩) sud_nil))).tr (G8.sub (mF_sub rfl sub_nil rfl (sud_c (Or.inr ⟨_, List.mem_of_getElem? (i := 0) rfl, rfl⟩) sud_nil))))
  have FF : Fr (bnF i) σ s5 := F19.tr (X1.sub (mF_sub rfl sub_nil rfl (sud_c (Or.inr ⟨_, List.mem_of_getElem? (i := 0) rfl, rfl⟩) sud_nil)))
  have b56 : t8 56 0 = va_up (τ 56 0) 5 (τ 56 0 5 + 1) := by
    funext j
    by_cases c3 : j = 3
    · rw [c3, e8, up3_g, if_neg (by omega), e7, up3_g, if_neg (by omega), c6, X2 _ _ _ rfl, g56]
    · have : t8 56 0 j = t5 56 0 j := G8 _ _ _ (by simp [mF, c3])
      rw [this, X2 _ _ _ (by simp [mF]), g56]
  have b12 : t8 14 0 12 = τ 14 0 12 + 1 := by rw [G8 _ _ _ rfl, X2 _ _ _ rfl]; exact g12
  have a8 : ∀ j, s5 8 0 j = σ9 8 0 j := fun j => by rw [X1 _ _ _ (by simp [mF]), F1 _ _ _ (by simp [mF])]
  have a6 : s5 8 0 6 = σ 8 0 6 + 1 := by rw [a8, e9, up3_g, if_pos ⟨rfl, rfl, rfl⟩]
  have a80 : ∀ j, j ≠ 6 → s5 8 0 j = σ 8 0 j := fun j hj => by rw [a8, e9, up3_g, if_neg (fun z => hj z.2.2)]
  refine hq _ _ ⟨hN5.f (Fr.rf (M := mF [] [] [] [])) Gc8, ?_, by show s5 8 0 6 = t8 14 0 12; rw [a6, b12, show σ 8 0 6 = τ 14 0 12 from hbg], ?_, FF, GG, ?_, ?_⟩
  · obtain ⟨k0, k1, k2, k3, k4, k5, k6, k7⟩ := hK
    unfold RK
    rw [b56, FF _ _ _ rfl, FF _ _ _ rfl, a80 3 (by decide), a80 4 (by decide), a80 5 (by decide), a6, a80 7 (by decide), a80 8 (by decide)]
    simp only [vu_g, Nat.reduceEqDiff, reduceIte]
    exact ⟨k0, k1, k2, k3, k4, by rw [k5], k6, k7⟩
  · have hC := hC5; rw [fR] at hC
    have hM := R8; rw [hM5, gR] at hM
    have h12 := f12; rw [← X1.row (k := 12) (i := i) (fun _ => by simp [mF])] at h12
    have h13 := f13; rw [← X1.row (k := 13) (i := i) (fun _ => by simp [mF])] at h13
    have w42 : s5 42 i = t8 72 i := by rw [FF.row (k := 42) (fun _ => by simp [mF]), GG.row (k := 72) (fun _ => by simp [mF])]; exact z6
    have w43 : s5 43 i = t8 73 i := by rw [X1.row (k := 43) (fun _ => by simp [mF]), f43, G8.row (k := 73) (fun _ => by simp [mF]), X2.row (k := 73) (fun _ => by simp [mF]), g73, z7]
    have w25 : t8 15 i 27 = nI p := by rw [GG _ _ _ (by simp [mF])]; exact z8
    refine ⟨c0n p wv ms cw, ?_, ?_, Nat.le_refl _⟩
    · apply RCn.mk <;> (try rw [hC]) <;> (try rw [h12]) <;> (try rw [h13]) <;> (try rw [hM]) <;> (try simp only [vu_g, Nat.reduceEqDiff, reduceIte]) <;> (try rfl) <;> (try assumption)
      all_goals (try (show _ ≤ _; simp only [c0n, List.getD_cons_succ, List.getD_cons_zero]; omega))
      · rw [r3]
      · exact (Int32.add_zero I).symm
      · exact (Int32.add_zero I).symm
      · exact fun _ => ⟨rfl, rfl, rfl, rfl, rfl, rfl, rfl⟩
      · exact fun _ => ⟨trivial, trivial⟩
      · exact fun (z : 2 ≤ 1) => absurd z (by omega)
      · show 1 + 0 + 2 < 1000000000; omega
      · rw [r6]; exact hw
      · show _ = _ + nI 0 + 0; rw [show nI 0 = 0 from rfl, Int32.add_zero, Int32.add_zero]
      · exact fun z => absurd rfl z
      · exact fun (z : 0 < 0) => absurd z (by omega)
      · exact fun j _ (z : j < 0) => absurd z (by omega)
      · exact fun (z : 0 < 0) => absurd z (by omega)
      · show 0 = 1 ↔ 1 = 3 ∨ 1 = 4 ∨ 1 = 5 ∨ 1 = 6 ∨ 1 = 8; omega
      · exact fun (z : 1 = 4 ∨ 1 = 6) => absurd z (by omega)
      · exact fun _ => ⟨t + 1000, rfl, rfl, by omega, by omega⟩
      · exact fun _ (z : 2 ≤ 1) => absurd z (by omega)
      · exact ⟨t, rfl, rfl, Nat.le_refl _⟩
      · exact fun z => absurd rfl z
      · exact fun (z : 2 ≤ 1) => absurd z (by omega)
    · apply RCl.mk <;> (try rw [hC]) <;> (try simp only [vu_g, Nat.reduceEqDiff, reduceIte])
      · exact fun (z : 1 = 2) => absurd z (by omega)
      · exact fun (z : 1 = 2) => absurd z (by omega)
      · exact fun (z : 1 = 4 ∨ 1 = 6) => absurd z (by omega)
      · exact fun _ _ _ => trivial
      · show 4096 - 0 < 4096 + 2048; omega
  · rw [hC5, fR]; simp only [vu_g, Nat.reduceEqDiff, reduceIte]
  · rw [hC5, fR]; simp only [vu_g, Nat.reduceEqDiff, reduceIte]
