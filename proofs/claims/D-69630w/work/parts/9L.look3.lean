/-! requests of a connection: looked at -/
set_option maxRecDepth 100000
/-- the model's state where a head begins -/
def rsM (τ : St) : St := up3 (up3 (up3 (up3 (up3 (up3 (up3 (up3 (up3 (up3 (up3 (up3 (up3 τ 14 0 43 0) 14 0 44 0) 14 0 45 0) 14 0 46 0) 14 0 47 0) 14 0 48 0) 14 0 49 0) 14 0 50 0) 14 0 51 0) 14 0 52 0) 14 0 53 0) 14 0 54 0) 14 0 55 0
theorem rsM_f (τ : St) : Fr (mF [] [] [(14, [43, 44, 45, 46, 47, 48, 49, 50, 51, 52, 53, 54, 55])] []) τ (rsM τ) := by
  unfold rsM
  exact ((((((((((((fr_u rfl).up rfl).up rfl).up rfl).up rfl).up rfl).up rfl).up rfl).up rfl).up rfl).up rfl).up rfl).up rfl
theorem rsM_0 (τ : St) : Rst0 (rsM τ) := by
  unfold Rst0 rsM
  simp only [up3_g]
  simp
theorem rsM_ok {τ : St} (ok : okS τ) : okS (rsM τ) := by
  unfold rsM
  exact ok_z (ok_z (ok_z (ok_z (ok_n (ok_n (ok_n (ok_n (ok_z (ok_z (ok_z (ok_z (ok_n ok rfl) rfl (Or.inl rfl)) rfl (Or.inl rfl)) rfl (Or.inl rfl)) rfl (Or.inl rfl)) rfl) rfl) rfl) rfl) rfl (Or.inl rfl)) rfl (Or.inl rfl)) rfl (Or.inl rfl)) rfl (Or.inl rfl)
theorem s14_answer {τ τ8 : St} {i n : Nat} {Q : St → Prop} (hn : n ≤ 4096) (hT : ∀ R : St → Prop, R τ8 → w14_take (row3 (up3 τ 14 0 42 (nI n)) 66 0 (va_cpy (τ 72 i) (τ 66 0) 0 0 n)) i (nI n) R) (hq : ansM (rsM τ8) i Q) : w14_answer τ i (nI n) Q := by
  intro s1 e1
  refine ⟨n + 1, s14_an_L7 hn n 0 s1 (by omega) ?_⟩
  have a72 : s1 72 i = τ 72 i := by rw [e1, up3_r, if_neg (by omega)]
  have a66 : s1 66 0 = τ 66 0 := by rw [e1, up3_r, if_neg (by omega)]
  rw [a72, a66, e1]
  refine hT _ (fun s6 d6 s7 d7 s8 d8 s9 d9 s10 d10 s11 d11 s12 d12 s13 d13 s14 d14 s15 d15 s16 d16 s17 d17 s18 d18 => ?_)
  have : s18 = rsM τ8 := by rw [d18, d17, d16, d15, d14, d13, d12, d11, d10, d9, d8, d7, d6]; rfl
  rw [this]
  exact hq
theorem R_look {σ τ : St} {t i : Nat} {c : CK} (hi : i < 16) (ok : okS σ) (ok' : okS τ) (h : RCq σ τ t i c) (hI : LkI σ τ i) (hst : (c 0) = 2 ∨ (c 0) = 7) (hs : (c 16) = 0 ∨ (c 14) = 0) (hbb : (c 1) + (c 5) < 900000000) :
    ∃ (σ' τ' : St), (∀ Q, Q σ' → w11_look σ i Q) ∧ (∀ (Q : St → Prop) (K : St → Int32 → Prop), K τ' 0 → w14_requests_J55 τ i Q K) ∧ okS σ' ∧ okS τ' ∧ Fr (mF [40, 41] [(42, i), (43, i), (44, i), (90, i + 1)] [(8, [5]), (9, [2, 3, 4, 5, 6, 7, 8, 9, 10, 11, 12, 13, 14, 15, 16, 18])] [(11, i, [26, 27]), (12, i, [2, 3]), (13, i, [1])]) σ σ' ∧ Fr (mF [56, 66, 67] [(71, i), (72, i), (73, i)] [(14, [42, 43, 44, 45, 46, 47, 48, 49, 50, 51, 52, 53, 54, 55, 56, 57, 59, 60, 61, 62])] [(15, i, [26, 27, 28, 29, 30, 35, 38, 39])]) τ τ' ∧ LkP t i c σ' τ' := by
  have hF := h.cf
  have hR := h.1
  have q1 := hR.ua
  have q2 := hR.ax
  have q3 := hR.xe
  have q4 := hR.f1
  have q5 := hR.d1
  have q6 := hR.bb
  have q7 := hR.hd4
  have q8 := hR.sk6
  have q9 := hR.td4
  have done : LkP t i c σ τ := ⟨hI.rk, hI.hd, hI.rm, c, h, rfl, rfl, rfl, rfl, rfl, rfl, Nat.le_refl _, Or.inl ⟨rfl, rfl, rfl⟩⟩
  have hj : w11_look σ i (fun σ' => w14_requests_J55 τ i (fun _ => True) (fun τ' x => x = 0 ∧ LkP t i c σ' τ')) := by
    intro _
    rw [hF.e27]
    by_cases cd : (c 17) = 0
    rotate_left
    · exact br_v (nI_ne0 (by omega) (by omega)) (fun _ => br_v (by rw [hR.ed']; exact nI_ne0 (by omega) (by omega)) (br_t rfl ⟨rfl, done⟩))
    have mo1 : ∀ (K : St → Int32 → Prop), w15_left τ i (τ 15 i 5) (fun r3 => ((¬ r3 = 0 → w14_requests_J89 τ i 0 (fun _ => True) K) ∧ (r3 = 0 → ((¬ (τ 15 i 5) = (τ 15 i 4) → w14_requests_J89 τ i 0 (fun _ => True) K) ∧ ((τ 15 i 5) = (τ 15 i 4) → w14_requests_J89 τ i 1 (fun _ => True) K))))) → w14_requests_J55 τ i (fun _ => True) K := fun K hk _ => br_u (by rw [hR.ed', cd]; rfl) hk
    refine br_u (by rw [cd]; rfl) (s11_leftq h (by omega) ?_)
    by_cases cl0 : (c 1) + (c 5) + (c 17) - (c 3) = 0
    rotate_left
    · refine br_v (nI_ne0 (by omega) (by omega)) (mo1 _ (s15_left hR (br_v (nI_ne0 (by omega) (by omega)) (br_t rfl ⟨rfl, done⟩))))
    refine br_u (by rw [cl0]; rfl) ?_
    show (¬ (σ 11 i 10) - (σ 11 i 9) = 0 → _) ∧ ((σ 11 i 10) - (σ 11 i 9) = 0 → _)
    rw [hF.e10, hF.e9, so_4 _ _ _ q1]
    have eau : (τ 15 i 5) = (τ 15 i 4) ↔ (c 3) = (c 2) := by rw [hR.eat', hR.eun']; exact so_9 _ (by omega) (by omega)
    by_cases cf : (c 3) = (c 2)
    rotate_left
    · refine br_v (nI_ne0 (by omega) (by omega)) (mo1 _ (s15_left hR (br_u (by rw [cl0]; rfl) (br_v (fun z => cf (eau.mp z)) (br_t rfl ⟨rfl, done⟩)))))
    refine br_u (by rw [cf, Nat.sub_self]; rfl) ?_
    have mo2 : ∀ (K : St → Int32 → Prop), w14_oneRequest τ i (fun r2 σ2 => ((r2 = 0 → K σ2 0) ∧ (¬ r2 = 0 → K σ2 1))) → w14_requests_J55 τ i (fun _ => True) K := fun K hk => mo1 K (s15_left hR (br_u (by rw [cl0]; rfl) (br_u (eau.mpr cf) (br_f (by decide) hk))))
    -- newlines
    obtain ⟨σ4, τ4, hd4, ok4, okt4, f4, g4, yC, yM, h4, hle4⟩ := R_skip hi (c 14) σ τ c rfl ok ok' h hs
    have hF4 := h4.cf
    have hR4 := h4.1
    have F4 : Fr (mF [42, 43] [] [(12, [2])] []) σ σ4 := f4.sub (mF_sub rfl (sub_c (Or.inl rfl) (sub_c (Or.inl rfl) sub_nil)) rfl (sud_c (Or.inl ⟨_, List.mem_of_getElem? (i := 0) rfl, rfl⟩) sud_nil))
    have G4 : Fr (mF [72, 73] [] [(15, [35, 39])] []) τ τ4 := g4.sub (mF_sub rfl (sub_c (Or.inl rfl) (sub_c (Or.inl rfl) sub_nil)) rfl (sud_c (Or.inl ⟨_, List.mem_of_getElem? (i := 0) rfl, rfl⟩) sud_nil))
    have eh4 : (σ4 12 i 2) = nI hd4 := by have := hF4.eh; simp only [cup_g, Nat.reduceEqDiff, reduceIte] at this; exact this
    have er4 : σ4 42 i = τ4 72 i := hF4.er
    have mh4 : mheld τ4 i hd4 := by have := hR4.ehd'; simp only [cup_g, Nat.reduceEqDiff, reduceIte] at this; exact this
    have st4 : (τ4 15 i 0) = nI (c 0) := hR4.est'
    have sk4 : (τ4 15 i 38) = nI (c 16) := hR4.esk'
    have lk0 : ∀ (σ' τ' : St) (c' : CK), RK σ' τ' → σ' 40 0 = τ' 66 0 → (σ' 90 (i + 1) 0 = 0 ∨ σ' 90 (i + 1) 0 = 66047) → RCq σ' τ' t i c' → (c' 0) = (c 0) → (c' 2) = (c 2) → (c' 3) = (c 3) → (c' 4) = (c 4) → (c' 18) = (c 18) → (c' 15) = (c 15) → (c' 14) ≤ (c 14) → ((c' 17) = (c 17) ∧ (c' 1) = (c 1) ∧ (c' 5) = (c 5) ∨ (c' 1) = (c 3) ∧ (0 < (c' 5) ∨ (c' 17) = 1) ∧ (c' 5) ≤ 66047) → LkP t i c σ' τ' := fun σ' τ' c' a1 a2 a2' a3 a4 a5 a6 a7 a8 a9 a10 a11 => ⟨a1, a2, a2', c', a3, a4, a5, a6, a7, a8, a9, a10, a11⟩
    have rk4 : RK σ4 τ4 := hI.rk.f F4 G4
    have hh4 : σ4 40 0 = τ4 66 0 := by rw [F4.row (k := 40) fun _ => rfl, G4.row (k := 66) fun _ => rfl]; exact hI.hd
    generalize hN0 : hE (fun j => ub (σ4 42 i j)) hd4 0 0 = n
    have hN0' : hE (fun j => ub (τ4 72 i j)) hd4 0 0 = n := by rw [← hN0, er4]
    have hnle : n ≤ hd4 := by have := hE_le (N := fun j => ub (σ4 42 i j)) hd4 0 0; omega
    -- the model, at what is found
    have mo3 : ∀ (Q : Int32 → St → Prop), w14_oneRequest_J76 τ4 i (nI n) Q → w14_oneRequest τ i Q := by
      intro Q hq
      refine yM _ _ ?_
      by_cases c0 : (c 16) = 0
      · refine br_u (by rw [sk4, c0]; rfl) (s14_headBytes mh4 (by omega) ?_)
        rw [hN0']
        exact hq
      · have hd0 : hd4 = 0 := by omega
        have n0 : n = 0 := by omega
        rw [n0] at hq
        exact br_v (by rw [sk4]; exact nI_ne0 (by omega) (by omega)) hq
    -- what the component does with what is found
    have look : ∀ (xs : Int32), (xs = if (c 0) = 7 then 1 else 0) → w11_look_J47 σ i xs i i (fun σ' => w14_requests_J55 τ i (fun _ => True) (fun τ' x => x = 0 ∧ LkP t i c σ' τ')) := by
      intro xs hxs
      refine yC _ _ _ ?_
      by_cases cn : n = 0
      · -- no whole head
        refine s9_headEnd eh4 (by omega) (fun z => absurd z (by rw [hN0]; omega)) (fun _ => ?_)
        intro σ6 e6
        have v6 : σ6 9 0 2 = -1 := by rw [e6, up3_g, if_pos ⟨rfl, rfl, rfl⟩]
        have o6 : ∀ k i', k ≠ 9 → σ6 k i' = σ4 k i' := fun k i' hk => by rw [e6, up3_r, if_neg (fun z => hk z.1)]
        rw [v6, o6 12 _ (by decide), eh4]
        refine br_f (by decide) ?_
        have ok6 : okS σ6 := by rw [e6]; exact ok_n ok4 rfl
        have F6 : Fr (mF [] [] [(9, [2])] []) σ4 σ6 := by rw [e6]; exact fr_u rfl
        have h6 : RCq σ6 τ4 t i (cup c 14 hd4) := h4.c (o6 _ _ (by decide)) (o6 _ _ (by decide)) (o6 _ _ (by decide)) (o6 _ _ (by decide)) (o6 _ _ (by decide)) (o6 _ _ (by decide)) (by rw [o6 _ _ (by decide)]) rfl rfl rfl rfl rfl
        rw [cn] at mo3
        by_cases c4096 : 4096 ≤ hd4
        · -- too much
          have e4096 : hd4 = 4096 := by omega
          refine br_t (nI_le (a := 4096) c4096 (by omega)) ?_
          obtain ⟨σ8, τ8, gC, gM, ok8, okt8, f8, g8, h8, _⟩ := R_take (n := hd4) hi ok6 okt4 h6 (by simp only [cup_g, Nat.reduceEqDiff, reduceIte]; omega)
          refine gC _ (fun s11 e11 => ?_)
          have F8 : Fr (mF [42, 43] [] [(12, [2])] []) σ6 σ8 := f8.sub (mF_sub rfl (sub_c (Or.inl rfl) (sub_c (Or.inl rfl) sub_nil)) rfl (sud_c (Or.inl ⟨_, List.mem_of_getElem? (i := 0) rfl, rfl⟩) sud_nil))
          have G8 : Fr (mF [72, 73] [] [(15, [35, 39])] []) τ4 τ8 := g8.sub (mF_sub rfl (sub_c (Or.inl rfl) (sub_c (Or.inl rfl) sub_nil)) rfl (sud_c (Or.inl ⟨_, List.mem_of_getElem? (i := 0) rfl, rfl⟩) sud_nil))
          have F11 : Fr (mF [] [] [(9, [5])] []) σ8 s11 := by rw [e11]; exact fr_u rfl
          have ok11 : okS s11 := by rw [e11]; exact ok_z ok8 rfl (Or.inl rfl)
          generalize ht10 : up3 (up3 τ8 14 0 44 0) 14 0 43 431 = τ10
          have G10 : Fr (mF [] [] [(14, [43, 44])] []) τ8 τ10 := by rw [← ht10]; exact (fr_u rfl).up rfl
          have okt10 : okS τ10 := by rw [← ht10]; exact ok_n (ok_z okt8 rfl (Or.inl rfl)) rfl
          have h11 : RCq s11 τ10 t i (cup (cup c 14 hd4) 14 (hd4 - hd4)) := by
            have := h8.c (σ' := s11) (τ' := τ10) (F11.row fun _ => rfl) (F11.row fun _ => rfl) (F11.row fun _ => rfl) (F11.row fun _ => rfl) (F11.row fun _ => rfl) (F11.row fun _ => rfl) (F11 _ _ _ rfl) (G10.row fun _ => rfl) (G10.row fun _ => rfl) (G10.row fun _ => rfl) (G10.row fun _ => rfl) (G10.row fun _ => rfl)
            simp only [cup_g, Nat.reduceEqDiff, reduceIte] at this
            exact this
          have hF11 := h11.cf
          have x90 : s11 90 (i + 1) 0 = σ 90 (i + 1) 0 := by rw [F11 _ _ _ rfl, F8 _ _ _ rfl, F6 _ _ _ rfl, F4 _ _ _ rfl]
          have x10 : s11 10 0 7 = σ 10 0 7 := by rw [F11 _ _ _ rfl, F8 _ _ _ rfl, F6 _ _ _ rfl, F4 _ _ _ rfl]
          have x13 : s11 1 0 3 = nI 22 := by rw [F11 _ _ _ rfl, F8 _ _ _ rfl, F6 _ _ _ rfl, F4 _ _ _ rfl]; exact hI.st.2.2.1
          have hC : CkS s11 i (c 16) false := CkS.mk (by rw [x90]; exact hI.rm) ⟨by rw [x13]; decide, by rw [x10]; exact hI.fr⟩ (by rw [e11, up3_g, if_pos ⟨rfl, rfl, rfl⟩]; rfl) hF11.es
          have hM : MkS τ10 τ10 i 431 (c 16) false := MkS.mk (by rw [← ht10, up3_g, if_pos ⟨rfl, rfl, rfl⟩]; rfl) (by rw [← ht10, up3_g, if_neg (by omega), up3_g, if_pos ⟨rfl, rfl, rfl⟩]; rfl) h11.1.esk' (by omega) rfl rfl Fr.rf okt10
          obtain ⟨σ9, ⟨τ9, ha, hm⟩, ok9, f9, g9⟩ := e9_plain (Q := fun σ' => ∃ τ', AnP τ10 i (nI ((if true then 1 else 0) + 1)) σ' τ' ∧ ∀ R : St → Prop, R τ' → w14_make τ10 i (-1) (if true then 1 else 0) R) hi (by decide) ok11 (j_plain0 (s := 431) (t := 1) (d := true) hi hC hM (by omega) (by omega) (by decide) (by decide) (fun σ' h => h))
          refine g9 _ ?_
          obtain ⟨L, hL', p', d, s', ar, ad, a13, a90, ask, as6, alv, abg, ahl, acl, abp, abl, akb, aeab, a56, a56', afr, aok⟩ := ha
          have d1 : d = 1 := by
            have := (nI_eq (a := 1 + 1) (b := d + 1) (by omega) (by omega)).mp ar
            omega
          have F9 : Fr (mF [44, 90] [] [(13, [1])] []) s11 σ9 := f9.sub (mF_sub rfl (sub_c (Or.inl rfl) (sub_c (Or.inl rfl) sub_nil)) rfl (sud_c (Or.inl ⟨_, List.mem_of_getElem? (i := 0) rfl, rfl⟩) sud_nil))
          refine br_f (by decide) (fun s5 e5 => br_v (by decide) (fun s6 e6' => br_f (by decide) (fun sA eA => ?_)))
          have FA : Fr (mF [] [] [(8, [5]), (11, [26, 27])] []) σ9 sA := by rw [eA, e6', e5]; exact ((fr_u rfl).up rfl).up rfl
          have rA : sA 11 i = (va_up (va_up (s11 11 i) 26 ((s11 11 i 10))) 27 (nI d)) := by
            rw [eA, up3_r, if_pos ⟨rfl, rfl⟩, e6', up3_r, if_neg (by omega), e5, up3_r, if_pos ⟨rfl, rfl⟩, F9.row (k := 11) fun _ => rfl, d1]
            rfl
          have mA : τ9 15 i = (va_up (va_up (va_up (va_up (va_up (va_up (τ10 15 i) 29 ((τ10 15 i 5))) 26 (nI hL')) 30 (nI d)) 27 (nI p')) 28 (nI (L - hL'))) 38 (nI s')) := by
            funext j
            simp only [vu_g]
            by_cases j38 : j = 38
            · rw [if_pos j38, j38]; exact alv
            rw [if_neg j38]
            by_cases j28 : j = 28
            · rw [if_pos j28, j28]; exact abl
            rw [if_neg j28]
            by_cases j27 : j = 27
            · rw [if_pos j27, j27]; exact abp
            rw [if_neg j27]
            by_cases j30 : j = 30
            · rw [if_pos j30, j30]; exact acl
            rw [if_neg j30]
            by_cases j26 : j = 26
            · rw [if_pos j26, j26]; exact ahl
            rw [if_neg j26]
            by_cases j29 : j = 29
            · rw [if_pos j29, j29]; exact abg
            rw [if_neg j29]
            exact afr _ _ _ (by simp [mF, j26, j27, j28, j29, j30, j38])
          have rA12 : sA 12 i = (va_up (s11 12 i) 3 (nI s')) := by
            have e12 : sA 12 i = s11 12 i := by rw [FA.row (k := 12) fun _ => rfl, F9.row (k := 12) fun _ => rfl]
            have e3 : s11 12 i 3 = nI s' := by rw [← ask, F9 _ _ _ rfl]
            rw [e12, vu_eq e3]
          have rA13 : sA 13 i = (va_up (s11 13 i) 1 (nI L)) := by
            rw [FA.row (k := 13) fun _ => rfl]
            funext j
            rw [vu_g]
            by_cases j3 : j = 1
            · rw [if_pos j3, j3]; exact a13
            · rw [if_neg j3]; exact F9 _ _ _ (by simp [mF, j3])
          have hA := h11.ans (σ' := sA) (τ' := τ9) (L' := L) (h' := hL') (p' := p') (d' := d) (s' := s') hst cd (by show (c 3) = (c 1) + (c 5); omega) cf rA mA rA12 rA13 (by rw [FA.row (k := 42) fun _ => rfl]; exact F9.row fun _ => rfl) (by rw [FA.row (k := 43) fun _ => rfl]; exact F9.row fun _ => rfl) (by rw [FA _ _ _ rfl]; exact a90) (afr.row fun _ => rfl) (afr.row fun _ => rfl) (fun j hj => by rw [FA.row (k := 44) fun _ => rfl]; exact aeab j hj) akb (by show (c 3) + L + 2 < 1000000000; omega) as6 ad
          refine s12_leave0 hA (by simp only [cup_g, Nat.reduceEqDiff, reduceIte]; omega) (mo2 _ (mo3 _ (br_t (by decide) (s15_held mh4 (br_u (by rw [e4096]; rfl) ?_)))))
          refine s15_held mh4 (gM _ (fun s3 e3 s4 e4 => ?_))
          rw [e3, ht10] at e4
          rw [e4]
          refine hm _ (br_t rfl ⟨rfl, ?_⟩)
          have rk11 : RK s11 τ10 := (((rk4.f F6 (Fr.rf (M := mF [] [] [] []))).f F8 G8).f F11 G10)
          have rkA : RK sA τ9 := by
            refine rk11.an ?_ ?_ ?_ ?_ a56' a56
            · rw [FA _ _ _ rfl, F9 _ _ _ rfl]
            · rw [FA _ _ _ rfl, F9 _ _ _ rfl]
            · intro j hj; rw [FA _ _ _ (by simp [mF, hj]), F9 _ _ _ (by simp [mF])]
            · rw [eA, up3_g, if_neg (by omega), e6', up3_g, if_pos ⟨rfl, rfl, rfl⟩, e5, up3_g, if_neg (by omega), F9 _ _ _ rfl]
          refine lk0 sA τ9 _ rkA ?_ (Or.inr (by rw [FA _ _ _ rfl]; exact a90)) hA rfl rfl rfl rfl rfl rfl ?_ (Or.inr ⟨rfl, Or.inl ?_, ?_⟩)
          · rw [FA.row (k := 40) fun _ => rfl, F9.row (k := 40) fun _ => rfl, F11.row (k := 40) fun _ => rfl, F8.row (k := 40) fun _ => rfl, F6.row (k := 40) fun _ => rfl, afr.row (k := 66) fun _ => rfl, G10.row (k := 66) fun _ => rfl, G8.row (k := 66) fun _ => rfl]
            exact hh4
          · simp only [cup_g, Nat.reduceEqDiff, reduceIte]; omega
          · simp only [cup_g, Nat.reduceEqDiff, reduceIte]; omega
          · simp only [cup_g, Nat.reduceEqDiff, reduceIte]; omega
        refine br_f (nI_ge (b := 4096) (by omega) (by omega)) ?_
        have mo4 : ∀ (Q : Int32 → St → Prop), ((¬ (τ4 15 i 0) = 7 → Q 0 τ4) ∧ ((τ4 15 i 0) = 7 → (∀ σ10, σ10 = up3 τ4 15 i 30 1 → (Q 0 σ10)))) → w14_oneRequest τ i Q := fun Q hq => mo3 Q (br_t (by decide) (s15_held mh4 (br_v (fun z => by have := (nI_eq (b := 4096) (by omega) (by omega)).mp z; omega) hq)))
        rw [hxs]
        by_cases c7 : (c 0) = 7
        rotate_left
        · rw [if_neg c7]
          refine br_t rfl (br_t rfl (s12_leave0 h6 (by simp only [cup_g, Nat.reduceEqDiff, reduceIte]; omega) (mo2 _ (mo4 _ (br_v (fun z => c7 (by rw [st4] at z; exact (nI_eq (b := 7) (by omega) (by omega)).mp z)) (br_t rfl ⟨rfl, ?_⟩))))))
          exact lk0 σ6 τ4 _ (rk4.f F6 (Fr.rf (M := mF [] [] [] []))) (by rw [o6 _ _ (by decide)]; exact hh4) (by rw [o6 _ _ (by decide), F4 _ _ _ rfl]; exact hI.rm) h6 rfl rfl rfl rfl rfl rfl hle4 (Or.inl ⟨rfl, rfl, rfl⟩)
        rw [if_pos c7]
        refine br_f (by decide) (br_f (by decide) (fun s5 e5 => br_u rfl (fun s11 e11 => br_f (by decide) (fun s9 e9 => ?_))))
        have t10 : τ4 15 i 0 = 7 := by rw [st4, c7]; rfl
        have hC9 : s9 11 i = (va_up (va_up (σ6 11 i) 26 ((σ6 11 i 10))) 27 1) := by rw [e9, up3_r, if_pos ⟨rfl, rfl⟩, e11, up3_r, if_neg (by omega), e5, up3_r, if_pos ⟨rfl, rfl⟩]
        have h13' : s9 13 i = (va_up (σ6 13 i) 1 0) := by rw [e9, up3_r, if_neg (by omega), e11, up3_r, if_pos ⟨rfl, rfl⟩, e5, up3_r, if_neg (by omega)]
        have F9 : Fr (mF [] [] [(11, [26, 27]), (13, [1])] []) σ6 s9 := by rw [e9, e11, e5]; exact ((fr_u rfl).up rfl).up rfl
        have G9 : Fr (mF [] [] [(15, [30])] []) τ4 (up3 τ4 15 i 30 1) := fr_u rfl
        have h9 := h6.clo (σ' := s9) (τ' := up3 τ4 15 i 30 1) hst cd (by show (c 3) = (c 1) + (c 5); omega) cf hC9 (by rw [up3_r, if_pos ⟨rfl, rfl⟩]) (F9.row fun _ => rfl) h13' (F9.row fun _ => rfl) (F9.row fun _ => rfl) (mrows.f G9)
        refine s12_leave0 h9 (by simp only [cup_g, Nat.reduceEqDiff, reduceIte]; omega) (mo2 _ (mo4 _ (br_u t10 (fun s10 e10 => br_t rfl ⟨rfl, ?_⟩))))
        rw [e10]
        refine lk0 s9 _ _ ((rk4.f F6 (Fr.rf (M := mF [] [] [] []))).f F9 G9) ?_ (by rw [F9 _ _ _ rfl, o6 _ _ (by decide), F4 _ _ _ rfl]; exact hI.rm) h9 rfl rfl rfl rfl rfl rfl hle4 (Or.inr ⟨rfl, Or.inr rfl, by simp [cup_g]⟩)
        rw [F9.row (k := 40) fun _ => rfl, o6 _ _ (by decide), G9.row (k := 66) fun _ => rfl]
        exact hh4
      -- a whole head
      have npos : 0 < n := by omega
      have c0 : (c 16) = 0 := by omega
      refine s9_headEnd eh4 (by omega) (fun _ => ?_) (fun z => absurd z (by rw [hN0]; omega))
      rw [hN0]
      intro σ6 e6
      have v6 : σ6 9 0 2 = nI n := by rw [e6, up3_g, if_pos ⟨rfl, rfl, rfl⟩]
      have o6 : ∀ k i', k ≠ 9 → σ6 k i' = σ4 k i' := fun k i' hk => by rw [e6, up3_r, if_neg (fun z => hk z.1)]
      rw [v6]
      refine br_t (nI_le (a := 0) (by omega) (by omega)) (s19_copy (a := 0) (b := 0) (by omega) (by decide) (by omega) (by omega) (by omega) (by show 0 + n ≤ 4096; omega) (by show 0 + n ≤ 4096; omega) ?_)
      rw [o6 42 _ (by decide), o6 40 _ (by decide)]
      generalize hs7 : row3 σ6 40 0 (va_cpy (σ4 42 i) (σ4 40 0) 0 0 n) = σ7
      generalize ht7 : row3 (up3 τ4 14 0 42 (nI n)) 66 0 (va_cpy (τ4 72 i) (τ4 66 0) 0 0 n) = τ7
      have F7 : Fr (mF [40] [] [(9, [2])] []) σ4 σ7 := by rw [← hs7, e6]; exact (fr_u rfl).tr (fr_r (fun _ => rfl))
      have G7 : Fr (mF [66] [] [(14, [42])] []) τ4 τ7 := by rw [← ht7]; exact (fr_u rfl).tr (fr_r (fun _ => rfl))
      have ok7 : okS σ7 := by
        rw [← hs7, e6]
        exact ok_rowb (ok_n ok4 rfl) (tyk_a 40 2 (by decide) (by decide)) (by_cpy (fun j => ok_by ok4 (tyk_a 42 2 (by decide) (by decide)) j) (fun j => ok_by ok4 (tyk_a 40 2 (by decide) (by decide)) j))
      have okt7 : okS τ7 := by
        rw [← ht7]
        exact ok_rowb (ok_n okt4 rfl) (tyk_a 66 2 (by decide) (by decide)) (by_cpy (fun j => ok_by okt4 (tyk_a 72 2 (by decide) (by decide)) j) (fun j => ok_by okt4 (tyk_a 66 2 (by decide) (by decide)) j))
      have h7 : RCq σ7 τ7 t i (cup c 14 hd4) := h4.c (F7.row fun _ => rfl) (F7.row fun _ => rfl) (F7.row fun _ => rfl) (F7.row fun _ => rfl) (F7.row fun _ => rfl) (F7.row fun _ => rfl) (F7 _ _ _ rfl) (G7.row fun _ => rfl) (G7.row fun _ => rfl) (G7.row fun _ => rfl) (G7.row fun _ => rfl) (G7.row fun _ => rfl)
      obtain ⟨σ8, τ8, gC, gM, ok8, okt8, f8, g8, h8, _⟩ := R_take (n := n) hi ok7 okt7 h7 (by simp only [cup_g, Nat.reduceEqDiff, reduceIte]; omega)
      have v7 : σ7 9 0 2 = nI n := by rw [← hs7, row3_o (by omega)]; exact v6
      rw [v7]
      refine gC _ ?_
      have F8 : Fr (mF [42, 43] [] [(12, [2])] []) σ7 σ8 := f8.sub (mF_sub rfl (sub_c (Or.inl rfl) (sub_c (Or.inl rfl) sub_nil)) rfl (sud_c (Or.inl ⟨_, List.mem_of_getElem? (i := 0) rfl, rfl⟩) sud_nil))
      have G8 : Fr (mF [72, 73] [] [(15, [35, 39])] []) τ7 τ8 := g8.sub (mF_sub rfl (sub_c (Or.inl rfl) (sub_c (Or.inl rfl) sub_nil)) rfl (sud_c (Or.inl ⟨_, List.mem_of_getElem? (i := 0) rfl, rfl⟩) sud_nil))
      generalize ht10 : rsM τ8 = τ10
      have G10 : Fr (mF [] [] [(14, [43, 44, 45, 46, 47, 48, 49, 50, 51, 52, 53, 54, 55])] []) τ8 τ10 := by rw [← ht10]; exact rsM_f τ8
      have okt10 : okS τ10 := by rw [← ht10]; exact rsM_ok okt8
      have h10 : RCq σ8 τ10 t i (cup (cup c 14 hd4) 14 (hd4 - n)) := by
        have := h8.c (σ' := σ8) (τ' := τ10) rfl rfl rfl rfl rfl rfl rfl (G10.row fun _ => rfl) (G10.row fun _ => rfl) (G10.row fun _ => rfl) (G10.row fun _ => rfl) (G10.row fun _ => rfl)
        simp only [cup_g, Nat.reduceEqDiff, reduceIte] at this
        exact this
      have r40 : σ8 40 0 = va_cpy (τ4 72 i) (τ4 66 0) 0 0 n := by rw [F8.row (k := 40) fun _ => rfl, ← hs7, row3_s, er4, hh4]
      have r66 : τ10 66 0 = va_cpy (τ4 72 i) (τ4 66 0) 0 0 n := by rw [G10.row (k := 66) fun _ => rfl, G8.row (k := 66) fun _ => rfl, ← ht7, row3_s]
      have hF10 := h10.cf
      have hSt8 : RSt σ8 τ10 := (((hI.st.f F4 G4).f F7 G7).f F8 G8).f (Fr.rf (M := mF [] [] [] [])) G10
      have x90 : σ8 90 (i + 1) 0 = σ 90 (i + 1) 0 := by rw [F8 _ _ _ rfl, F7 _ _ _ rfl, F4 _ _ _ rfl]
      have x10 : σ8 10 0 7 = σ 10 0 7 := by rw [F8 _ _ _ rfl, F7 _ _ _ rfl, F4 _ _ _ rfl]
      have hfre : fre σ8 44 := ⟨by rw [hSt8.2.2.1]; decide, by rw [x10]; exact hI.fr⟩
      have hHL : HL (nC σ8) n := HL_x (fun k hk => by
        show ub (σ4 42 i k) = ub (σ8 40 0 k)
        rw [r40, pk_cpy_in (by omega) (by omega), er4, Nat.sub_zero, Nat.zero_add]) (hE_HL hN0 npos)
      have x42 : τ10 14 0 42 = nI n := by rw [G10 _ _ _ rfl, G8 _ _ _ rfl, ← ht7, row3_o (by omega), up3_g, if_pos ⟨rfl, rfl, rfl⟩]
      obtain ⟨r9, σ9, ⟨hr9, τ9, ha, hm⟩, ok9, f9, g9⟩ := e9_answer hi hi ok8 (j_ans (n := n) (sk := (c 16)) (N := nC σ8) hi ok8 okt10 rfl (by unfold nM nC; rw [r40, r66]) npos (by omega) hHL hSt8 (by rw [x90]; exact hI.rm) hfre hF10.es h10.1.esk' (by omega) x42 (by rw [← ht10]; exact rsM_0 τ8))
      refine g9 _ ?_
      obtain ⟨L, hL', p', d, s', ar, ad, a13, a90, ask, as6, alv, abg, ahl, acl, abp, abl, akb, aeab, a56, a56', afr, aok⟩ := ha
      have r9n0 : ¬ r9 = 0 := by rw [ar]; exact nI_ne0 (by omega) (by omega)
      have r9n3 : ¬ r9 = 3 := by rw [ar]; exact fun z => by have := (nI_eq (b := 3) (by omega) (by omega)).mp z; omega
      have F9 : Fr (mF [41, 44, 90] [] [(9, [3, 4, 5, 6, 7, 8, 9, 10, 11, 12, 13, 14, 15, 16, 18]), (12, [3]), (13, [1])] []) σ8 σ9 := f9.sub (mF_sub rfl (sub_c (Or.inl rfl) (sub_c (Or.inl rfl) sub_nil)) rfl (sud_c (Or.inl ⟨_, List.mem_of_getElem? (i := 1) rfl, rfl⟩) (sud_c (Or.inl ⟨_, List.mem_of_getElem? (i := 2) rfl, rfl⟩) sud_nil)))
      refine br_f r9n0 (fun s5 e5 => br_v r9n3 (fun s6 e6' => ?_))
      have fin : ∀ sA, sA = up3 s6 11 i 27 (nI d) → w12_leaveOut sA i (fun σ' => w14_requests_J55 τ i (fun _ => True) (fun τ' x => x = 0 ∧ LkP t i c σ' τ')) := by
        intro sA eA
        have okA : okS sA := by rw [eA, e6', e5]; exact ok_z (ok_n (ok_n ok9 rfl) rfl) rfl (by rcases (show d = 0 ∨ d = 1 by omega) with z | z <;> rw [z]; exact Or.inl rfl; exact Or.inr rfl)
        have FA : Fr (mF [] [] [(8, [5]), (11, [26, 27])] []) σ9 sA := by rw [eA, e6', e5]; exact ((fr_u rfl).up rfl).up rfl
        have rA : sA 11 i = (va_up (va_up (σ8 11 i) 26 ((σ8 11 i 10))) 27 (nI d)) := by
          rw [eA, up3_r, if_pos ⟨rfl, rfl⟩, e6', up3_r, if_neg (by omega), e5, up3_r, if_pos ⟨rfl, rfl⟩, F9.row (k := 11) fun _ => rfl]
        have mA : τ9 15 i = (va_up (va_up (va_up (va_up (va_up (va_up (τ10 15 i) 29 ((τ10 15 i 5))) 26 (nI hL')) 30 (nI d)) 27 (nI p')) 28 (nI (L - hL'))) 38 (nI s')) := by
          funext j
          simp only [vu_g]
          by_cases j38 : j = 38
          · rw [if_pos j38, j38]; exact alv
          rw [if_neg j38]
          by_cases j28 : j = 28
          · rw [if_pos j28, j28]; exact abl
          rw [if_neg j28]
          by_cases j27 : j = 27
          · rw [if_pos j27, j27]; exact abp
          rw [if_neg j27]
          by_cases j30 : j = 30
          · rw [if_pos j30, j30]; exact acl
          rw [if_neg j30]
          by_cases j26 : j = 26
          · rw [if_pos j26, j26]; exact ahl
          rw [if_neg j26]
          by_cases j29 : j = 29
          · rw [if_pos j29, j29]; exact abg
          rw [if_neg j29]
          exact afr _ _ _ (by simp [mF, j26, j27, j28, j29, j30, j38])
        have rA12 : sA 12 i = (va_up (σ8 12 i) 3 (nI s')) := by
          rw [FA.row (k := 12) fun _ => rfl]
          funext j
          rw [vu_g]
          by_cases j3 : j = 3
          · rw [if_pos j3, j3]; exact ask
          · rw [if_neg j3]; exact F9 _ _ _ (by simp [mF, j3])
        have rA13 : sA 13 i = (va_up (σ8 13 i) 1 (nI L)) := by
          rw [FA.row (k := 13) fun _ => rfl]
          funext j
          rw [vu_g]
          by_cases j3 : j = 1
          · rw [if_pos j3, j3]; exact a13
          · rw [if_neg j3]; exact F9 _ _ _ (by simp [mF, j3])
        have hA := h10.ans (σ' := sA) (τ' := τ9) (L' := L) (h' := hL') (p' := p') (d' := d) (s' := s') hst cd (by show (c 3) = (c 1) + (c 5); omega) cf rA mA rA12 rA13 (by rw [FA.row (k := 42) fun _ => rfl]; exact F9.row fun _ => rfl) (by rw [FA.row (k := 43) fun _ => rfl]; exact F9.row fun _ => rfl) (by rw [FA _ _ _ rfl]; exact a90) (afr.row fun _ => rfl) (afr.row fun _ => rfl) (fun j hj => by rw [FA.row (k := 44) fun _ => rfl]; exact aeab j hj) akb (by show (c 3) + L + 2 < 1000000000; omega) as6 ad
        obtain ⟨σF, τF, gF, gF', kF, kF', fF, fF', hq⟩ := R_leave hi okA aok hA
        refine gF _ (mo2 _ (mo3 _ (br_f (nI_nle (by omega) (by omega)) (s14_answer (τ8 := τ8) (by omega) (by rw [ht7]; exact gM) ?_))))
        rw [ht10]
        refine hm _ (gF' _ (br_t rfl ⟨rfl, ?_⟩))
        have FF : Fr (mF [42, 43] [] [(12, [2, 3])] []) sA σF := fF.sub (mF_sub rfl (sub_c (Or.inl rfl) (sub_c (Or.inl rfl) sub_nil)) rfl (sud_c (Or.inl ⟨_, List.mem_of_getElem? (i := 0) rfl, rfl⟩) sud_nil))
        have GF : Fr (mF [72, 73] [] [(15, [35, 38, 39])] []) τ9 τF := fF'.sub (mF_sub rfl (sub_c (Or.inl rfl) (sub_c (Or.inl rfl) sub_nil)) rfl (sud_c (Or.inl ⟨_, List.mem_of_getElem? (i := 0) rfl, rfl⟩) sud_nil))
        have rk10 : RK σ8 τ10 := ((rk4.f F7 G7).f F8 G8).f (Fr.rf (M := mF [] [] [] [])) G10
        have rkA : RK sA τ9 := by
          refine rk10.an ?_ ?_ ?_ ?_ a56' a56
          · rw [FA _ _ _ rfl, F9 _ _ _ rfl]
          · rw [FA _ _ _ rfl, F9 _ _ _ rfl]
          · intro j hj; rw [FA _ _ _ (by simp [mF, hj]), F9 _ _ _ (by simp [mF])]
          · rw [eA, up3_g, if_neg (by omega), e6', up3_g, if_pos ⟨rfl, rfl, rfl⟩, e5, up3_g, if_neg (by omega), F9 _ _ _ rfl]
        refine lk0 σF τF _ (rkA.f FF GF) ?_ (Or.inr (by rw [FF _ _ _ rfl, FA _ _ _ rfl]; exact a90)) hq rfl rfl rfl rfl rfl rfl ?_ (Or.inr ⟨rfl, Or.inl ?_, ?_⟩)
        · rw [FF.row (k := 40) fun _ => rfl, FA.row (k := 40) fun _ => rfl, F9.row (k := 40) fun _ => rfl, GF.row (k := 66) fun _ => rfl, afr.row (k := 66) fun _ => rfl, r40, r66]
        · simp only [cup_g, Nat.reduceEqDiff, reduceIte]; omega
        · simp only [cup_g, Nat.reduceEqDiff, reduceIte]; omega
        · simp only [cup_g, Nat.reduceEqDiff, reduceIte]; omega
      by_cases d0 : d = 0
      · exact br_t (by rw [ar, d0]; rfl) (fun s7 e7 => fin s7 (by rw [e7, d0]; rfl))
      · have d1 : d = 1 := by omega
        exact br_f (by rw [ar, d1]; decide) (fun s7 e7 => fin s7 (by rw [e7, d1]; rfl))
    show (¬ (σ 11 i 2) = 7 → _) ∧ _
    rw [hF.e2]
    by_cases c7 : (c 0) = 7
    · exact br_u (by rw [c7]; rfl) (look 1 (by rw [if_pos c7]))
    · exact br_v (fun z => c7 ((nI_eq (b := 7) (by omega) (by omega)).mp z)) (look 0 (by rw [if_neg c7]))
  obtain ⟨σ', h, k1, f1, g1⟩ := e11_look hi ok hj
  obtain ⟨τ', x, h, k2, f2, g2⟩ := e14_requests_J55 hi ok' h
  obtain ⟨hx, h⟩ := h
  subst hx
  exact ⟨σ', τ', g1, fun Q K hk => g2 Q K hk, k1, k2, f1, f2, h⟩
