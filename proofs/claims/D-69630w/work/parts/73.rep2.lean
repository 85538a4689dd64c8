/-! what was sent once more: side by side -/
set_option maxRecDepth 100000
def RepP (σ : St) (t l b i : Nat) (c : CK) (σ' τ' : St) : Prop := NB σ' τ' t l (b + 4) ∧ RK σ' τ' ∧ ∃ c' : CK, RCn σ' τ' t i c' ∧ (c' 0) = (c 0) ∧ (c' 1) = (c 1) ∧ (c' 2) = (c 2) ∧ (c' 3) = (c 3) ∧ (c' 4) = (c 4) ∧ (c' 5) = (c 5) ∧ (c' 17) = (c 17) ∧ (c' 18) = (c 18) ∧ (c' 14) = (c 14) ∧ (c' 16) = (c 16) ∧ (c' 13) = (c 13) ∧ (c' 8) = (c 8) ∧ ((c' 15) = (c 15) ∨ (c' 15) = 4096 - (c 14))
theorem R_rep {σ τ : St} {t l b i : Nat} {c : CK} (hi : i < 16) (ok : okS σ) (ok' : okS τ) (hN : NB σ τ t l b) (hb : b < 2147480000) (hK : RK σ τ) (h : RCn σ τ t i c) (hst : 2 ≤ (c 0)) (hux : (c 2) < (c 4)) :
    RunV σ τ (w11_repeat σ i) (w14_duplicate τ i) (mF [23, 25, 26, 32, 35, 36] [] [(2, [3]), (3, [9]), (4, [0, 1, 2, 4]), (5, [2]), (8, [4])] [(11, i, [14, 15, 18, 19, 21, 22, 29, 30, 34])]) (mF [56, 57, 58, 59, 60, 68] [] [(14, [18, 23, 24, 25]), (17, [0, 1, 2, 3, 4, 5])] [(15, i, [0, 11, 12, 17, 18, 19, 20, 21, 22, 24, 31, 37, 39])]) (RepP σ t l b i c) := by
  obtain ⟨s0, o0, n1, n2, n3, nl, n4, n5, n6⟩ := id hN
  have now1 : (σ 2 0 4) = nI t := n1.2.1.1
  have now2 : (τ 14 0 10) = nI t := n1.2.1.2.1
  have q1 := h.ua
  have q2 := h.ax
  have q3 := h.xe
  have q4 := h.bu hst
  have q5 := h.f1
  have q6 := h.d1
  have q7 := h.bb
  have q8 := h.L6
  have q9 := h.ms1
  have q10 := h.ms2
  have q11 := h.cw1
  have q12 := h.cw2
  have q13 := h.fin
  have q14 := h.hL
  have q15 := h.s8
  have q16 := h.bml
  have q17 := h.bmb
  have q18 := h.bmL
  generalize hdu : (σ 11 i 18) + 1 = du
  have hdu' : (τ 15 i 24) + 1 = du := by rw [← h.edu]; exact hdu
  have hj : w11_repeat σ i (fun σ' => w14_duplicate τ i (fun τ' => RepP σ t l b i c σ' τ')) := by
    intro s1 e1
    rw [hdu] at e1
    have f1 : Fr (mF [] [] [(11, [18])] []) σ s1 := by rw [e1]; exact fr_u rfl
    have r1 : s1 11 i = va_up (σ 11 i) 18 du := by rw [e1, up3_r, if_pos ⟨rfl, rfl⟩]
    have d1 : s1 11 i 18 = du := by rw [r1, vu_g, if_pos rfl]
    rw [d1]
    by_cases cA : 3 ≤ du
    rotate_left
    · refine br_f cA (fun t1 et => ?_)
      rw [hdu'] at et
      have g1 : Fr (mF [] [] [(15, [24])] []) τ t1 := by rw [et]; exact fr_u rfl
      have w24 : t1 15 i 24 = du := by rw [et, up3_g, if_pos ⟨rfl, rfl, rfl⟩]
      rw [w24]
      refine br_v (fun z => cA (by rw [z]; decide)) (br_t (Int32.le_of_lt (Int32.not_le.mp cA)) ?_)
      refine ⟨(hN.f f1 g1).up (by omega), hK.f f1 g1, _, h.dup (cw' := (c 10)) hst ⟨q11, q12⟩ (du := du) ?_ ?_ (crows.f f1) (mrows.f g1), ?_⟩
      · have e14 : va_up (σ 11 i) 18 du 14 = nI (c 10) := by rw [vu_g, if_neg (by decide)]; exact h.ecw
        rw [r1, vu_eq e14]
      · have e11 : va_up (τ 15 i) 24 du 11 = nI (c 10) := by rw [vu_g, if_neg (by decide)]; exact h.ecw'
        rw [et, up3_r, if_pos ⟨rfl, rfl⟩, vu_eq e11]
      · simp only [cup_g, Nat.reduceEqDiff, reduceIte]
        simp
    refine br_t cA ?_
    by_cases cB : du ≤ 3
    rotate_left
    · refine br_f cB (fun s2 e2 => (fun t1 et => ?_))
      rw [hdu'] at et
      have w24 : t1 15 i 24 = du := by rw [et, up3_g, if_pos ⟨rfl, rfl, rfl⟩]
      have w14 : s1 11 i 14 = nI (c 10) := by rw [r1, vu_g, if_neg (by decide)]; exact h.ecw
      have w13 : s1 11 i 13 = nI (c 9) := by rw [r1, vu_g, if_neg (by decide)]; exact h.ems
      have v11 : t1 15 i 11 = nI (c 10) := by rw [et, up3_g, if_neg (by omega)]; exact h.ecw'
      have v10 : t1 15 i 10 = nI (c 9) := by rw [et, up3_g, if_neg (by omega)]; exact h.ems'
      rw [w14, w13, nI_add, show imin (nI ((c 10) + (c 9))) 65535 = nI (min ((c 10) + (c 9)) 65535) from imin_n (b := 65535) (by omega) (by omega)] at e2
      rw [w24]
      refine br_v (fun z => cB (by rw [z]; decide)) (br_f cB (fun t2 et2 => ?_))
      rw [v11, v10, nI_add, show imin 65535 (nI ((c 10) + (c 9))) = nI (min 65535 ((c 10) + (c 9))) from imin_n (a := 65535) (by omega) (by omega), Nat.min_comm] at et2
      have F2 : Fr (mF [] [] [(11, [14, 18])] []) σ s2 := by rw [e2, e1]; exact (fr_u rfl).up rfl
      have G2 : Fr (mF [] [] [(15, [11, 24])] []) τ t2 := by rw [et2, et]; exact (fr_u rfl).up rfl
      refine ⟨(hN.f F2 G2).up (by omega), hK.f F2 G2, _, h.dup (cw' := min ((c 10) + (c 9)) 65535) hst ⟨by omega, by omega⟩ (du := du) ?_ ?_ (crows.f F2) (mrows.f G2), ?_⟩
      · rw [e2, up3_r, if_pos ⟨rfl, rfl⟩, r1]
      · rw [et2, up3_r, if_pos ⟨rfl, rfl⟩, et, up3_r, if_pos ⟨rfl, rfl⟩]
      · simp only [cup_g, Nat.reduceEqDiff, reduceIte]
        simp
    refine br_t cB ?_
    have h3 : du = 3 := Int32.le_antisymm cB cA
    -- the numbers
    have hf27 := h.fst
    generalize hss : max (((c 4) - (c 2)) / 2) (2 * (c 9)) = ss'
    generalize hn : min (c 9) (min ((c 4) - (c 2)) ((c 1) + (c 5) - (c 2))) = n
    obtain ⟨fi, hfi⟩ : ∃ fi : Nat, (fi = 1 ∧ (c 18) = 1 ∧ (c 2) + n = (c 1) + (c 5) ∨ fi = 0 ∧ ¬ ((c 18) = 1 ∧ (c 2) + n = (c 1) + (c 5))) := by
      by_cases z : (c 18) = 1 ∧ (c 2) + n = (c 1) + (c 5)
      · exact ⟨1, Or.inl ⟨rfl, z⟩⟩
      · exact ⟨0, Or.inr ⟨rfl, z⟩⟩
    have v : ∀ j, j ≠ 18 → s1 11 i j = σ 11 i j := fun j hj => by rw [r1, vu_g, if_neg hj]
    have hst4 : (c 0) ≠ 4 ∧ (c 0) ≠ 6 := by
      constructor
      · intro z; have := (q13 (Or.inl z)).1; omega
      · intro z; have := (q13 (Or.inr z)).1; omega
    have hhalf : imax ((s1 11 i 11 - s1 11 i 9) / 2) (2 * s1 11 i 13) = nI ss' := by
      rw [v 11 (by decide), v 9 (by decide), v 13 (by decide), h.emx, h.eun, h.ems, so_4 _ _ _ (by omega), show nI ((c 4) - (c 2)) / 2 = nI (((c 4) - (c 2)) / 2) from pk_div (d := 2) (by omega) (by decide) (by decide), show (2 : Int32) * nI (c 9) = nI (2 * (c 9)) from pk_mul 2 _, imax_n (by omega) (by omega), hss]
    show ∀ σ3, σ3 = up3 s1 11 i 15 (imax ((s1 11 i 11 - s1 11 i 9) / 2) (2 * s1 11 i 13)) → _
    rw [hhalf]
    intro s3 e3
    have v3 : ∀ j, j ≠ 18 → j ≠ 15 → s3 11 i j = σ 11 i j := fun j a b => by rw [e3, up3_g, if_neg (fun z => b z.2.2)]; exact v j a
    have b13 : s3 13 i 1 = nI (c 5) := by rw [e3, up3_g, if_neg (by omega), e1, up3_g, if_neg (by omega)]; exact h.eL
    have hun : s3 11 i 9 = (τ 15 i 3) + nI (c 2) := (v3 9 (by decide) (by decide)).trans h.eun
    have hend : s3 11 i 26 + s3 13 i 1 = (τ 15 i 3) + nI ((c 1) + (c 5)) := by rw [v3 26 (by decide) (by decide), h.eba, b13, so_5]
    have hnn : imin (s3 11 i 13) (imin (s3 11 i 11 - s3 11 i 9) (s3 11 i 26 + s3 13 i 1 - s3 11 i 9)) = nI n := by
      rw [hend, hun, v3 13 (by decide) (by decide), v3 11 (by decide) (by decide), h.ems, h.emx, so_4 _ _ _ (by omega), so_4 _ _ _ (by omega), imin_n (by omega) (by omega), imin_n (by omega) (by omega), hn]
    have hnle : n ≤ (c 9) ∧ (c 2) + n ≤ (c 1) + (c 5) := by omega
    have hfi1 : fi ≤ 1 := by omega
    -- the component, from the count on
    have ok3 : okS s3 := by rw [e3, e1]; exact ok_n (ok_n ok rfl) rfl
    have f3 : Fr (mF [] [] [] [(11, i, [15, 18])]) σ s3 := by rw [e3, e1]; exact (fr_u (by simp [mF])).up (by simp [mF])
    have j98 : w11_repeat_J98 s3 i (nI n) (nI fi) (fun σ' => w14_duplicate τ i (fun τ' => RepP σ t l b i c σ' τ')) := by
      intro s5 e5 s6 e6
      have ok6 : okS s6 := by rw [e6, e5]; exact ok_z (ok_n ok3 rfl) rfl (Or.inl rfl)
      have f6 : Fr (mF [] [] [(8, [4])] [(11, i, [15, 18, 34])]) σ s6 := by
        rw [e6, e5]
        exact ((f3.sub (mF_sub rfl sub_nil rfl (sud_c (Or.inr ⟨_, List.mem_of_getElem? (i := 0) rfl, rfl⟩) sud_nil))).up (by simp [mF])).up (by simp [mF])
      have c84 : s6 8 0 4 = (σ 8 0 4) + 1 := by rw [e6, up3_g, if_neg (by omega), e5, up3_g, if_pos ⟨rfl, rfl, rfl⟩, f3 _ _ _ (by simp [mF])]
      have r6 : s6 11 i = (va_up (va_up (va_up (σ 11 i) 18 du) 15 (nI ss')) 34 0) := by rw [e6, up3_r, if_pos ⟨rfl, rfl⟩, e5, up3_r, if_neg (by omega), e3, up3_r, if_pos ⟨rfl, rfl⟩, r1]
      have w6 : ∀ j, j ≠ 18 → j ≠ 15 → j ≠ 34 → s6 11 i j = σ 11 i j := fun j a b d => f6 _ _ _ (by simp [mF, a, b, d])
      have j150 : w11_repeat_J150 s6 i (nI n) (pfl (0 < n ∧ (c 2) + n = (c 1) + (c 5)) fi) (fun σ' => w14_duplicate τ i (fun τ' => RepP σ t l b i c σ' τ')) := by
        refine s11_startTimer (fun s7 f7 ok7 r7 => ?_) ok6
        have w7 : ∀ j, j ≠ 18 → j ≠ 15 → j ≠ 34 → j ≠ 29 → j ≠ 30 → s7 11 i j = σ 11 i j := fun j a b d e f => by rw [f7 _ _ _ (by simp [mF, e, f])]; exact w6 j a b d
        have F7 : Fr (mF [] [] [(8, [4]), (11, [15, 18, 29, 30, 34])] []) σ s7 := (f6.sub (mF_sub rfl sub_nil rfl (sud_c (Or.inl ⟨_, List.mem_of_getElem? (i := 1) rfl, rfl⟩) sud_nil))).tr (f7.sub (mF_sub rfl sub_nil rfl (sud_c (Or.inl ⟨_, List.mem_of_getElem? (i := 1) rfl, rfl⟩) sud_nil)))
        rw [w7 9 (by decide) (by decide) (by decide) (by decide) (by decide), w7 26 (by decide) (by decide) (by decide) (by decide) (by decide), h.eun, h.eba, so_4 _ _ _ q4]
        generalize ht3 : up3 (up3 τ 15 i 24 du) 15 i 12 (nI ss') = t3
        have ft3 : Fr (mF [] [] [(15, [12, 24])] []) τ t3 := by rw [← ht3]; exact (fr_u rfl).up rfl
        have okt3 : okS t3 := by rw [← ht3]; exact ok_n (ok_n ok' rfl) rfl
        have rt3 : t3 15 i = (va_up (va_up (τ 15 i) 24 du) 12 (nI ss')) := by rw [← ht3, up3_r, if_pos ⟨rfl, rfl⟩, up3_r, if_pos ⟨rfl, rfl⟩]
        have vt3 : ∀ j, j ≠ 24 → j ≠ 12 → t3 15 i j = τ 15 i j := fun j a b => ft3 _ _ _ (by simp [mF, a, b])
        generalize ht2 : row3 t3 57 0 (va_cpy (dat t3 i (c 6) (c 7)) (t3 57 0) ((c 2) - (c 19)) 54 n) = t2
        have ft2 : Fr (mF [57] [] [] []) t3 t2 := by rw [← ht2]; exact fr_r (fun _ => rfl)
        have G2 : Fr (mF [57] [] [(15, [12, 24])] []) τ t2 := (ft3.sub (mF_sub rfl sub_nil rfl sud_nil)).tr (ft2.sub (mF_sub rfl sub_nil rfl sud_nil))
        have bdat : ∀ j, by8 (dat t3 i (c 6) (c 7) j) := by
          intro j
          unfold dat
          split
          · exact ok_by okt3 (tyk_a 71 2 (by decide) (by decide)) j
          · exact ok_by okt3 (tyk_a 51 2 (by decide) (by decide)) _
        have okt2 : okS t2 := by
          rw [← ht2]
          exact ok_rowb okt3 (tyk_a 57 2 (by decide) (by decide)) (by_cpy bdat (fun j => ok_by okt3 (tyk_a 57 2 (by decide) (by decide)) j))
        have al44 : 0 < n → alen s7 44 i = 66047 := by
          intro z
          have e := h.eal (by omega)
          have : s7 90 (i + 1) 0 = 66047 := by rw [F7 _ _ _ rfl]; exact e
          unfold alen
          rw [if_neg (by decide), if_pos rfl, this]
          rfl
        have ab44 : abc 44 i = true := by
          have : i = 0 ∨ i = 1 ∨ i = 2 ∨ i = 3 ∨ i = 4 ∨ i = 5 ∨ i = 6 ∨ i = 7 ∨ i = 8 ∨ i = 9 ∨ i = 10 ∨ i = 11 ∨ i = 12 ∨ i = 13 ∨ i = 14 ∨ i = 15 := by omega
          rcases this with z | z | z | z | z | z | z | z | z | z | z | z | z | z | z | z <;> rw [z] <;> rfl
        have m2 : mheld t2 i (c 14) := by
          unfold mheld
          rw [G2 _ _ _ rfl, G2 _ _ _ rfl, G2 _ _ _ rfl]
          exact h.ehd'
        obtain ⟨s8, t8, g1, g2, k1, k2, x1, x2, hN8, hC8, hM8⟩ := R_cseg0 (k3 := 44) (i3 := i) (pl := (c 2) - (c 1)) (n := n) (hd := (c 14)) (seq := (τ 15 i 3) + nI (c 2)) (fl := pfl (0 < n ∧ (c 2) + n = (c 1) + (c 5)) fi) (opt := 0) (sy := false) ok7 okt2 (hN.f F7 G2) hb (by rw [F7 _ _ _ rfl, G2 _ _ _ rfl]; exact h.eip) (by rw [F7 _ _ _ rfl, G2 _ _ _ rfl]; exact h.ept) (by rw [F7 _ _ _ rfl, G2 _ _ _ rfl]; exact h.enx) (by rw [F7 _ _ _ rfl]; exact h.ehd) m2 h.hd4 pfl16 ⟨fun _ => rfl, fun _ => pfl2⟩ rfl (fun z => absurd z (by decide)) (by omega) (fun z => ⟨ab44, by decide, by rw [al44 z]; omega, by omega⟩) (fun j hj => by
          rw [F7 _ _ _ rfl, ← ht2, row3_s, pk_cpy_in (by omega) (by omega), h.eab _ (by omega) (by omega), show (c 2) - (c 19) + (54 + j - 54) = (c 2) - (c 1) + j by omega]
          unfold dat
          rw [ft3.row (k := 71) fun _ => rfl, ft3.row (k := 51) fun _ => rfl])
        refine g1 _ (fun s9 e9 s10 e10 => ?_)
        have hss2 : 2 * (c 9) ≤ ss' ∧ ss' ≤ 40000 := by omega
        have x29 : s6 11 i 29 = (σ 11 i 29) := w6 29 (by decide) (by decide) (by decide)
        have x30 : s6 11 i 30 = (σ 11 i 30) := w6 30 (by decide) (by decide) (by decide)
        have x16 : s6 11 i 16 = nI (c 12) := (w6 16 (by decide) (by decide) (by decide)).trans h.ert
        have x24 : s6 2 0 4 = nI t := by rw [f6 _ _ _ (by simp [mF])]; exact now1
        rw [x29, x30, x16, x24, nI_add, r6] at r7
        rw [r7] at hC8
        have y15 : s8 11 i 15 = nI ss' := by rw [hC8]; simp only [vu_g, Nat.reduceEqDiff, reduceIte]
        have y13 : s8 11 i 13 = nI (c 9) := by rw [hC8]; simp only [vu_g, Nat.reduceEqDiff, reduceIte]; exact h.ems
        rw [y15, y13, show (3 : Int32) * nI (c 9) = nI (3 * (c 9)) from pk_mul 3 _, nI_add, show imin (nI (ss' + 3 * (c 9))) 65535 = nI (min (ss' + 3 * (c 9)) 65535) from imin_n (b := 65535) (by omega) (by omega), Nat.min_eq_left (by omega)] at e9
        have hC10 : s10 11 i = (va_up (va_up (va_up (va_up (va_up (va_up (va_up (va_up (va_up (σ 11 i) 18 du) 15 (nI ss')) 34 0) 29 1) 30 (offv ((σ 11 i 29)) ((σ 11 i 30)) (nI (t + (c 12))))) 21 (nI (4096 - (c 14)))) 22 0) 14 (nI (ss' + 3 * (c 9)))) 19 1) := by rw [e10, up3_r, if_pos ⟨rfl, rfl⟩, e9, up3_r, if_pos ⟨rfl, rfl⟩, hC8]
        have F10 : Fr (mF [23, 25, 26, 32, 35, 36] [] [(2, [3]), (3, [9]), (4, [0, 1, 2, 4]), (5, [2]), (8, [4]), (11, [14, 15, 18, 19, 21, 22, 29, 30, 34])] []) σ s10 := by
          rw [e10, e9]
          exact (((F7.sub (mF_sub rfl sub_nil rfl sud_nil)).tr (x1.sub (mF_sub rfl sub_nil rfl (sud_c (Or.inl ⟨_, List.mem_of_getElem? (i := 5) rfl, rfl⟩) sud_nil)))).up rfl).up rfl
        -- the model
        intro t1 et
        rw [hdu'] at et
        have w24 : t1 15 i 24 = du := by rw [et, up3_g, if_pos ⟨rfl, rfl, rfl⟩]
        have vt1 : ∀ j, j ≠ 24 → t1 15 i j = τ 15 i j := fun j a => by rw [et, up3_g, if_neg (fun z => a z.2.2)]
        rw [w24]
        refine br_u h3 (fun t3' et3 => ?_)
        rw [vt1 6 (by decide), vt1 4 (by decide), vt1 10 (by decide), h.emx', h.eun', h.ems', so_4 _ _ _ (by omega), show nI ((c 4) - (c 2)) / 2 = nI (((c 4) - (c 2)) / 2) from pk_div (d := 2) (by omega) (by decide) (by decide), show (2 : Int32) * nI (c 9) = nI (2 * (c 9)) from pk_mul 2 _, imax_n (by omega) (by omega), hss, et, ht3] at et3
        subst et3
        have mnn : imin (t3' 15 i 10) (imin (((t3' 15 i 29) + (t3' 15 i 26)) + (t3' 15 i 28) - t3' 15 i 4) (t3' 15 i 6 - t3' 15 i 4)) = nI n := by
          rw [vt3 10 (by decide) (by decide), vt3 29 (by decide) (by decide), vt3 26 (by decide) (by decide), vt3 28 (by decide) (by decide), vt3 4 (by decide) (by decide), vt3 6 (by decide) (by decide), h.beh, h.ems', h.eun', h.emx', so_4 _ _ _ (by omega), so_4 _ _ _ (by omega), imin_n (by omega) (by omega), imin_n (by omega) (by omega), Nat.min_comm ((c 1) + (c 5) - (c 2)), hn]
        have mj98 : w14_duplicate_J98 t3' i (nI n) (nI fi) (fun τ' => RepP σ t l b i c s10 τ') := by
          have hag : ¬ agn (c 2) (c 4) = 0 := by unfold agn; rw [if_pos hux]; decide
          unfold w14_duplicate_J98
          rw [vt3 4 (by decide) (by decide), h.eun']
          refine s14_dataOut (b := (c 19)) (h := (c 6)) (p := (c 7)) (L := (c 20)) (st := (c 0)) (ms := (c 9)) (by omega) (by omega) (by omega) (by omega) q14 h.h5 h.pl6 hfi1 ((vt3 26 (by decide) (by decide)).trans h.ehl) ((vt3 28 (by decide) (by decide)).trans h.ebl) ((vt3 29 (by decide) (by decide)).trans h.eba') ((vt3 27 (by decide) (by decide)).trans h.epl) ((vt3 0 (by decide) (by decide)).trans h.est') ⟨by omega, hst4.1, hst4.2⟩ q15 ((vt3 10 (by decide) (by decide)).trans h.ems') hnle.1 q10 ?_
          rw [ht2, q16]
          refine g2 _ ?_
          have rt2 : t2 15 i = (va_up (va_up (τ 15 i) 24 du) 12 (nI ss')) := by rw [ft2.row (k := 15) fun _ => rfl, rt3]
          rw [rt2] at hM8
          have z6 : t8 15 i 6 = (τ 15 i 3) + nI (c 4) := by rw [hM8]; simp only [vu_g, Nat.reduceEqDiff, reduceIte]; exact h.emx'
          have z17 : t8 15 i 17 = (τ 15 i 17) := by rw [hM8]; simp only [vu_g, Nat.reduceEqDiff, reduceIte]
          have z21 : t8 15 i 21 = (τ 15 i 21) := by rw [hM8]; simp only [vu_g, Nat.reduceEqDiff, reduceIte]
          have z22 : t8 15 i 22 = (τ 15 i 22) := by rw [hM8]; simp only [vu_g, Nat.reduceEqDiff, reduceIte]
          have z13 : t8 15 i 13 = nI (c 12) := by rw [hM8]; simp only [vu_g, Nat.reduceEqDiff, reduceIte]; exact h.ert'
          have z10 : t8 14 0 10 = nI t := by rw [x2 _ _ _ (by simp [mF]), G2 _ _ _ rfl]; exact now2
          refine s14_noted (g := agn (c 2) (c 4)) k2 (by rw [z6]; exact agn_i (by omega) (by omega)) (fun t9 f9 okt9 h56 hr9 => ?_)
          have k19 : keepv (agn (c 2) (c 4)) (t8 15 i 17) (t8 15 i 19) ((τ 15 i 3) + nI (c 2)) = t8 15 i 19 := by unfold keepv; rw [if_neg (fun z => hag z.1)]
          have k20 : keepv (agn (c 2) (c 4)) (t8 15 i 17) (t8 15 i 20) (t8 14 0 10) = t8 15 i 20 := by unfold keepv; rw [if_neg (fun z => hag z.1)]
          have k17 : tgv (agn (c 2) (c 4)) (t8 15 i 17) = 0 := by unfold tgv; rw [if_neg hag]
          have e19 : va_up (t8 15 i) 17 0 19 = t8 15 i 19 := by rw [vu_g, if_neg (by decide)]
          have e20 : va_up (t8 15 i) 17 0 20 = t8 15 i 20 := by rw [vu_g, if_neg (by decide)]
          rw [k19, k20, k17, vu_eq e19, vu_eq e20, z21, z22, z10, z13, nI_add, hM8] at hr9
          rw [if_neg hag] at h56
          have u31 : t9 15 i 31 = nI (c 18) := by rw [hr9]; simp only [vu_g, Nat.reduceEqDiff, reduceIte]; exact h.ef'
          have u12 : t9 15 i 12 = nI ss' := by rw [hr9]; simp only [vu_g, Nat.reduceEqDiff, reduceIte]
          have u10 : t9 15 i 10 = nI (c 9) := by rw [hr9]; simp only [vu_g, Nat.reduceEqDiff, reduceIte]; exact h.ems'
          have fin : ∀ σ6, σ6 = up3 t9 15 i 11 ((t9 15 i 12) + (3 * (t9 15 i 10))) → (∀ σ7, σ7 = up3 σ6 15 i 18 1 → RepP σ t l b i c s10 σ7) := by
            intro ta ea tb eb
            rw [u12, u10, show (3 : Int32) * nI (c 9) = nI (3 * (c 9)) from pk_mul 3 _, nI_add] at ea
            have Gb : Fr (mF [] [] [(56, [3]), (15, [11, 17, 18, 19, 20, 21, 22])] []) t8 tb := by
              rw [eb, ea]
              exact ((f9.sub (mF_sub rfl sub_nil rfl (sud_c (Or.inl ⟨_, List.mem_of_getElem? (i := 1) rfl, rfl⟩) sud_nil))).up rfl).up rfl
            have F8 : Fr (mF [] [] [(11, [14, 19])] []) s8 s10 := by rw [e10, e9]; exact (fr_u rfl).up rfl
            have hMb : tb 15 i = (va_up (va_up (va_up (va_up (va_up (va_up (va_up (va_up (va_up (τ 15 i) 24 du) 12 (nI ss')) 39 0) 37 (nI (4096 - (c 14)))) 17 0) 21 1) 22 (offv ((τ 15 i 21)) ((τ 15 i 22)) (nI (t + (c 12))))) 11 (nI (ss' + 3 * (c 9)))) 18 1) := by
              rw [eb, up3_r, if_pos ⟨rfl, rfl⟩, ea, up3_r, if_pos ⟨rfl, rfl⟩, hr9]
            have mrb : mrows τ tb i := by
              have a := mrows.f (i := i) G2
              have b := mrows.f (i := i) x2
              have d := mrows.f (i := i) Gb
              exact ⟨d.1.trans (b.1.trans a.1), d.2.1.trans (b.2.1.trans a.2.1), d.2.2.1.trans (b.2.2.1.trans a.2.2.1), d.2.2.2.trans (b.2.2.2.trans a.2.2.2)⟩
            refine ⟨hN8.f F8 Gb, RK.agn (g := agn (c 2) (c 4)) hK (F10 _ _ _ rfl) (F10 _ _ _ rfl) (fun j hj => F10 _ _ _ (by simp [mF, hj])) (fun j hj => ?_) ?_ ?_, _, h.rep hst hux hss2 hC10 hMb (crows.f F10) mrb ?_, ?_⟩
            · rw [Gb _ _ _ (by simp [mF, hj]), x2 _ _ _ (by simp [mF]), G2 _ _ _ (by simp [mF])]
            · rw [if_neg hag, e10, up3_g, if_neg (by omega), e9, up3_g, if_neg (by omega), x1 _ _ _ (by simp [mF]), f7 _ _ _ (by simp [mF])]
              exact c84
            · rw [if_neg hag, eb, up3_g, if_neg (by omega), ea, up3_g, if_neg (by omega), h56, x2 _ _ _ (by simp [mF]), G2 _ _ _ (by simp [mF])]
            · unfold offv
              have := h.rt2
              by_cases c1 : (τ 15 i 21) = 0
              · rw [h.eto, if_pos c1, if_pos c1]
                exact ⟨t + (c 12), rfl, rfl, by omega, by omega⟩
              · obtain ⟨z, z1, z2, z3⟩ := h.etm (by rw [h.eto]; exact c1)
                rw [h.eto, if_neg c1, if_neg c1]
                exact ⟨z, z1, z2, z3⟩
            · simp only [cup_g, Nat.reduceEqDiff, reduceIte]
              simp
          by_cases z : fi = 0
          · exact br_t (by rw [z]; rfl) fin
          · refine br_f (nI_ne0 (by omega) (by omega)) (fun _ => br_v ?_ fin)
            rw [u31]
            exact nI_ne0 (by omega) (by omega)
        show bo (t3' 15 i 31) → _
        intro _
        unfold w15_behind
        dsimp only
        rw [mnn, vt3 31 (by decide) (by decide), h.ef']
        by_cases z : (c 18) = 0
        · have : fi = 0 := by omega
          subst this
          exact br_t (by rw [z]; rfl) mj98
        · have z1 : (c 18) = 1 := by omega
          refine br_f (by rw [z1]; decide) ?_
          rw [vt3 29 (by decide) (by decide), vt3 26 (by decide) (by decide), vt3 28 (by decide) (by decide), vt3 4 (by decide) (by decide), h.beh, h.eun', so_5]
          have e9 := so_9 ((τ 15 i 3)) (a := (c 2) + n) (b := (c 1) + (c 5)) (by omega) (by omega)
          by_cases z2 : (c 2) + n = (c 1) + (c 5)
          · have : fi = 1 := by omega
            subst this
            exact br_u (e9.mpr z2) mj98
          · have : fi = 0 := by omega
            subst this
            exact br_v (fun q => z2 (e9.mp q)) mj98
      have nof : ¬ (0 < n ∧ (c 2) + n = (c 1) + (c 5)) → ((nI fi = 0 → w11_repeat_J150 s6 i (nI n) 16 (fun σ' => w14_duplicate τ i (fun τ' => RepP σ t l b i c σ' τ'))) ∧ (¬ nI fi = 0 → w11_repeat_J150 s6 i (nI n) (16 ||| 1) (fun σ' => w14_duplicate τ i (fun τ' => RepP σ t l b i c σ' τ')))) := by
        intro hno
        unfold pfl at j150
        rw [if_neg hno] at j150
        by_cases z : fi = 0
        · rw [if_pos z] at j150; exact br_t (by rw [z]; rfl) j150
        · rw [if_neg z] at j150; exact br_f (nI_ne0 (by omega) (by omega)) j150
      by_cases z0 : n = 0
      · exact br_t (by rw [z0]; decide) (nof (by omega))
      · refine br_f (nI_nle (by omega) (by omega)) ?_
        show (¬ s6 11 i 9 + nI n = s6 11 i 26 + s6 13 i 1 → _) ∧ _
        have b136 : s6 13 i 1 = nI (c 5) := by rw [f6 _ _ _ (by simp [mF])]; exact h.eL
        rw [w6 9 (by decide) (by decide) (by decide), w6 26 (by decide) (by decide) (by decide), b136, h.eun, h.eba, so_5, so_5]
        have e9 := so_9 ((τ 15 i 3)) (a := (c 2) + n) (b := (c 1) + (c 5)) (by omega) (by omega)
        by_cases z1 : (c 2) + n = (c 1) + (c 5)
        · refine br_u (e9.mpr z1) ?_
          unfold pfl at j150
          rw [if_pos ⟨by omega, z1⟩] at j150
          by_cases z : fi = 0
          · rw [if_pos z] at j150; exact br_t (by rw [z]; rfl) j150
          · rw [if_neg z] at j150; exact br_f (nI_ne0 (by omega) (by omega)) j150
        · exact br_v (fun z => z1 (e9.mp z)) (nof (fun z => z1 z.2))
    show bo (s3 11 i 28) → _
    intro _
    have r28 : s3 11 i 28 = nI (c 18) := (v3 28 (by decide) (by decide)).trans h.ef
    rw [hnn, r28]
    by_cases z : (c 18) = 0
    · have : fi = 0 := by omega
      subst this
      exact br_t (by rw [z]; rfl) j98
    · have z1 : (c 18) = 1 := by omega
      refine br_f (by rw [z1]; decide) ?_
      show (¬ s3 11 i 9 + nI n = s3 11 i 26 + s3 13 i 1 → _) ∧ _
      rw [hun, hend, so_5]
      have e9 := so_9 ((τ 15 i 3)) (a := (c 2) + n) (b := (c 1) + (c 5)) (by omega) (by omega)
      by_cases z2 : (c 2) + n = (c 1) + (c 5)
      · have : fi = 1 := by omega
        subst this
        exact br_u (e9.mpr z2) j98
      · have : fi = 0 := by omega
        subst this
        exact br_v (fun q => z2 (e9.mp q)) j98
  obtain ⟨σ', h, k1, f1, g1⟩ := e11_repeat hi ok hj
  obtain ⟨τ', h, k2, f2, g2⟩ := e14_duplicate hi ok' h
  exact ⟨σ', τ', g1, g2, k1, k2, f1, f2, h⟩
