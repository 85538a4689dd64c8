/-! a connection begins: the rows -/
set_option maxRecDepth 100000
def clrb (f : Nat → Int32) : Nat → Int32 := fun j => if j < 4096 then 0 else f j
def aloneB (σ : St) (i : Nat) (Q : St → Prop) : Prop := (∀ σ11, σ11 = up3 σ 14 0 12 ((σ 14 0 12) + 1) → (vp_in 5 8 ∧ (vp_in 5 8 ∧ (∀ σ12, σ12 = up3 σ11 56 0 (5 : Int32).toNatClampNeg ((σ11 56 0 (5 : Int32).toNatClampNeg) + 1) → (∀ σ13, σ13 = up3 σ12 15 i 0 1 → (∀ σ14, σ14 = up3 σ13 15 i 1 (σ13 14 0 30) → (∀ σ15, σ15 = up3 σ14 15 i 2 (σ14 14 0 32) → (∀ σ16, σ16 = up3 σ15 15 i 34 (σ15 14 0 34) → (∀ σ17, σ17 = up3 σ16 15 i 36 ((σ16 14 0 34) + 1) → (∀ σ18, σ18 = up3 σ17 15 i 35 (σ17 15 i 36) → (∀ σ19, σ19 = up3 σ18 15 i 3 ((64000 * (σ18 14 0 12)) + (250 * (σ18 14 0 10))) → (∀ σ20, σ20 = up3 σ19 15 i 4 (σ19 15 i 3) → (∀ σ21, σ21 = up3 σ20 15 i 5 (σ20 15 i 3) → (∀ σ22, σ22 = up3 σ21 15 i 6 (σ21 15 i 3) → (∀ σ23, σ23 = up3 σ22 15 i 7 (σ22 14 0 37) → (∀ σ24, σ24 = up3 σ23 15 i 8 (σ23 14 0 34) → (∀ σ25, σ25 = up3 σ24 15 i 9 0 → (w14_optionMss σ25 (fun r26 => (∀ σ27, σ27 = up3 σ25 15 i 10 r26 → ((1095 < (σ27 15 i 10) → (w14_alone_J255 σ27 i (3 * (σ27 15 i 10)) i Q)) ∧ (¬ 1095 < (σ27 15 i 10) → (w14_alone_J255 σ27 i (4 * (σ27 15 i 10)) i Q)))))))))))))))))))))))
theorem s12_clear_L {i : Nat} {Q K : St → Prop} (σ0 : St) (hK : ∀ σ', Fr (mF [] [(43, i)] [] []) σ0 σ' → σ' 43 i = clrb (σ0 43 i) → okS σ' → K σ') : ∀ (m j : Nat) (σ : St), j + m = 4096 → okS σ → Fr (mF [] [(43, i)] [] []) σ0 σ → (∀ x, σ 43 i x = if x < j then 0 else σ0 43 i x) → w12_clear_L12 i Q K (m + 1) σ (nI j) := by
  intro m
  induction m with
  | zero =>
    intro j σ hj ok f h
    exact br_t (nI_le (a := 4096) (by omega) (by omega)) (hK σ f (funext fun x => by rw [h x, show j = 4096 by omega]; rfl) ok)
  | succ m ih =>
    intro j σ hj ok f h
    refine br_f (nI_ge (b := 4096) (by omega) (by decide)) ⟨vin (by omega) (by omega), fun s1 e1 => ?_⟩
    rw [cl (by omega)] at e1
    rw [nI_1]
    refine ih (j + 1) s1 (by omega) (by rw [e1]; exact ok_z ok (tyk_a 43 1 (by decide) (by decide) _) (Or.inl rfl)) (by rw [e1]; exact f.up (by simp [mF])) (fun x => ?_)
    rw [e1, up3_g]
    by_cases c : x = j
    · rw [if_pos ⟨rfl, rfl, c⟩, if_pos (by omega)]
    · rw [if_neg (fun z => c z.2.2), h x]
      by_cases c2 : x < j
      · rw [if_pos c2, if_pos (by omega)]
      · rw [if_neg c2, if_neg (by omega)]
theorem s11_begin {σ : St} {i t ms cw : Nat} {N I : Int32} {Q : St → Prop} (ok : okS σ) (now : (σ 2 0 4) = nI t) (hI : 64000 * N + 250 * nI t = I) (hms : (σ 10 0 10) = nI ms) (hm : ms ≤ 1460) (hcw : cw = if 1095 < ms then 3 * ms else 4 * ms)
    (hq : ∀ σ', okS σ' → Fr (mF [] [(43, i)] [] [(11, i, [2, 3, 4, 5, 6, 7, 8, 9, 10, 11, 12, 13, 14, 15, 16, 17, 18, 19, 22, 23, 26, 27, 28, 29, 30, 32, 33, 34, 35, 36, 37]), (12, i, [2, 3]), (13, i, [1])]) σ σ' → σ' 11 i = (va_up (va_up (va_up (va_up (va_up (va_up (va_up (va_up (va_up (va_up (va_up (va_up (va_up (va_up (va_up (va_up (va_up (va_up (va_up (va_up (va_up (va_up (va_up (va_up (va_up (va_up (va_up (va_up (va_up (va_up (va_up (va_up (σ 11 i) 3 (σ 10 0 0)) 4 (σ 10 0 1)) 5 I) 6 (σ 10 0 3 + 1)) 9 I) 10 (I + 1)) 11 (I + 1)) 26 (I + 1)) 12 (σ 10 0 6)) 7 (σ 10 0 3)) 8 0) 13 (nI ms)) 14 (nI cw)) 15 65535) 16 1000) 17 0) 18 0) 19 0) 22 0) 23 0) 27 0) 28 0) 33 0) 35 0) 29 0) 32 (nI t)) 2 1) 34 1) 36 I) 37 (nI t)) 29 1) 30 (nI (t + 1000))) → σ' 12 i = (va_up (va_up (σ 12 i) 2 0) 3 0) → σ' 13 i = (va_up (σ 13 i) 1 0) → σ' 43 i = clrb (σ 43 i) → w11_segment σ' i I 18 0 0 0 0 (fun s => Q s)) : w11_begin σ i N Q := by
  have Fσ : Fr (mF [] [(43, i)] [] [(11, i, [2, 3, 4, 5, 6, 7, 8, 9, 10, 11, 12, 13, 14, 15, 16, 17, 18, 19, 22, 23, 26, 27, 28, 29, 30, 32, 33, 34, 35, 36, 37]), (12, i, [2, 3]), (13, i, [1])]) σ σ := Fr.rf
  have kσ : okS σ := ok
  intro s1 es1
  rw [Fσ 10 0 0 rfl] at es1
  have Fs1 : Fr (mF [] [(43, i)] [] [(11, i, [2, 3, 4, 5, 6, 7, 8, 9, 10, 11, 12, 13, 14, 15, 16, 17, 18, 19, 22, 23, 26, 27, 28, 29, 30, 32, 33, 34, 35, 36, 37]), (12, i, [2, 3]), (13, i, [1])]) σ s1 := by rw [es1]; exact Fσ.up (by simp [mF])
  have ks1 : okS s1 := by rw [es1]; exact ok_n kσ rfl
  intro s2 es2
  rw [Fs1 10 0 1 rfl] at es2
  have Fs2 : Fr (mF [] [(43, i)] [] [(11, i, [2, 3, 4, 5, 6, 7, 8, 9, 10, 11, 12, 13, 14, 15, 16, 17, 18, 19, 22, 23, 26, 27, 28, 29, 30, 32, 33, 34, 35, 36, 37]), (12, i, [2, 3]), (13, i, [1])]) σ s2 := by rw [es2]; exact Fs1.up (by simp [mF])
  have ks2 : okS s2 := by rw [es2]; exact ok_n ks1 rfl
  intro s4 es4
  rw [show s2 2 0 4 = nI t by rw [Fs2 2 0 4 rfl]; exact now, hI] at es4
  have Fs4 : Fr (mF [] [(43, i)] [] [(11, i, [2, 3, 4, 5, 6, 7, 8, 9, 10, 11, 12, 13, 14, 15, 16, 17, 18, 19, 22, 23, 26, 27, 28, 29, 30, 32, 33, 34, 35, 36, 37]), (12, i, [2, 3]), (13, i, [1])]) σ s4 := by rw [es4]; exact Fs2.up (by simp [mF])
  have ks4 : okS s4 := by rw [es4]; exact ok_n ks2 rfl
  have qs4 : s4 11 i 5 = I := by rw [es4, up3_g, if_pos ⟨rfl, rfl, rfl⟩]
  intro s5 es5
  rw [Fs4 10 0 3 rfl] at es5
  have Fs5 : Fr (mF [] [(43, i)] [] [(11, i, [2, 3, 4, 5, 6, 7, 8, 9, 10, 11, 12, 13, 14, 15, 16, 17, 18, 19, 22, 23, 26, 27, 28, 29, 30, 32, 33, 34, 35, 36, 37]), (12, i, [2, 3]), (13, i, [1])]) σ s5 := by rw [es5]; exact Fs4.up (by simp [mF])
  have ks5 : okS s5 := by rw [es5]; exact ok_n ks4 rfl
  have qs5 : s5 11 i 5 = I := by rw [es5, up3_g, if_neg (by omega)]; exact qs4
  intro s6 es6
  rw [qs5] at es6
  have Fs6 : Fr (mF [] [(43, i)] [] [(11, i, [2, 3, 4, 5, 6, 7, 8, 9, 10, 11, 12, 13, 14, 15, 16, 17, 18, 19, 22, 23, 26, 27, 28, 29, 30, 32, 33, 34, 35, 36, 37]), (12, i, [2, 3]), (13, i, [1])]) σ s6 := by rw [es6]; exact Fs5.up (by simp [mF])
  have ks6 : okS s6 := by rw [es6]; exact ok_n ks5 rfl
  have qs6 : s6 11 i 5 = I := by rw [es6, up3_g, if_neg (by omega)]; exact qs5
  intro s7 es7
  rw [qs6] at es7
  have Fs7 : Fr (mF [] [(43, i)] [] [(11, i, [2, 3, 4, 5, 6, 7, 8, 9, 10, 11, 12, 13, 14, 15, 16, 17, 18, 19, 22, 23, 26, 27, 28, 29, 30, 32, 33, 34, 35, 36, 37]), (12, i, [2, 3]), (13, i, [1])]) σ s7 := by rw [es7]; exact Fs6.up (by simp [mF])
  have ks7 : okS s7 := by rw [es7]; exact ok_n ks6 rfl
  have qs7 : s7 11 i 5 = I := by rw [es7, up3_g, if_neg (by omega)]; exact qs6
  intro s8 es8
  rw [qs7] at es8
  have Fs8 : Fr (mF [] [(43, i)] [] [(11, i, [2, 3, 4, 5, 6, 7, 8, 9, 10, 11, 12, 13, 14, 15, 16, 17, 18, 19, 22, 23, 26, 27, 28, 29, 30, 32, 33, 34, 35, 36, 37]), (12, i, [2, 3]), (13, i, [1])]) σ s8 := by rw [es8]; exact Fs7.up (by simp [mF])
  have ks8 : okS s8 := by rw [es8]; exact ok_n ks7 rfl
  have qs8 : s8 11 i 5 = I := by rw [es8, up3_g, if_neg (by omega)]; exact qs7
  intro s9 es9
  rw [qs8] at es9
  have Fs9 : Fr (mF [] [(43, i)] [] [(11, i, [2, 3, 4, 5, 6, 7, 8, 9, 10, 11, 12, 13, 14, 15, 16, 17, 18, 19, 22, 23, 26, 27, 28, 29, 30, 32, 33, 34, 35, 36, 37]), (12, i, [2, 3]), (13, i, [1])]) σ s9 := by rw [es9]; exact Fs8.up (by simp [mF])
  have ks9 : okS s9 := by rw [es9]; exact ok_n ks8 rfl
  have qs9 : s9 11 i 5 = I := by rw [es9, up3_g, if_neg (by omega)]; exact qs8
  intro s10 es10
  have Fs10 : Fr (mF [] [(43, i)] [] [(11, i, [2, 3, 4, 5, 6, 7, 8, 9, 10, 11, 12, 13, 14, 15, 16, 17, 18, 19, 22, 23, 26, 27, 28, 29, 30, 32, 33, 34, 35, 36, 37]), (12, i, [2, 3]), (13, i, [1])]) σ s10 := by rw [es10]; exact Fs9.up (by simp [mF])
  have ks10 : okS s10 := by rw [es10]; exact ok_n ks9 rfl
  have qs10 : s10 11 i 5 = I := by rw [es10, up3_g, if_neg (by omega)]; exact qs9
  intro s11 es11
  rw [Fs10 10 0 6 rfl] at es11
  have Fs11 : Fr (mF [] [(43, i)] [] [(11, i, [2, 3, 4, 5, 6, 7, 8, 9, 10, 11, 12, 13, 14, 15, 16, 17, 18, 19, 22, 23, 26, 27, 28, 29, 30, 32, 33, 34, 35, 36, 37]), (12, i, [2, 3]), (13, i, [1])]) σ s11 := by rw [es11]; exact Fs10.up (by simp [mF])
  have ks11 : okS s11 := by rw [es11]; exact ok_n ks10 rfl
  have qs11 : s11 11 i 5 = I := by rw [es11, up3_g, if_neg (by omega)]; exact qs10
  intro s12 es12
  rw [Fs11 10 0 3 rfl] at es12
  have Fs12 : Fr (mF [] [(43, i)] [] [(11, i, [2, 3, 4, 5, 6, 7, 8, 9, 10, 11, 12, 13, 14, 15, 16, 17, 18, 19, 22, 23, 26, 27, 28, 29, 30, 32, 33, 34, 35, 36, 37]), (12, i, [2, 3]), (13, i, [1])]) σ s12 := by rw [es12]; exact Fs11.up (by simp [mF])
  have ks12 : okS s12 := by rw [es12]; exact ok_n ks11 rfl
  have qs12 : s12 11 i 5 = I := by rw [es12, up3_g, if_neg (by omega)]; exact qs11
  intro s13 es13
  have Fs13 : Fr (mF [] [(43, i)] [] [(11, i, [2, 3, 4, 5, 6, 7, 8, 9, 10, 11, 12, 13, 14, 15, 16, 17, 18, 19, 22, 23, 26, 27, 28, 29, 30, 32, 33, 34, 35, 36, 37]), (12, i, [2, 3]), (13, i, [1])]) σ s13 := by rw [es13]; exact Fs12.up (by simp [mF])
  have ks13 : okS s13 := by rw [es13]; exact ok_n ks12 rfl
  have qs13 : s13 11 i 5 = I := by rw [es13, up3_g, if_neg (by omega)]; exact qs12
  intro s14 es14
  rw [Fs13 10 0 10 rfl] at es14
  rw [hms] at es14
  have Fs14 : Fr (mF [] [(43, i)] [] [(11, i, [2, 3, 4, 5, 6, 7, 8, 9, 10, 11, 12, 13, 14, 15, 16, 17, 18, 19, 22, 23, 26, 27, 28, 29, 30, 32, 33, 34, 35, 36, 37]), (12, i, [2, 3]), (13, i, [1])]) σ s14 := by rw [es14]; exact Fs13.up (by simp [mF])
  have ks14 : okS s14 := by rw [es14]; exact ok_n ks13 rfl
  have qs14 : s14 11 i 5 = I := by rw [es14, up3_g, if_neg (by omega)]; exact qs13
  have m13 : s14 11 i 13 = nI ms := by rw [es14, up3_g, if_pos ⟨rfl, rfl, rfl⟩]
  rw [m13]
  have go : w11_begin_J147 s14 i (nI cw) i Q := by
    intro s15 es15
    have Fs15 : Fr (mF [] [(43, i)] [] [(11, i, [2, 3, 4, 5, 6, 7, 8, 9, 10, 11, 12, 13, 14, 15, 16, 17, 18, 19, 22, 23, 26, 27, 28, 29, 30, 32, 33, 34, 35, 36, 37]), (12, i, [2, 3]), (13, i, [1])]) σ s15 := by rw [es15]; exact Fs14.up (by simp [mF])
    have ks15 : okS s15 := by rw [es15]; exact ok_n ks14 rfl
    have qs15 : s15 11 i 5 = I := by rw [es15, up3_g, if_neg (by omega)]; exact qs14
    intro s16 es16
    have Fs16 : Fr (mF [] [(43, i)] [] [(11, i, [2, 3, 4, 5, 6, 7, 8, 9, 10, 11, 12, 13, 14, 15, 16, 17, 18, 19, 22, 23, 26, 27, 28, 29, 30, 32, 33, 34, 35, 36, 37]), (12, i, [2, 3]), (13, i, [1])]) σ s16 := by rw [es16]; exact Fs15.up (by simp [mF])
    have ks16 : okS s16 := by rw [es16]; exact ok_n ks15 rfl
    have qs16 : s16 11 i 5 = I := by rw [es16, up3_g, if_neg (by omega)]; exact qs15
    intro s17 es17
    have Fs17 : Fr (mF [] [(43, i)] [] [(11, i, [2, 3, 4, 5, 6, 7, 8, 9, 10, 11, 12, 13, 14, 15, 16, 17, 18, 19, 22, 23, 26, 27, 28, 29, 30, 32, 33, 34, 35, 36, 37]), (12, i, [2, 3]), (13, i, [1])]) σ s17 := by rw [es17]; exact Fs16.up (by simp [mF])
    have ks17 : okS s17 := by rw [es17]; exact ok_n ks16 rfl
    have qs17 : s17 11 i 5 = I := by rw [es17, up3_g, if_neg (by omega)]; exact qs16
    intro s18 es18
    have Fs18 : Fr (mF [] [(43, i)] [] [(11, i, [2, 3, 4, 5, 6, 7, 8, 9, 10, 11, 12, 13, 14, 15, 16, 17, 18, 19, 22, 23, 26, 27, 28, 29, 30, 32, 33, 34, 35, 36, 37]), (12, i, [2, 3]), (13, i, [1])]) σ s18 := by rw [es18]; exact Fs17.up (by simp [mF])
    have ks18 : okS s18 := by rw [es18]; exact ok_n ks17 rfl
    have qs18 : s18 11 i 5 = I := by rw [es18, up3_g, if_neg (by omega)]; exact qs17
    intro s19 es19
    have Fs19 : Fr (mF [] [(43, i)] [] [(11, i, [2, 3, 4, 5, 6, 7, 8, 9, 10, 11, 12, 13, 14, 15, 16, 17, 18, 19, 22, 23, 26, 27, 28, 29, 30, 32, 33, 34, 35, 36, 37]), (12, i, [2, 3]), (13, i, [1])]) σ s19 := by rw [es19]; exact Fs18.up (by simp [mF])
    have ks19 : okS s19 := by rw [es19]; exact ok_n ks18 rfl
    have qs19 : s19 11 i 5 = I := by rw [es19, up3_g, if_neg (by omega)]; exact qs18
    intro s20 es20
    have Fs20 : Fr (mF [] [(43, i)] [] [(11, i, [2, 3, 4, 5, 6, 7, 8, 9, 10, 11, 12, 13, 14, 15, 16, 17, 18, 19, 22, 23, 26, 27, 28, 29, 30, 32, 33, 34, 35, 36, 37]), (12, i, [2, 3]), (13, i, [1])]) σ s20 := by rw [es20]; exact Fs19.up (by simp [mF])
    have ks20 : okS s20 := by rw [es20]; exact ok_z ks19 rfl (Or.inl rfl)
    have qs20 : s20 11 i 5 = I := by rw [es20, up3_g, if_neg (by omega)]; exact qs19
    intro c1 ec1 c2 ec2
    have kc2 : okS c2 := by rw [ec2, ec1]; exact ok_n (ok_n ks20 rfl) rfl
    refine ⟨4097, s12_clear_L c2 (fun s21 f21 r21 ks21 => ?_) 4096 0 c2 (by omega) kc2 Fr.rf (fun x => by rw [if_neg (by omega)])⟩
    have Fc2 : Fr (mF [] [(43, i)] [] [(11, i, [2, 3, 4, 5, 6, 7, 8, 9, 10, 11, 12, 13, 14, 15, 16, 17, 18, 19, 22, 23, 26, 27, 28, 29, 30, 32, 33, 34, 35, 36, 37]), (12, i, [2, 3]), (13, i, [1])]) σ c2 := by rw [ec2, ec1]; exact (Fs20.up (by simp [mF])).up (by simp [mF])
    have Fs21 : Fr (mF [] [(43, i)] [] [(11, i, [2, 3, 4, 5, 6, 7, 8, 9, 10, 11, 12, 13, 14, 15, 16, 17, 18, 19, 22, 23, 26, 27, 28, 29, 30, 32, 33, 34, 35, 36, 37]), (12, i, [2, 3]), (13, i, [1])]) σ s21 := Fc2.tr (f21.sub (mF_sub rfl (sub_c (Or.inr (List.mem_of_getElem? (i := 0) rfl)) sub_nil) rfl sud_nil))
    have r11 : s21 11 i = s20 11 i := by rw [f21.row (fun _ => rfl), ec2, up3_r, if_neg (by omega), ec1, up3_r, if_neg (by omega)]
    have qs21 : s21 11 i 5 = I := by rw [r11]; exact qs20
    intro s22 es22
    have Fs22 : Fr (mF [] [(43, i)] [] [(11, i, [2, 3, 4, 5, 6, 7, 8, 9, 10, 11, 12, 13, 14, 15, 16, 17, 18, 19, 22, 23, 26, 27, 28, 29, 30, 32, 33, 34, 35, 36, 37]), (12, i, [2, 3]), (13, i, [1])]) σ s22 := by rw [es22]; exact Fs21.up (by simp [mF])
    have ks22 : okS s22 := by rw [es22]; exact ok_z ks21 rfl (Or.inl rfl)
    have qs22 : s22 11 i 5 = I := by rw [es22, up3_g, if_neg (by omega)]; exact qs21
    intro s23 es23
    have Fs23 : Fr (mF [] [(43, i)] [] [(11, i, [2, 3, 4, 5, 6, 7, 8, 9, 10, 11, 12, 13, 14, 15, 16, 17, 18, 19, 22, 23, 26, 27, 28, 29, 30, 32, 33, 34, 35, 36, 37]), (12, i, [2, 3]), (13, i, [1])]) σ s23 := by rw [es23]; exact Fs22.up (by simp [mF])
    have ks23 : okS s23 := by rw [es23]; exact ok_z ks22 rfl (Or.inl rfl)
    have qs23 : s23 11 i 5 = I := by rw [es23, up3_g, if_neg (by omega)]; exact qs22
    intro s24 es24
    have Fs24 : Fr (mF [] [(43, i)] [] [(11, i, [2, 3, 4, 5, 6, 7, 8, 9, 10, 11, 12, 13, 14, 15, 16, 17, 18, 19, 22, 23, 26, 27, 28, 29, 30, 32, 33, 34, 35, 36, 37]), (12, i, [2, 3]), (13, i, [1])]) σ s24 := by rw [es24]; exact Fs23.up (by simp [mF])
    have ks24 : okS s24 := by rw [es24]; exact ok_z ks23 rfl (Or.inl rfl)
    have qs24 : s24 11 i 5 = I := by rw [es24, up3_g, if_neg (by omega)]; exact qs23
    intro s25 es25
    have Fs25 : Fr (mF [] [(43, i)] [] [(11, i, [2, 3, 4, 5, 6, 7, 8, 9, 10, 11, 12, 13, 14, 15, 16, 17, 18, 19, 22, 23, 26, 27, 28, 29, 30, 32, 33, 34, 35, 36, 37]), (12, i, [2, 3]), (13, i, [1])]) σ s25 := by rw [es25]; exact Fs24.up (by simp [mF])
    have ks25 : okS s25 := by rw [es25]; exact ok_z ks24 rfl (Or.inl rfl)
    have qs25 : s25 11 i 5 = I := by rw [es25, up3_g, if_neg (by omega)]; exact qs24
    intro s26 es26
    have Fs26 : Fr (mF [] [(43, i)] [] [(11, i, [2, 3, 4, 5, 6, 7, 8, 9, 10, 11, 12, 13, 14, 15, 16, 17, 18, 19, 22, 23, 26, 27, 28, 29, 30, 32, 33, 34, 35, 36, 37]), (12, i, [2, 3]), (13, i, [1])]) σ s26 := by rw [es26]; exact Fs25.up (by simp [mF])
    have ks26 : okS s26 := by rw [es26]; exact ok_z ks25 rfl (Or.inl rfl)
    have qs26 : s26 11 i 5 = I := by rw [es26, up3_g, if_neg (by omega)]; exact qs25
    intro s27 es27
    have Fs27 : Fr (mF [] [(43, i)] [] [(11, i, [2, 3, 4, 5, 6, 7, 8, 9, 10, 11, 12, 13, 14, 15, 16, 17, 18, 19, 22, 23, 26, 27, 28, 29, 30, 32, 33, 34, 35, 36, 37]), (12, i, [2, 3]), (13, i, [1])]) σ s27 := by rw [es27]; exact Fs26.up (by simp [mF])
    have ks27 : okS s27 := by rw [es27]; exact ok_z ks26 rfl (Or.inl rfl)
    have qs27 : s27 11 i 5 = I := by rw [es27, up3_g, if_neg (by omega)]; exact qs26
    intro s28 es28
    have Fs28 : Fr (mF [] [(43, i)] [] [(11, i, [2, 3, 4, 5, 6, 7, 8, 9, 10, 11, 12, 13, 14, 15, 16, 17, 18, 19, 22, 23, 26, 27, 28, 29, 30, 32, 33, 34, 35, 36, 37]), (12, i, [2, 3]), (13, i, [1])]) σ s28 := by rw [es28]; exact Fs27.up (by simp [mF])
    have ks28 : okS s28 := by rw [es28]; exact ok_z ks27 rfl (Or.inl rfl)
    have qs28 : s28 11 i 5 = I := by rw [es28, up3_g, if_neg (by omega)]; exact qs27
    intro s30 es30
    rw [show s28 2 0 4 = nI t by rw [Fs28 2 0 4 rfl]; exact now] at es30
    have Fs30 : Fr (mF [] [(43, i)] [] [(11, i, [2, 3, 4, 5, 6, 7, 8, 9, 10, 11, 12, 13, 14, 15, 16, 17, 18, 19, 22, 23, 26, 27, 28, 29, 30, 32, 33, 34, 35, 36, 37]), (12, i, [2, 3]), (13, i, [1])]) σ s30 := by rw [es30]; exact Fs28.up (by simp [mF])
    have ks30 : okS s30 := by rw [es30]; exact ok_n ks28 rfl
    have qs30 : s30 11 i 5 = I := by rw [es30, up3_g, if_neg (by omega)]; exact qs28
    intro s31 es31
    have Fs31 : Fr (mF [] [(43, i)] [] [(11, i, [2, 3, 4, 5, 6, 7, 8, 9, 10, 11, 12, 13, 14, 15, 16, 17, 18, 19, 22, 23, 26, 27, 28, 29, 30, 32, 33, 34, 35, 36, 37]), (12, i, [2, 3]), (13, i, [1])]) σ s31 := by rw [es31]; exact Fs30.up (by simp [mF])
    have ks31 : okS s31 := by rw [es31]; exact ok_n ks30 rfl
    have qs31 : s31 11 i 5 = I := by rw [es31, up3_g, if_neg (by omega)]; exact qs30
    intro t1 et1
    have Ft1 : Fr (mF [] [(43, i)] [] [(11, i, [2, 3, 4, 5, 6, 7, 8, 9, 10, 11, 12, 13, 14, 15, 16, 17, 18, 19, 22, 23, 26, 27, 28, 29, 30, 32, 33, 34, 35, 36, 37]), (12, i, [2, 3]), (13, i, [1])]) σ t1 := by rw [et1]; exact Fs31.up (by simp [mF])
    have kt1 : okS t1 := by rw [et1]; exact ok_z ks31 rfl (Or.inr rfl)
    have qt1 : t1 11 i 5 = I := by rw [et1, up3_g, if_neg (by omega)]; exact qs31
    intro t2 et2
    rw [qs31] at et2
    have Ft2 : Fr (mF [] [(43, i)] [] [(11, i, [2, 3, 4, 5, 6, 7, 8, 9, 10, 11, 12, 13, 14, 15, 16, 17, 18, 19, 22, 23, 26, 27, 28, 29, 30, 32, 33, 34, 35, 36, 37]), (12, i, [2, 3]), (13, i, [1])]) σ t2 := by rw [et2]; exact Ft1.up (by simp [mF])
    have kt2 : okS t2 := by rw [et2]; exact ok_n kt1 rfl
    have qt2 : t2 11 i 5 = I := by rw [et2, up3_g, if_neg (by omega)]; exact qt1
    intro t4 et4
    rw [show t2 2 0 4 = nI t by rw [Ft2 2 0 4 rfl]; exact now] at et4
    have Ft4 : Fr (mF [] [(43, i)] [] [(11, i, [2, 3, 4, 5, 6, 7, 8, 9, 10, 11, 12, 13, 14, 15, 16, 17, 18, 19, 22, 23, 26, 27, 28, 29, 30, 32, 33, 34, 35, 36, 37]), (12, i, [2, 3]), (13, i, [1])]) σ t4 := by rw [et4]; exact Ft2.up (by simp [mF])
    have kt4 : okS t4 := by rw [et4]; exact ok_n kt2 rfl
    have qt4 : t4 11 i 5 = I := by rw [et4, up3_g, if_neg (by omega)]; exact qt2
    have R : t4 11 i = (va_up (va_up (va_up (va_up (va_up (va_up (va_up (va_up (va_up (va_up (va_up (va_up (va_up (va_up (va_up (va_up (va_up (va_up (va_up (va_up (va_up (va_up (va_up (va_up (va_up (va_up (va_up (va_up (va_up (va_up (σ 11 i) 3 (σ 10 0 0)) 4 (σ 10 0 1)) 5 I) 6 (σ 10 0 3 + 1)) 9 I) 10 (I + 1)) 11 (I + 1)) 26 (I + 1)) 12 (σ 10 0 6)) 7 (σ 10 0 3)) 8 0) 13 (nI ms)) 14 (nI cw)) 15 65535) 16 1000) 17 0) 18 0) 19 0) 22 0) 23 0) 27 0) 28 0) 33 0) 35 0) 29 0) 32 (nI t)) 2 1) 34 1) 36 I) 37 (nI t)) := by rw [et4, up3_r, if_pos ⟨rfl, rfl⟩, et2, up3_r, if_pos ⟨rfl, rfl⟩, et1, up3_r, if_pos ⟨rfl, rfl⟩, es31, up3_r, if_pos ⟨rfl, rfl⟩, es30, up3_r, if_pos ⟨rfl, rfl⟩, es28, up3_r, if_pos ⟨rfl, rfl⟩, es27, up3_r, if_pos ⟨rfl, rfl⟩, es26, up3_r, if_pos ⟨rfl, rfl⟩, es25, up3_r, if_pos ⟨rfl, rfl⟩, es24, up3_r, if_pos ⟨rfl, rfl⟩, es23, up3_r, if_pos ⟨rfl, rfl⟩, es22, up3_r, if_pos ⟨rfl, rfl⟩, r11, es20, up3_r, if_pos ⟨rfl, rfl⟩, es19, up3_r, if_pos ⟨rfl, rfl⟩, es18, up3_r, if_pos ⟨rfl, rfl⟩, es17, up3_r, if_pos ⟨rfl, rfl⟩, es16, up3_r, if_pos ⟨rfl, rfl⟩, es15, up3_r, if_pos ⟨rfl, rfl⟩, es14, up3_r, if_pos ⟨rfl, rfl⟩, es13, up3_r, if_pos ⟨rfl, rfl⟩, es12, up3_r, if_pos ⟨rfl, rfl⟩, es11, up3_r, if_pos ⟨rfl, rfl⟩, es10, up3_r, if_neg (by omega), es9, up3_r, if_pos ⟨rfl, rfl⟩, es8, up3_r, if_pos ⟨rfl, rfl⟩, es7, up3_r, if_pos ⟨rfl, rfl⟩, es6, up3_r, if_pos ⟨rfl, rfl⟩, es5, up3_r, if_pos ⟨rfl, rfl⟩, es4, up3_r, if_pos ⟨rfl, rfl⟩, es2, up3_r, if_pos ⟨rfl, rfl⟩, es1, up3_r, if_pos ⟨rfl, rfl⟩]
    refine s11_startTimer (fun s' f' k' R' => ?_) kt4
    have v29 : t4 11 i 29 = 0 := by rw [R]; simp only [vu_g, Nat.reduceEqDiff, reduceIte]
    have v16 : t4 11 i 16 = 1000 := by rw [R]; simp only [vu_g, Nat.reduceEqDiff, reduceIte]
    have vn : t4 2 0 4 = nI t := by rw [Ft4 2 0 4 rfl]; exact now
    rw [v29, v16, vn, show nI t + 1000 = nI (t + 1000) from nI_add t 1000, show offv 0 (t4 11 i 30) (nI (t + 1000)) = nI (t + 1000) from rfl, R] at R'
    have q' : s' 11 i 5 = I := by rw [f' _ _ _ (by simp [mF])]; exact qt4
    rw [q']
    have F' : Fr (mF [] [(43, i)] [] [(11, i, [2, 3, 4, 5, 6, 7, 8, 9, 10, 11, 12, 13, 14, 15, 16, 17, 18, 19, 22, 23, 26, 27, 28, 29, 30, 32, 33, 34, 35, 36, 37]), (12, i, [2, 3]), (13, i, [1])]) σ s' := Ft4.tr (f'.sub (mF_sub rfl sub_nil rfl (sud_c (Or.inr ⟨_, List.mem_of_getElem? (i := 0) rfl, rfl⟩) sud_nil)))
    refine hq s' k' F' R' ?_ ?_ ?_
    · rw [f'.row (fun _ => by simp [mF]), et4, up3_r, if_neg (by omega), et2, up3_r, if_neg (by omega), et1, up3_r, if_neg (by omega), es31, up3_r, if_neg (by omega), es30, up3_r, if_neg (by omega), es28, up3_r, if_neg (by omega), es27, up3_r, if_neg (by omega), es26, up3_r, if_neg (by omega), es25, up3_r, if_neg (by omega), es24, up3_r, if_neg (by omega), es23, up3_r, if_neg (by omega), es22, up3_r, if_neg (by omega), f21.row (fun _ => rfl), ec2, up3_r, if_pos ⟨rfl, rfl⟩, ec1, up3_r, if_pos ⟨rfl, rfl⟩, es20, up3_r, if_neg (by omega), es19, up3_r, if_neg (by omega), es18, up3_r, if_neg (by omega), es17, up3_r, if_neg (by omega), es16, up3_r, if_neg (by omega), es15, up3_r, if_neg (by omega), es14, up3_r, if_neg (by omega), es13, up3_r, if_neg (by omega), es12, up3_r, if_neg (by omega), es11, up3_r, if_neg (by omega), es10, up3_r, if_neg (by omega), es9, up3_r, if_neg (by omega), es8, up3_r, if_neg (by omega), es7, up3_r, if_neg (by omega), es6, up3_r, if_neg (by omega), es5, up3_r, if_neg (by omega), es4, up3_r, if_neg (by omega), es2, up3_r, if_neg (by omega), es1, up3_r, if_neg (by omega)]
    · rw [f'.row (fun _ => by simp [mF]), et4, up3_r, if_neg (by omega), et2, up3_r, if_neg (by omega), et1, up3_r, if_neg (by omega), es31, up3_r, if_neg (by omega), es30, up3_r, if_neg (by omega), es28, up3_r, if_neg (by omega), es27, up3_r, if_neg (by omega), es26, up3_r, if_neg (by omega), es25, up3_r, if_neg (by omega), es24, up3_r, if_neg (by omega), es23, up3_r, if_neg (by omega), es22, up3_r, if_neg (by omega), f21.row (fun _ => rfl), ec2, up3_r, if_neg (by omega), ec1, up3_r, if_neg (by omega), es20, up3_r, if_neg (by omega), es19, up3_r, if_neg (by omega), es18, up3_r, if_neg (by omega), es17, up3_r, if_neg (by omega), es16, up3_r, if_neg (by omega), es15, up3_r, if_neg (by omega), es14, up3_r, if_neg (by omega), es13, up3_r, if_neg (by omega), es12, up3_r, if_neg (by omega), es11, up3_r, if_neg (by omega), es10, up3_r, if_pos ⟨rfl, rfl⟩, es9, up3_r, if_neg (by omega), es8, up3_r, if_neg (by omega), es7, up3_r, if_neg (by omega), es6, up3_r, if_neg (by omega), es5, up3_r, if_neg (by omega), es4, up3_r, if_neg (by omega), es2, up3_r, if_neg (by omega), es1, up3_r, if_neg (by omega)]
    · rw [f'.row (fun _ => by simp [mF]), et4, up3_r, if_neg (by omega), et2, up3_r, if_neg (by omega), et1, up3_r, if_neg (by omega), es31, up3_r, if_neg (by omega), es30, up3_r, if_neg (by omega), es28, up3_r, if_neg (by omega), es27, up3_r, if_neg (by omega), es26, up3_r, if_neg (by omega), es25, up3_r, if_neg (by omega), es24, up3_r, if_neg (by omega), es23, up3_r, if_neg (by omega), es22, up3_r, if_neg (by omega), r21, ec2, up3_r, if_neg (by omega), ec1, up3_r, if_neg (by omega), es20, up3_r, if_neg (by omega), es19, up3_r, if_neg (by omega), es18, up3_r, if_neg (by omega), es17, up3_r, if_neg (by omega), es16, up3_r, if_neg (by omega), es15, up3_r, if_neg (by omega), es14, up3_r, if_neg (by omega), es13, up3_r, if_neg (by omega), es12, up3_r, if_neg (by omega), es11, up3_r, if_neg (by omega), es10, up3_r, if_neg (by omega), es9, up3_r, if_neg (by omega), es8, up3_r, if_neg (by omega), es7, up3_r, if_neg (by omega), es6, up3_r, if_neg (by omega), es5, up3_r, if_neg (by omega), es4, up3_r, if_neg (by omega), es2, up3_r, if_neg (by omega), es1, up3_r, if_neg (by omega)]
  by_cases c1 : 1095 < ms
  · rw [if_pos c1] at hcw
    refine br_t (nI_lt (a := 1095) c1 (by omega)) ?_
    rw [show (3 : Int32) * nI ms = nI (3 * ms) from pk_mul 3 ms, ← hcw]
    exact go
  · rw [if_neg c1] at hcw
    refine br_f (nI_nlt (a := 1095) (by omega) (by omega)) ?_
    rw [show (4 : Int32) * nI ms = nI (4 * ms) from pk_mul 4 ms, ← hcw]
    exact go
theorem s14_alone_L {i : Nat} {Q K : St → Prop} : ∀ (m j : Nat) (σ : St), j + m = 4096 → K (row3 σ 73 i (fun x => if j ≤ x ∧ x < 4096 then 0 else σ 73 i x)) → w14_alone_L360 i Q K (m + 1) σ (nI j) := by
  intro m
  induction m with
  | zero =>
    intro j σ hj h
    refine br_t (nI_le (a := 4096) (by omega) (by omega)) ?_
    rw [show (fun x => if j ≤ x ∧ x < 4096 then 0 else σ 73 i x) = σ 73 i from funext fun x => by rw [if_neg (by omega)], row3_self] at h
    exact h
  | succ m ih =>
    intro j σ hj h
    refine br_f (nI_ge (b := 4096) (by omega) (by decide)) ⟨vin (by omega) (by omega), fun s1 e1 => ?_⟩
    rw [cl (by omega)] at e1
    rw [nI_1]
    refine ih (j + 1) s1 (by omega) ?_
    have e2 : s1 = row3 σ 73 i (va_up (σ 73 i) j 0) := by rw [e1, ← row3_self (σ := σ) (k := 73) (i := i), row3_up, row3_self]
    have e3 : (fun x => if j + 1 ≤ x ∧ x < 4096 then 0 else s1 73 i x) = fun x => if j ≤ x ∧ x < 4096 then 0 else σ 73 i x := funext fun x => by
      rw [e1, up3_g]
      by_cases c : x = j
      · rw [if_neg (by omega), if_pos ⟨rfl, rfl, c⟩, if_pos (by omega)]
      · rw [if_neg (c := _ ∧ _ ∧ _) (fun z => c z.2.2)]
        by_cases c2 : j ≤ x ∧ x < 4096
        · rw [if_pos c2, if_pos (by omega)]
        · rw [if_neg c2, if_neg (by omega)]
    rw [e3, e2, row3_row3]
    exact h
theorem s14_begin {τ : St} {i t ms cw : Nat} {I : Int32} (ok : okS τ) (now : (τ 14 0 10) = nI t) (hI : 64000 * (τ 14 0 12 + 1) + 250 * nI t = I) (hop : ∀ (s : St) (Q : Int32 → Prop), s 14 0 40 = τ 14 0 40 → s 64 0 = τ 64 0 → Q (nI ms) → w14_optionMss s Q) (hm : ms ≤ 1460) (hcw : cw = if 1095 < ms then 3 * ms else 4 * ms) :
    ∃ τ' : St, okS τ' ∧ Fr (mF [] [(73, i)] [(14, [12]), (56, [5])] [(15, i, [0, 1, 2, 3, 4, 5, 6, 7, 8, 9, 10, 11, 12, 13, 16, 17, 18, 21, 23, 24, 26, 28, 29, 30, 31, 34, 35, 36, 37, 38, 39, 40, 41])]) τ τ' ∧ τ' 14 0 12 = τ 14 0 12 + 1 ∧ τ' 56 0 = va_up (τ 56 0) 5 (τ 56 0 5 + 1) ∧ τ' 15 i = (va_up (va_up (va_up (va_up (va_up (va_up (va_up (va_up (va_up (va_up (va_up (va_up (va_up (va_up (va_up (va_up (va_up (va_up (va_up (va_up (va_up (va_up (va_up (va_up (va_up (va_up (va_up (va_up (va_up (va_up (va_up (va_up (va_up (τ 15 i) 0 1) 1 (τ 14 0 30)) 2 (τ 14 0 32)) 34 (τ 14 0 34)) 36 (τ 14 0 34 + 1)) 35 (τ 14 0 34 + 1)) 3 I) 4 I) 5 I) 6 I) 7 (τ 14 0 37)) 8 (τ 14 0 34)) 9 0) 10 (nI ms)) 11 (nI cw)) 12 65535) 13 1000) 16 0) 17 0) 18 0) 21 0) 23 0) 24 0) 26 0) 28 0) 29 (I + 1)) 30 0) 31 0) 38 0) 39 0) 40 0) 41 0) 37 4096) ∧ τ' 73 i = clrb (τ 73 i) ∧ ∀ Q : St → Prop, w14_synAck τ' i (fun s => Q s) → aloneB τ i Q := by
  obtain ⟨s11, es11⟩ : ∃ s, s = up3 τ 14 0 12 ((τ 14 0 12) + 1) := ⟨_, rfl⟩
  have eo11 := es11
  have Fs11 : Fr (mF [] [(73, i)] [(14, [12]), (56, [5])] [(15, i, [0, 1, 2, 3, 4, 5, 6, 7, 8, 9, 10, 11, 12, 13, 16, 17, 18, 21, 23, 24, 26, 28, 29, 30, 31, 34, 35, 36, 37, 38, 39, 40, 41])]) τ s11 := by rw [es11]; exact fr_u rfl
  have ks11 : okS s11 := by rw [es11]; exact ok_n ok rfl
  obtain ⟨s12, es12⟩ : ∃ s, s = up3 s11 56 0 5 (s11 56 0 5 + 1) := ⟨_, rfl⟩
  have eo12 := es12
  rw [show s11 56 0 5 = τ 56 0 5 by rw [es11, up3_g, if_neg (by omega)]] at es12
  have Fs12 : Fr (mF [] [(73, i)] [(14, [12]), (56, [5])] [(15, i, [0, 1, 2, 3, 4, 5, 6, 7, 8, 9, 10, 11, 12, 13, 16, 17, 18, 21, 23, 24, 26, 28, 29, 30, 31, 34, 35, 36, 37, 38, 39, 40, 41])]) τ s12 := by rw [es12]; exact Fs11.up rfl
  have ks12 : okS s12 := by rw [es12]; exact ok_n ks11 rfl
  have ws12 : s12 14 0 12 = τ 14 0 12 + 1 := by rw [es12, up3_g, if_neg (by omega), es11, up3_g, if_pos ⟨rfl, rfl, rfl⟩]
  obtain ⟨s13, es13⟩ : ∃ s, s = up3 s12 15 i 0 1 := ⟨_, rfl⟩
  have eo13 := es13
  have Fs13 : Fr (mF [] [(73, i)] [(14, [12]), (56, [5])] [(15, i, [0, 1, 2, 3, 4, 5, 6, 7, 8, 9, 10, 11, 12, 13, 16, 17, 18, 21, 23, 24, 26, 28, 29, 30, 31, 34, 35, 36, 37, 38, 39, 40, 41])]) τ s13 := by rw [es13]; exact Fs12.up (by simp [mF])
  have ks13 : okS s13 := by rw [es13]; exact ok_n ks12 rfl
  have ws13 : s13 14 0 12 = τ 14 0 12 + 1 := by rw [es13, up3_g, if_neg (by omega)]; exact ws12
  obtain ⟨s14, es14⟩ : ∃ s, s = up3 s13 15 i 1 (s13 14 0 30) := ⟨_, rfl⟩
  have eo14 := es14
  rw [Fs13 14 0 30 rfl] at es14
  have Fs14 : Fr (mF [] [(73, i)] [(14, [12]), (56, [5])] [(15, i, [0, 1, 2, 3, 4, 5, 6, 7, 8, 9, 10, 11, 12, 13, 16, 17, 18, 21, 23, 24, 26, 28, 29, 30, 31, 34, 35, 36, 37, 38, 39, 40, 41])]) τ s14 := by rw [es14]; exact Fs13.up (by simp [mF])
  have ks14 : okS s14 := by rw [es14]; exact ok_n ks13 rfl
  have ws14 : s14 14 0 12 = τ 14 0 12 + 1 := by rw [es14, up3_g, if_neg (by omega)]; exact ws13
  obtain ⟨s15, es15⟩ : ∃ s, s = up3 s14 15 i 2 (s14 14 0 32) := ⟨_, rfl⟩
  have eo15 := es15
  rw [Fs14 14 0 32 rfl] at es15
  have Fs15 : Fr (mF [] [(73, i)] [(14, [12]), (56, [5])] [(15, i, [0, 1, 2, 3, 4, 5, 6, 7, 8, 9, 10, 11, 12, 13, 16, 17, 18, 21, 23, 24, 26, 28, 29, 30, 31, 34, 35, 36, 37, 38, 39, 40, 41])]) τ s15 := by rw [es15]; exact Fs14.up (by simp [mF])
  have ks15 : okS s15 := by rw [es15]; exact ok_n ks14 rfl
  have ws15 : s15 14 0 12 = τ 14 0 12 + 1 := by rw [es15, up3_g, if_neg (by omega)]; exact ws14
  obtain ⟨s16, es16⟩ : ∃ s, s = up3 s15 15 i 34 (s15 14 0 34) := ⟨_, rfl⟩
  have eo16 := es16
  rw [Fs15 14 0 34 rfl] at es16
  have Fs16 : Fr (mF [] [(73, i)] [(14, [12]), (56, [5])] [(15, i, [0, 1, 2, 3, 4, 5, 6, 7, 8, 9, 10, 11, 12, 13, 16, 17, 18, 21, 23, 24, 26, 28, 29, 30, 31, 34, 35, 36, 37, 38, 39, 40, 41])]) τ s16 := by rw [es16]; exact Fs15.up (by simp [mF])
  have ks16 : okS s16 := by rw [es16]; exact ok_n ks15 rfl
  have ws16 : s16 14 0 12 = τ 14 0 12 + 1 := by rw [es16, up3_g, if_neg (by omega)]; exact ws15
  obtain ⟨s17, es17⟩ : ∃ s, s = up3 s16 15 i 36 ((s16 14 0 34) + 1) := ⟨_, rfl⟩
  have eo17 := es17
  rw [Fs16 14 0 34 rfl] at es17
  have Fs17 : Fr (mF [] [(73, i)] [(14, [12]), (56, [5])] [(15, i, [0, 1, 2, 3, 4, 5, 6, 7, 8, 9, 10, 11, 12, 13, 16, 17, 18, 21, 23, 24, 26, 28, 29, 30, 31, 34, 35, 36, 37, 38, 39, 40, 41])]) τ s17 := by rw [es17]; exact Fs16.up (by simp [mF])
  have ks17 : okS s17 := by rw [es17]; exact ok_n ks16 rfl
  have ws17 : s17 14 0 12 = τ 14 0 12 + 1 := by rw [es17, up3_g, if_neg (by omega)]; exact ws16
  have ys17 : s17 15 i 36 = τ 14 0 34 + 1 := by rw [es17, up3_g, if_pos ⟨rfl, rfl, rfl⟩]
  obtain ⟨s18, es18⟩ : ∃ s, s = up3 s17 15 i 35 (s17 15 i 36) := ⟨_, rfl⟩
  have eo18 := es18
  rw [ys17] at es18
  have Fs18 : Fr (mF [] [(73, i)] [(14, [12]), (56, [5])] [(15, i, [0, 1, 2, 3, 4, 5, 6, 7, 8, 9, 10, 11, 12, 13, 16, 17, 18, 21, 23, 24, 26, 28, 29, 30, 31, 34, 35, 36, 37, 38, 39, 40, 41])]) τ s18 := by rw [es18]; exact Fs17.up (by simp [mF])
  have ks18 : okS s18 := by rw [es18]; exact ok_n ks17 rfl
  have ws18 : s18 14 0 12 = τ 14 0 12 + 1 := by rw [es18, up3_g, if_neg (by omega)]; exact ws17
  obtain ⟨s19, es19⟩ : ∃ s, s = up3 s18 15 i 3 ((64000 * (s18 14 0 12)) + (250 * (s18 14 0 10))) := ⟨_, rfl⟩
  have eo19 := es19
  rw [ws18, show s18 14 0 10 = nI t by rw [Fs18 14 0 10 rfl]; exact now, hI] at es19
  have Fs19 : Fr (mF [] [(73, i)] [(14, [12]), (56, [5])] [(15, i, [0, 1, 2, 3, 4, 5, 6, 7, 8, 9, 10, 11, 12, 13, 16, 17, 18, 21, 23, 24, 26, 28, 29, 30, 31, 34, 35, 36, 37, 38, 39, 40, 41])]) τ s19 := by rw [es19]; exact Fs18.up (by simp [mF])
  have ks19 : okS s19 := by rw [es19]; exact ok_n ks18 rfl
  have ws19 : s19 14 0 12 = τ 14 0 12 + 1 := by rw [es19, up3_g, if_neg (by omega)]; exact ws18
  have qs19 : s19 15 i 3 = I := by rw [es19, up3_g, if_pos ⟨rfl, rfl, rfl⟩]
  obtain ⟨s20, es20⟩ : ∃ s, s = up3 s19 15 i 4 (s19 15 i 3) := ⟨_, rfl⟩
  have eo20 := es20
  rw [qs19] at es20
  have Fs20 : Fr (mF [] [(73, i)] [(14, [12]), (56, [5])] [(15, i, [0, 1, 2, 3, 4, 5, 6, 7, 8, 9, 10, 11, 12, 13, 16, 17, 18, 21, 23, 24, 26, 28, 29, 30, 31, 34, 35, 36, 37, 38, 39, 40, 41])]) τ s20 := by rw [es20]; exact Fs19.up (by simp [mF])
  have ks20 : okS s20 := by rw [es20]; exact ok_n ks19 rfl
  have ws20 : s20 14 0 12 = τ 14 0 12 + 1 := by rw [es20, up3_g, if_neg (by omega)]; exact ws19
  have qs20 : s20 15 i 3 = I := by rw [es20, up3_g, if_neg (by omega)]; exact qs19
  obtain ⟨s21, es21⟩ : ∃ s, s = up3 s20 15 i 5 (s20 15 i 3) := ⟨_, rfl⟩
  have eo21 := es21
  rw [qs20] at es21
  have Fs21 : Fr (mF [] [(73, i)] [(14, [12]), (56, [5])] [(15, i, [0, 1, 2, 3, 4, 5, 6, 7, 8, 9, 10, 11, 12, 13, 16, 17, 18, 21, 23, 24, 26, 28, 29, 30, 31, 34, 35, 36, 37, 38, 39, 40, 41])]) τ s21 := by rw [es21]; exact Fs20.up (by simp [mF])
  have ks21 : okS s21 := by rw [es21]; exact ok_n ks20 rfl
  have ws21 : s21 14 0 12 = τ 14 0 12 + 1 := by rw [es21, up3_g, if_neg (by omega)]; exact ws20
  have qs21 : s21 15 i 3 = I := by rw [es21, up3_g, if_neg (by omega)]; exact qs20
  obtain ⟨s22, es22⟩ : ∃ s, s = up3 s21 15 i 6 (s21 15 i 3) := ⟨_, rfl⟩
  have eo22 := es22
  rw [qs21] at es22
  have Fs22 : Fr (mF [] [(73, i)] [(14, [12]), (56, [5])] [(15, i, [0, 1, 2, 3, 4, 5, 6, 7, 8, 9, 10, 11, 12, 13, 16, 17, 18, 21, 23, 24, 26, 28, 29, 30, 31, 34, 35, 36, 37, 38, 39, 40, 41])]) τ s22 := by rw [es22]; exact Fs21.up (by simp [mF])
  have ks22 : okS s22 := by rw [es22]; exact ok_n ks21 rfl
  have ws22 : s22 14 0 12 = τ 14 0 12 + 1 := by rw [es22, up3_g, if_neg (by omega)]; exact ws21
  have qs22 : s22 15 i 3 = I := by rw [es22, up3_g, if_neg (by omega)]; exact qs21
  obtain ⟨s23, es23⟩ : ∃ s, s = up3 s22 15 i 7 (s22 14 0 37) := ⟨_, rfl⟩
  have eo23 := es23
  rw [Fs22 14 0 37 rfl] at es23
  have Fs23 : Fr (mF [] [(73, i)] [(14, [12]), (56, [5])] [(15, i, [0, 1, 2, 3, 4, 5, 6, 7, 8, 9, 10, 11, 12, 13, 16, 17, 18, 21, 23, 24, 26, 28, 29, 30, 31, 34, 35, 36, 37, 38, 39, 40, 41])]) τ s23 := by rw [es23]; exact Fs22.up (by simp [mF])
  have ks23 : okS s23 := by rw [es23]; exact ok_n ks22 rfl
  have ws23 : s23 14 0 12 = τ 14 0 12 + 1 := by rw [es23, up3_g, if_neg (by omega)]; exact ws22
  have qs23 : s23 15 i 3 = I := by rw [es23, up3_g, if_neg (by omega)]; exact qs22
  obtain ⟨s24, es24⟩ : ∃ s, s = up3 s23 15 i 8 (s23 14 0 34) := ⟨_, rfl⟩
  have eo24 := es24
  rw [Fs23 14 0 34 rfl] at es24
  have Fs24 : Fr (mF [] [(73, i)] [(14, [12]), (56, [5])] [(15, i, [0, 1, 2, 3, 4, 5, 6, 7, 8, 9, 10, 11, 12, 13, 16, 17, 18, 21, 23, 24, 26, 28, 29, 30, 31, 34, 35, 36, 37, 38, 39, 40, 41])]) τ s24 := by rw [es24]; exact Fs23.up (by simp [mF])
  have ks24 : okS s24 := by rw [es24]; exact ok_n ks23 rfl
  have ws24 : s24 14 0 12 = τ 14 0 12 + 1 := by rw [es24, up3_g, if_neg (by omega)]; exact ws23
  have qs24 : s24 15 i 3 = I := by rw [es24, up3_g, if_neg (by omega)]; exact qs23
  obtain ⟨s25, es25⟩ : ∃ s, s = up3 s24 15 i 9 0 := ⟨_, rfl⟩
  have eo25 := es25
  have Fs25 : Fr (mF [] [(73, i)] [(14, [12]), (56, [5])] [(15, i, [0, 1, 2, 3, 4, 5, 6, 7, 8, 9, 10, 11, 12, 13, 16, 17, 18, 21, 23, 24, 26, 28, 29, 30, 31, 34, 35, 36, 37, 38, 39, 40, 41])]) τ s25 := by rw [es25]; exact Fs24.up (by simp [mF])
  have ks25 : okS s25 := by rw [es25]; exact ok_n ks24 rfl
  have ws25 : s25 14 0 12 = τ 14 0 12 + 1 := by rw [es25, up3_g, if_neg (by omega)]; exact ws24
  have qs25 : s25 15 i 3 = I := by rw [es25, up3_g, if_neg (by omega)]; exact qs24
  obtain ⟨s27, es27⟩ : ∃ s, s = up3 s25 15 i 10 (nI ms) := ⟨_, rfl⟩
  have eo27 := es27
  have Fs27 : Fr (mF [] [(73, i)] [(14, [12]), (56, [5])] [(15, i, [0, 1, 2, 3, 4, 5, 6, 7, 8, 9, 10, 11, 12, 13, 16, 17, 18, 21, 23, 24, 26, 28, 29, 30, 31, 34, 35, 36, 37, 38, 39, 40, 41])]) τ s27 := by rw [es27]; exact Fs25.up (by simp [mF])
  have ks27 : okS s27 := by rw [es27]; exact ok_n ks25 rfl
  have ws27 : s27 14 0 12 = τ 14 0 12 + 1 := by rw [es27, up3_g, if_neg (by omega)]; exact ws25
  have qs27 : s27 15 i 3 = I := by rw [es27, up3_g, if_neg (by omega)]; exact qs25
  have m10 : s27 15 i 10 = nI ms := by rw [es27, up3_g, if_pos ⟨rfl, rfl, rfl⟩]
  obtain ⟨s28, es28⟩ : ∃ s, s = up3 s27 15 i 11 (nI cw) := ⟨_, rfl⟩
  have eo28 := es28
  have Fs28 : Fr (mF [] [(73, i)] [(14, [12]), (56, [5])] [(15, i, [0, 1, 2, 3, 4, 5, 6, 7, 8, 9, 10, 11, 12, 13, 16, 17, 18, 21, 23, 24, 26, 28, 29, 30, 31, 34, 35, 36, 37, 38, 39, 40, 41])]) τ s28 := by rw [es28]; exact Fs27.up (by simp [mF])
  have ks28 : okS s28 := by rw [es28]; exact ok_n ks27 rfl
  have ws28 : s28 14 0 12 = τ 14 0 12 + 1 := by rw [es28, up3_g, if_neg (by omega)]; exact ws27
  have qs28 : s28 15 i 3 = I := by rw [es28, up3_g, if_neg (by omega)]; exact qs27
  obtain ⟨s29, es29⟩ : ∃ s, s = up3 s28 15 i 12 65535 := ⟨_, rfl⟩
  have eo29 := es29
  have Fs29 : Fr (mF [] [(73, i)] [(14, [12]), (56, [5])] [(15, i, [0, 1, 2, 3, 4, 5, 6, 7, 8, 9, 10, 11, 12, 13, 16, 17, 18, 21, 23, 24, 26, 28, 29, 30, 31, 34, 35, 36, 37, 38, 39, 40, 41])]) τ s29 := by rw [es29]; exact Fs28.up (by simp [mF])
  have ks29 : okS s29 := by rw [es29]; exact ok_n ks28 rfl
  have ws29 : s29 14 0 12 = τ 14 0 12 + 1 := by rw [es29, up3_g, if_neg (by omega)]; exact ws28
  have qs29 : s29 15 i 3 = I := by rw [es29, up3_g, if_neg (by omega)]; exact qs28
  obtain ⟨s30, es30⟩ : ∃ s, s = up3 s29 15 i 13 1000 := ⟨_, rfl⟩
  have eo30 := es30
  have Fs30 : Fr (mF [] [(73, i)] [(14, [12]), (56, [5])] [(15, i, [0, 1, 2, 3, 4, 5, 6, 7, 8, 9, 10, 11, 12, 13, 16, 17, 18, 21, 23, 24, 26, 28, 29, 30, 31, 34, 35, 36, 37, 38, 39, 40, 41])]) τ s30 := by rw [es30]; exact Fs29.up (by simp [mF])
  have ks30 : okS s30 := by rw [es30]; exact ok_n ks29 rfl
  have ws30 : s30 14 0 12 = τ 14 0 12 + 1 := by rw [es30, up3_g, if_neg (by omega)]; exact ws29
  have qs30 : s30 15 i 3 = I := by rw [es30, up3_g, if_neg (by omega)]; exact qs29
  obtain ⟨s31, es31⟩ : ∃ s, s = up3 s30 15 i 16 0 := ⟨_, rfl⟩
  have eo31 := es31
  have Fs31 : Fr (mF [] [(73, i)] [(14, [12]), (56, [5])] [(15, i, [0, 1, 2, 3, 4, 5, 6, 7, 8, 9, 10, 11, 12, 13, 16, 17, 18, 21, 23, 24, 26, 28, 29, 30, 31, 34, 35, 36, 37, 38, 39, 40, 41])]) τ s31 := by rw [es31]; exact Fs30.up (by simp [mF])
  have ks31 : okS s31 := by rw [es31]; exact ok_z ks30 rfl (Or.inl rfl)
  have ws31 : s31 14 0 12 = τ 14 0 12 + 1 := by rw [es31, up3_g, if_neg (by omega)]; exact ws30
  have qs31 : s31 15 i 3 = I := by rw [es31, up3_g, if_neg (by omega)]; exact qs30
  obtain ⟨s32, es32⟩ : ∃ s, s = up3 s31 15 i 17 0 := ⟨_, rfl⟩
  have eo32 := es32
  have Fs32 : Fr (mF [] [(73, i)] [(14, [12]), (56, [5])] [(15, i, [0, 1, 2, 3, 4, 5, 6, 7, 8, 9, 10, 11, 12, 13, 16, 17, 18, 21, 23, 24, 26, 28, 29, 30, 31, 34, 35, 36, 37, 38, 39, 40, 41])]) τ s32 := by rw [es32]; exact Fs31.up (by simp [mF])
  have ks32 : okS s32 := by rw [es32]; exact ok_z ks31 rfl (Or.inl rfl)
  have ws32 : s32 14 0 12 = τ 14 0 12 + 1 := by rw [es32, up3_g, if_neg (by omega)]; exact ws31
  have qs32 : s32 15 i 3 = I := by rw [es32, up3_g, if_neg (by omega)]; exact qs31
  obtain ⟨s33, es33⟩ : ∃ s, s = up3 s32 15 i 18 0 := ⟨_, rfl⟩
  have eo33 := es33
  have Fs33 : Fr (mF [] [(73, i)] [(14, [12]), (56, [5])] [(15, i, [0, 1, 2, 3, 4, 5, 6, 7, 8, 9, 10, 11, 12, 13, 16, 17, 18, 21, 23, 24, 26, 28, 29, 30, 31, 34, 35, 36, 37, 38, 39, 40, 41])]) τ s33 := by rw [es33]; exact Fs32.up (by simp [mF])
  have ks33 : okS s33 := by rw [es33]; exact ok_z ks32 rfl (Or.inl rfl)
  have ws33 : s33 14 0 12 = τ 14 0 12 + 1 := by rw [es33, up3_g, if_neg (by omega)]; exact ws32
  have qs33 : s33 15 i 3 = I := by rw [es33, up3_g, if_neg (by omega)]; exact qs32
  obtain ⟨s34, es34⟩ : ∃ s, s = up3 s33 15 i 21 0 := ⟨_, rfl⟩
  have eo34 := es34
  have Fs34 : Fr (mF [] [(73, i)] [(14, [12]), (56, [5])] [(15, i, [0, 1, 2, 3, 4, 5, 6, 7, 8, 9, 10, 11, 12, 13, 16, 17, 18, 21, 23, 24, 26, 28, 29, 30, 31, 34, 35, 36, 37, 38, 39, 40, 41])]) τ s34 := by rw [es34]; exact Fs33.up (by simp [mF])
  have ks34 : okS s34 := by rw [es34]; exact ok_z ks33 rfl (Or.inl rfl)
  have ws34 : s34 14 0 12 = τ 14 0 12 + 1 := by rw [es34, up3_g, if_neg (by omega)]; exact ws33
  have qs34 : s34 15 i 3 = I := by rw [es34, up3_g, if_neg (by omega)]; exact qs33
  obtain ⟨s35, es35⟩ : ∃ s, s = up3 s34 15 i 23 0 := ⟨_, rfl⟩
  have eo35 := es35
  have Fs35 : Fr (mF [] [(73, i)] [(14, [12]), (56, [5])] [(15, i, [0, 1, 2, 3, 4, 5, 6, 7, 8, 9, 10, 11, 12, 13, 16, 17, 18, 21, 23, 24, 26, 28, 29, 30, 31, 34, 35, 36, 37, 38, 39, 40, 41])]) τ s35 := by rw [es35]; exact Fs34.up (by simp [mF])
  have ks35 : okS s35 := by rw [es35]; exact ok_n ks34 rfl
  have ws35 : s35 14 0 12 = τ 14 0 12 + 1 := by rw [es35, up3_g, if_neg (by omega)]; exact ws34
  have qs35 : s35 15 i 3 = I := by rw [es35, up3_g, if_neg (by omega)]; exact qs34
  obtain ⟨s36, es36⟩ : ∃ s, s = up3 s35 15 i 24 0 := ⟨_, rfl⟩
  have eo36 := es36
  have Fs36 : Fr (mF [] [(73, i)] [(14, [12]), (56, [5])] [(15, i, [0, 1, 2, 3, 4, 5, 6, 7, 8, 9, 10, 11, 12, 13, 16, 17, 18, 21, 23, 24, 26, 28, 29, 30, 31, 34, 35, 36, 37, 38, 39, 40, 41])]) τ s36 := by rw [es36]; exact Fs35.up (by simp [mF])
  have ks36 : okS s36 := by rw [es36]; exact ok_n ks35 rfl
  have ws36 : s36 14 0 12 = τ 14 0 12 + 1 := by rw [es36, up3_g, if_neg (by omega)]; exact ws35
  have qs36 : s36 15 i 3 = I := by rw [es36, up3_g, if_neg (by omega)]; exact qs35
  obtain ⟨s37, es37⟩ : ∃ s, s = up3 s36 15 i 26 0 := ⟨_, rfl⟩
  have eo37 := es37
  have Fs37 : Fr (mF [] [(73, i)] [(14, [12]), (56, [5])] [(15, i, [0, 1, 2, 3, 4, 5, 6, 7, 8, 9, 10, 11, 12, 13, 16, 17, 18, 21, 23, 24, 26, 28, 29, 30, 31, 34, 35, 36, 37, 38, 39, 40, 41])]) τ s37 := by rw [es37]; exact Fs36.up (by simp [mF])
  have ks37 : okS s37 := by rw [es37]; exact ok_n ks36 rfl
  have ws37 : s37 14 0 12 = τ 14 0 12 + 1 := by rw [es37, up3_g, if_neg (by omega)]; exact ws36
  have qs37 : s37 15 i 3 = I := by rw [es37, up3_g, if_neg (by omega)]; exact qs36
  obtain ⟨s38, es38⟩ : ∃ s, s = up3 s37 15 i 28 0 := ⟨_, rfl⟩
  have eo38 := es38
  have Fs38 : Fr (mF [] [(73, i)] [(14, [12]), (56, [5])] [(15, i, [0, 1, 2, 3, 4, 5, 6, 7, 8, 9, 10, 11, 12, 13, 16, 17, 18, 21, 23, 24, 26, 28, 29, 30, 31, 34, 35, 36, 37, 38, 39, 40, 41])]) τ s38 := by rw [es38]; exact Fs37.up (by simp [mF])
  have ks38 : okS s38 := by rw [es38]; exact ok_n ks37 rfl
  have ws38 : s38 14 0 12 = τ 14 0 12 + 1 := by rw [es38, up3_g, if_neg (by omega)]; exact ws37
  have qs38 : s38 15 i 3 = I := by rw [es38, up3_g, if_neg (by omega)]; exact qs37
  obtain ⟨s39, es39⟩ : ∃ s, s = up3 s38 15 i 29 ((s38 15 i 3) + 1) := ⟨_, rfl⟩
  have eo39 := es39
  rw [qs38] at es39
  have Fs39 : Fr (mF [] [(73, i)] [(14, [12]), (56, [5])] [(15, i, [0, 1, 2, 3, 4, 5, 6, 7, 8, 9, 10, 11, 12, 13, 16, 17, 18, 21, 23, 24, 26, 28, 29, 30, 31, 34, 35, 36, 37, 38, 39, 40, 41])]) τ s39 := by rw [es39]; exact Fs38.up (by simp [mF])
  have ks39 : okS s39 := by rw [es39]; exact ok_n ks38 rfl
  have ws39 : s39 14 0 12 = τ 14 0 12 + 1 := by rw [es39, up3_g, if_neg (by omega)]; exact ws38
  have qs39 : s39 15 i 3 = I := by rw [es39, up3_g, if_neg (by omega)]; exact qs38
  obtain ⟨s40, es40⟩ : ∃ s, s = up3 s39 15 i 30 0 := ⟨_, rfl⟩
  have eo40 := es40
  have Fs40 : Fr (mF [] [(73, i)] [(14, [12]), (56, [5])] [(15, i, [0, 1, 2, 3, 4, 5, 6, 7, 8, 9, 10, 11, 12, 13, 16, 17, 18, 21, 23, 24, 26, 28, 29, 30, 31, 34, 35, 36, 37, 38, 39, 40, 41])]) τ s40 := by rw [es40]; exact Fs39.up (by simp [mF])
  have ks40 : okS s40 := by rw [es40]; exact ok_z ks39 rfl (Or.inl rfl)
  have ws40 : s40 14 0 12 = τ 14 0 12 + 1 := by rw [es40, up3_g, if_neg (by omega)]; exact ws39
  have qs40 : s40 15 i 3 = I := by rw [es40, up3_g, if_neg (by omega)]; exact qs39
  obtain ⟨s41, es41⟩ : ∃ s, s = up3 s40 15 i 31 0 := ⟨_, rfl⟩
  have eo41 := es41
  have Fs41 : Fr (mF [] [(73, i)] [(14, [12]), (56, [5])] [(15, i, [0, 1, 2, 3, 4, 5, 6, 7, 8, 9, 10, 11, 12, 13, 16, 17, 18, 21, 23, 24, 26, 28, 29, 30, 31, 34, 35, 36, 37, 38, 39, 40, 41])]) τ s41 := by rw [es41]; exact Fs40.up (by simp [mF])
  have ks41 : okS s41 := by rw [es41]; exact ok_z ks40 rfl (Or.inl rfl)
  have ws41 : s41 14 0 12 = τ 14 0 12 + 1 := by rw [es41, up3_g, if_neg (by omega)]; exact ws40
  have qs41 : s41 15 i 3 = I := by rw [es41, up3_g, if_neg (by omega)]; exact qs40
  obtain ⟨s42, es42⟩ : ∃ s, s = up3 s41 15 i 38 0 := ⟨_, rfl⟩
  have eo42 := es42
  have Fs42 : Fr (mF [] [(73, i)] [(14, [12]), (56, [5])] [(15, i, [0, 1, 2, 3, 4, 5, 6, 7, 8, 9, 10, 11, 12, 13, 16, 17, 18, 21, 23, 24, 26, 28, 29, 30, 31, 34, 35, 36, 37, 38, 39, 40, 41])]) τ s42 := by rw [es42]; exact Fs41.up (by simp [mF])
  have ks42 : okS s42 := by rw [es42]; exact ok_n ks41 rfl
  have ws42 : s42 14 0 12 = τ 14 0 12 + 1 := by rw [es42, up3_g, if_neg (by omega)]; exact ws41
  have qs42 : s42 15 i 3 = I := by rw [es42, up3_g, if_neg (by omega)]; exact qs41
  obtain ⟨s43, es43⟩ : ∃ s, s = up3 s42 15 i 39 0 := ⟨_, rfl⟩
  have eo43 := es43
  have Fs43 : Fr (mF [] [(73, i)] [(14, [12]), (56, [5])] [(15, i, [0, 1, 2, 3, 4, 5, 6, 7, 8, 9, 10, 11, 12, 13, 16, 17, 18, 21, 23, 24, 26, 28, 29, 30, 31, 34, 35, 36, 37, 38, 39, 40, 41])]) τ s43 := by rw [es43]; exact Fs42.up (by simp [mF])
  have ks43 : okS s43 := by rw [es43]; exact ok_z ks42 rfl (Or.inl rfl)
  have ws43 : s43 14 0 12 = τ 14 0 12 + 1 := by rw [es43, up3_g, if_neg (by omega)]; exact ws42
  have qs43 : s43 15 i 3 = I := by rw [es43, up3_g, if_neg (by omega)]; exact qs42
  obtain ⟨s44, es44⟩ : ∃ s, s = up3 s43 15 i 40 0 := ⟨_, rfl⟩
  have eo44 := es44
  have Fs44 : Fr (mF [] [(73, i)] [(14, [12]), (56, [5])] [(15, i, [0, 1, 2, 3, 4, 5, 6, 7, 8, 9, 10, 11, 12, 13, 16, 17, 18, 21, 23, 24, 26, 28, 29, 30, 31, 34, 35, 36, 37, 38, 39, 40, 41])]) τ s44 := by rw [es44]; exact Fs43.up (by simp [mF])
  have ks44 : okS s44 := by rw [es44]; exact ok_z ks43 rfl (Or.inl rfl)
  have ws44 : s44 14 0 12 = τ 14 0 12 + 1 := by rw [es44, up3_g, if_neg (by omega)]; exact ws43
  have qs44 : s44 15 i 3 = I := by rw [es44, up3_g, if_neg (by omega)]; exact qs43
  obtain ⟨s45, es45⟩ : ∃ s, s = up3 s44 15 i 41 0 := ⟨_, rfl⟩
  have eo45 := es45
  have Fs45 : Fr (mF [] [(73, i)] [(14, [12]), (56, [5])] [(15, i, [0, 1, 2, 3, 4, 5, 6, 7, 8, 9, 10, 11, 12, 13, 16, 17, 18, 21, 23, 24, 26, 28, 29, 30, 31, 34, 35, 36, 37, 38, 39, 40, 41])]) τ s45 := by rw [es45]; exact Fs44.up (by simp [mF])
  have ks45 : okS s45 := by rw [es45]; exact ok_z ks44 rfl (Or.inl rfl)
  have ws45 : s45 14 0 12 = τ 14 0 12 + 1 := by rw [es45, up3_g, if_neg (by omega)]; exact ws44
  have qs45 : s45 15 i 3 = I := by rw [es45, up3_g, if_neg (by omega)]; exact qs44
  obtain ⟨s46, es46⟩ : ∃ s, s = up3 s45 15 i 37 4096 := ⟨_, rfl⟩
  have eo46 := es46
  have Fs46 : Fr (mF [] [(73, i)] [(14, [12]), (56, [5])] [(15, i, [0, 1, 2, 3, 4, 5, 6, 7, 8, 9, 10, 11, 12, 13, 16, 17, 18, 21, 23, 24, 26, 28, 29, 30, 31, 34, 35, 36, 37, 38, 39, 40, 41])]) τ s46 := by rw [es46]; exact Fs45.up (by simp [mF])
  have ks46 : okS s46 := by rw [es46]; exact ok_n ks45 rfl
  have ws46 : s46 14 0 12 = τ 14 0 12 + 1 := by rw [es46, up3_g, if_neg (by omega)]; exact ws45
  have qs46 : s46 15 i 3 = I := by rw [es46, up3_g, if_neg (by omega)]; exact qs45
  obtain ⟨t1, et1⟩ : ∃ s, s = row3 s46 73 i (fun x => if 0 ≤ x ∧ x < 4096 then 0 else s46 73 i x) := ⟨_, rfl⟩
  have f1 : Fr (mF [] [(73, i)] [] []) s46 t1 := by rw [et1]; exact fr_r (fun _ => by simp [mF])
  have F1 : Fr (mF [] [(73, i)] [(14, [12]), (56, [5])] [(15, i, [0, 1, 2, 3, 4, 5, 6, 7, 8, 9, 10, 11, 12, 13, 16, 17, 18, 21, 23, 24, 26, 28, 29, 30, 31, 34, 35, 36, 37, 38, 39, 40, 41])]) τ t1 := Fs46.tr (f1.sub (mF_sub rfl (sub_c (Or.inr (List.mem_of_getElem? (i := 0) rfl)) sub_nil) rfl sud_nil))
  have k1 : okS t1 := by
    intro k' i' j'
    rw [et1, row3_g]
    split
    · rename_i h
      rw [h.1, tyk_a 73 1 (by decide) (by decide)]
      refine ⟨fun _ => ?_, fun h => absurd h (by decide)⟩
      split
      · exact Or.inl rfl
      · exact ok_bo ks46 (tyk_a 73 1 (by decide) (by decide) _)
    · exact ks46 k' i' j'
  refine ⟨t1, k1, F1, by rw [f1 _ _ _ rfl]; exact ws46, ?_, ?_, ?_, fun Q hq => ?_⟩
  · rw [f1.row (fun _ => rfl), es46, up3_r, if_neg (by omega), es45, up3_r, if_neg (by omega), es44, up3_r, if_neg (by omega), es43, up3_r, if_neg (by omega), es42, up3_r, if_neg (by omega), es41, up3_r, if_neg (by omega), es40, up3_r, if_neg (by omega), es39, up3_r, if_neg (by omega), es38, up3_r, if_neg (by omega), es37, up3_r, if_neg (by omega), es36, up3_r, if_neg (by omega), es35, up3_r, if_neg (by omega), es34, up3_r, if_neg (by omega), es33, up3_r, if_neg (by omega), es32, up3_r, if_neg (by omega), es31, up3_r, if_neg (by omega), es30, up3_r, if_neg (by omega), es29, up3_r, if_neg (by omega), es28, up3_r, if_neg (by omega), es27, up3_r, if_neg (by omega), es25, up3_r, if_neg (by omega), es24, up3_r, if_neg (by omega), es23, up3_r, if_neg (by omega), es22, up3_r, if_neg (by omega), es21, up3_r, if_neg (by omega), es20, up3_r, if_neg (by omega), es19, up3_r, if_neg (by omega), es18, up3_r, if_neg (by omega), es17, up3_r, if_neg (by omega), es16, up3_r, if_neg (by omega), es15, up3_r, if_neg (by omega), es14, up3_r, if_neg (by omega), es13, up3_r, if_neg (by omega), es12, up3_r, if_pos ⟨rfl, rfl⟩, es11, up3_r, if_neg (by omega)]
  · rw [f1.row (fun _ => rfl), es46, up3_r, if_pos ⟨rfl, rfl⟩, es45, up3_r, if_pos ⟨rfl, rfl⟩, es44, up3_r, if_pos ⟨rfl, rfl⟩, es43, up3_r, if_pos ⟨rfl, rfl⟩, es42, up3_r, if_pos ⟨rfl, rfl⟩, es41, up3_r, if_pos ⟨rfl, rfl⟩, es40, up3_r, if_pos ⟨rfl, rfl⟩, es39, up3_r, if_pos ⟨rfl, rfl⟩, es38, up3_r, if_pos ⟨rfl, rfl⟩, es37, up3_r, if_pos ⟨rfl, rfl⟩, es36, up3_r, if_pos ⟨rfl, rfl⟩, es35, up3_r, if_pos ⟨rfl, rfl⟩, es34, up3_r, if_pos ⟨rfl, rfl⟩, es33, up3_r, if_pos ⟨rfl, rfl⟩, es32, up3_r, if_pos ⟨rfl, rfl⟩, es31, up3_r, if_pos ⟨rfl, rfl⟩, es30, up3_r, if_pos ⟨rfl, rfl⟩, es29, up3_r, if_pos ⟨rfl, rfl⟩, es28, up3_r, if_pos ⟨rfl, rfl⟩, es27, up3_r, if_pos ⟨rfl, rfl⟩, es25, up3_r, if_pos ⟨rfl, rfl⟩, es24, up3_r, if_pos ⟨rfl, rfl⟩, es23, up3_r, if_pos ⟨rfl, rfl⟩, es22, up3_r, if_pos ⟨rfl, rfl⟩, es21, up3_r, if_pos ⟨rfl, rfl⟩, es20, up3_r, if_pos ⟨rfl, rfl⟩, es19, up3_r, if_pos ⟨rfl, rfl⟩, es18, up3_r, if_pos ⟨rfl, rfl⟩, es17, up3_r, if_pos ⟨rfl, rfl⟩, es16, up3_r, if_pos ⟨rfl, rfl⟩, es15, up3_r, if_pos ⟨rfl, rfl⟩, es14, up3_r, if_pos ⟨rfl, rfl⟩, es13, up3_r, if_pos ⟨rfl, rfl⟩, es12, up3_r, if_neg (by omega), es11, up3_r, if_neg (by omega)]
  · have q : s46 73 i = τ 73 i := by rw [es46, up3_r, if_neg (by omega), es45, up3_r, if_neg (by omega), es44, up3_r, if_neg (by omega), es43, up3_r, if_neg (by omega), es42, up3_r, if_neg (by omega), es41, up3_r, if_neg (by omega), es40, up3_r, if_neg (by omega), es39, up3_r, if_neg (by omega), es38, up3_r, if_neg (by omega), es37, up3_r, if_neg (by omega), es36, up3_r, if_neg (by omega), es35, up3_r, if_neg (by omega), es34, up3_r, if_neg (by omega), es33, up3_r, if_neg (by omega), es32, up3_r, if_neg (by omega), es31, up3_r, if_neg (by omega), es30, up3_r, if_neg (by omega), es29, up3_r, if_neg (by omega), es28, up3_r, if_neg (by omega), es27, up3_r, if_neg (by omega), es25, up3_r, if_neg (by omega), es24, up3_r, if_neg (by omega), es23, up3_r, if_neg (by omega), es22, up3_r, if_neg (by omega), es21, up3_r, if_neg (by omega), es20, up3_r, if_neg (by omega), es19, up3_r, if_neg (by omega), es18, up3_r, if_neg (by omega), es17, up3_r, if_neg (by omega), es16, up3_r, if_neg (by omega), es15, up3_r, if_neg (by omega), es14, up3_r, if_neg (by omega), es13, up3_r, if_neg (by omega), es12, up3_r, if_neg (by omega), es11, up3_r, if_neg (by omega)]
    rw [et1, row3_r, if_pos ⟨rfl, rfl⟩, q]
    funext x
    unfold clrb
    by_cases c : x < 4096
    · rw [if_pos c, if_pos ⟨by omega, c⟩]
    · rw [if_neg c, if_neg (fun z => c z.2)]
  have go : w14_alone_J255 s27 i (nI cw) i Q := by
    intro x ex
    obtain rfl := ex.trans eo28.symm
    intro x ex
    obtain rfl := ex.trans eo29.symm
    intro x ex
    obtain rfl := ex.trans eo30.symm
    intro x ex
    obtain rfl := ex.trans eo31.symm
    intro x ex
    obtain rfl := ex.trans eo32.symm
    intro x ex
    obtain rfl := ex.trans eo33.symm
    intro x ex
    obtain rfl := ex.trans eo34.symm
    intro x ex
    obtain rfl := ex.trans eo35.symm
    intro x ex
    obtain rfl := ex.trans eo36.symm
    intro x ex
    obtain rfl := ex.trans eo37.symm
    intro x ex
    obtain rfl := ex.trans eo38.symm
    intro x ex
    obtain rfl := ex.trans eo39.symm
    intro x ex
    obtain rfl := ex.trans eo40.symm
    intro x ex
    obtain rfl := ex.trans eo41.symm
    intro x ex
    obtain rfl := ex.trans eo42.symm
    intro x ex
    obtain rfl := ex.trans eo43.symm
    intro x ex
    obtain rfl := ex.trans eo44.symm
    intro x ex
    obtain rfl := ex.trans eo45.symm
    intro x ex
    obtain rfl := ex.trans eo46.symm
    refine ⟨4097, s14_alone_L 4096 0 _ (by omega) ?_⟩
    rw [← et1]
    exact hq
  intro x ex
  obtain rfl := ex.trans eo11.symm
  refine ⟨show vp_in (nI 5) 8 from vin (by omega) (by omega), show vp_in (nI 5) 8 from vin (by omega) (by omega), ?_⟩
  intro x ex
  obtain rfl := ex.trans eo12.symm
  intro x ex
  obtain rfl := ex.trans eo13.symm
  intro x ex
  obtain rfl := ex.trans eo14.symm
  intro x ex
  obtain rfl := ex.trans eo15.symm
  intro x ex
  obtain rfl := ex.trans eo16.symm
  intro x ex
  obtain rfl := ex.trans eo17.symm
  intro x ex
  obtain rfl := ex.trans eo18.symm
  intro x ex
  obtain rfl := ex.trans eo19.symm
  intro x ex
  obtain rfl := ex.trans eo20.symm
  intro x ex
  obtain rfl := ex.trans eo21.symm
  intro x ex
  obtain rfl := ex.trans eo22.symm
  intro x ex
  obtain rfl := ex.trans eo23.symm
  intro x ex
  obtain rfl := ex.trans eo24.symm
  intro x ex
  obtain rfl := ex.trans eo25.symm
  refine hop _ _ (Fs25 _ _ _ rfl) (Fs25.row fun _ => rfl) ?_
  intro x ex
  obtain rfl := ex.trans eo27.symm
  rw [m10]
  by_cases c1 : 1095 < ms
  · rw [if_pos c1] at hcw
    refine br_t (nI_lt (a := 1095) c1 (by omega)) ?_
    rw [show (3 : Int32) * nI ms = nI (3 * ms) from pk_mul 3 ms, ← hcw]
    exact go
  · rw [if_neg c1] at hcw
    refine br_f (nI_nlt (a := 1095) (by omega) (by omega)) ?_
    rw [show (4 : Int32) * nI ms = nI (4 * ms) from pk_mul 4 ms, ← hcw]
    exact go
