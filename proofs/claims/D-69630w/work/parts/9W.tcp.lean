/-! a segment is read -/
set_option maxRecDepth 100000
/-- the model: the head is taken, the sum is right -/
theorem s14_head {τ : St} {n hd : Nat} (ok : okS τ) (hn : n ≤ 4096) (hn2 : 20 ≤ n) (ehd : ((τ 64 0 12 >>> ((4 : Int32) &&& 31)) &&& 15) * 4 = nI hd) (h20 : 20 ≤ hd) (hdn : hd ≤ n) (hck : ck (psd (τ 14 0 30) (τ 14 0 5) n + sB (τ 64 0) 0 n) = 0) :
    ∃ τ' : St, okS τ' ∧ Fr (mF [] [] [(14, [32, 33, 34, 35, 36, 37, 38, 39, 40])] []) τ τ' ∧ τ' 14 0 = (va_up (va_up (va_up (va_up (va_up (va_up (va_up (va_up (va_up (τ 14 0) 40 (nI hd)) 32 (two (τ 64 0) 0)) 33 (two (τ 64 0) 2)) 34 (four (τ 64 0) 4)) 35 (four (τ 64 0) 8)) 36 (τ 64 0 13 &&& 31)) 37 (two (τ 64 0) 14)) 38 (nI hd)) 39 (nI (n - hd))) ∧ ∀ Q : St → Prop, tcpT τ' Q → w14_tcp τ (nI n) Q := by
  have Fτ : Fr (mF [] [] [(14, [32, 33, 34, 35, 36, 37, 38, 39, 40])] []) τ τ := Fr.rf
  have kτ : okS τ := ok
  obtain ⟨s1, es1⟩ : ∃ s, s = up3 τ 14 0 40 (nI hd) := ⟨_, rfl⟩
  have eos1 := es1
  have Fs1 : Fr (mF [] [] [(14, [32, 33, 34, 35, 36, 37, 38, 39, 40])] []) τ s1 := by rw [es1]; exact Fτ.up rfl
  have ks1 : okS s1 := by rw [es1]; exact ok_n kτ rfl
  have qs1 : s1 14 0 40 = nI hd := by rw [es1, up3_g, if_pos ⟨rfl, rfl, rfl⟩]
  obtain ⟨s6, es6⟩ : ∃ s, s = up3 s1 14 0 32 (two (s1 64 0) 0) := ⟨_, rfl⟩
  have eos6 := es6
  rw [Fs1.row (k := 64) (i := 0) (fun _ => rfl)] at es6
  have Fs6 : Fr (mF [] [] [(14, [32, 33, 34, 35, 36, 37, 38, 39, 40])] []) τ s6 := by rw [es6]; exact Fs1.up rfl
  have ks6 : okS s6 := by rw [es6]; exact ok_n ks1 rfl
  have qs6 : s6 14 0 40 = nI hd := by rw [es6, up3_g, if_neg (by omega)]; exact qs1
  obtain ⟨s8, es8⟩ : ∃ s, s = up3 s6 14 0 33 (two (s6 64 0) 2) := ⟨_, rfl⟩
  have eos8 := es8
  rw [Fs6.row (k := 64) (i := 0) (fun _ => rfl)] at es8
  have Fs8 : Fr (mF [] [] [(14, [32, 33, 34, 35, 36, 37, 38, 39, 40])] []) τ s8 := by rw [es8]; exact Fs6.up rfl
  have ks8 : okS s8 := by rw [es8]; exact ok_n ks6 rfl
  have qs8 : s8 14 0 40 = nI hd := by rw [es8, up3_g, if_neg (by omega)]; exact qs6
  obtain ⟨s10, es10⟩ : ∃ s, s = up3 s8 14 0 34 (four (s8 64 0) 4) := ⟨_, rfl⟩
  have eos10 := es10
  rw [Fs8.row (k := 64) (i := 0) (fun _ => rfl)] at es10
  have Fs10 : Fr (mF [] [] [(14, [32, 33, 34, 35, 36, 37, 38, 39, 40])] []) τ s10 := by rw [es10]; exact Fs8.up rfl
  have ks10 : okS s10 := by rw [es10]; exact ok_n ks8 rfl
  have qs10 : s10 14 0 40 = nI hd := by rw [es10, up3_g, if_neg (by omega)]; exact qs8
  obtain ⟨s12, es12⟩ : ∃ s, s = up3 s10 14 0 35 (four (s10 64 0) 8) := ⟨_, rfl⟩
  have eos12 := es12
  rw [Fs10.row (k := 64) (i := 0) (fun _ => rfl)] at es12
  have Fs12 : Fr (mF [] [] [(14, [32, 33, 34, 35, 36, 37, 38, 39, 40])] []) τ s12 := by rw [es12]; exact Fs10.up rfl
  have ks12 : okS s12 := by rw [es12]; exact ok_n ks10 rfl
  have qs12 : s12 14 0 40 = nI hd := by rw [es12, up3_g, if_neg (by omega)]; exact qs10
  obtain ⟨s13, es13⟩ : ∃ s, s = up3 s12 14 0 36 ((s12 64 0 13) &&& 31) := ⟨_, rfl⟩
  have eos13 := es13
  rw [Fs12.row (k := 64) (i := 0) (fun _ => rfl)] at es13
  have Fs13 : Fr (mF [] [] [(14, [32, 33, 34, 35, 36, 37, 38, 39, 40])] []) τ s13 := by rw [es13]; exact Fs12.up rfl
  have ks13 : okS s13 := by rw [es13]; exact ok_n ks12 rfl
  have qs13 : s13 14 0 40 = nI hd := by rw [es13, up3_g, if_neg (by omega)]; exact qs12
  obtain ⟨s15, es15⟩ : ∃ s, s = up3 s13 14 0 37 (two (s13 64 0) 14) := ⟨_, rfl⟩
  have eos15 := es15
  rw [Fs13.row (k := 64) (i := 0) (fun _ => rfl)] at es15
  have Fs15 : Fr (mF [] [] [(14, [32, 33, 34, 35, 36, 37, 38, 39, 40])] []) τ s15 := by rw [es15]; exact Fs13.up rfl
  have ks15 : okS s15 := by rw [es15]; exact ok_n ks13 rfl
  have qs15 : s15 14 0 40 = nI hd := by rw [es15, up3_g, if_neg (by omega)]; exact qs13
  obtain ⟨s16, es16⟩ : ∃ s, s = up3 s15 14 0 38 (s15 14 0 40) := ⟨_, rfl⟩
  have eos16 := es16
  rw [qs15] at es16
  have Fs16 : Fr (mF [] [] [(14, [32, 33, 34, 35, 36, 37, 38, 39, 40])] []) τ s16 := by rw [es16]; exact Fs15.up rfl
  have ks16 : okS s16 := by rw [es16]; exact ok_n ks15 rfl
  have qs16 : s16 14 0 40 = nI hd := by rw [es16, up3_g, if_neg (by omega)]; exact qs15
  obtain ⟨s17, es17⟩ : ∃ s, s = up3 s16 14 0 39 (nI n - (s16 14 0 40)) := ⟨_, rfl⟩
  have eos17 := es17
  rw [qs16, pk_sub hdn] at es17
  have Fs17 : Fr (mF [] [] [(14, [32, 33, 34, 35, 36, 37, 38, 39, 40])] []) τ s17 := by rw [es17]; exact Fs16.up rfl
  have ks17 : okS s17 := by rw [es17]; exact ok_n ks16 rfl
  have qs17 : s17 14 0 40 = nI hd := by rw [es17, up3_g, if_neg (by omega)]; exact qs16
  have hbd := sB_le (τ 64 0) 0 n
  have hpd := psd_lt (τ 14 0 30) (τ 14 0 5) n
  refine ⟨s17, ks17, Fs17, ?_, fun Q hq => ?_⟩
  · rw [es17, up3_r, if_pos ⟨rfl, rfl⟩, es16, up3_r, if_pos ⟨rfl, rfl⟩, es15, up3_r, if_pos ⟨rfl, rfl⟩, es13, up3_r, if_pos ⟨rfl, rfl⟩, es12, up3_r, if_pos ⟨rfl, rfl⟩, es10, up3_r, if_pos ⟨rfl, rfl⟩, es8, up3_r, if_pos ⟨rfl, rfl⟩, es6, up3_r, if_pos ⟨rfl, rfl⟩, es1, up3_r, if_pos ⟨rfl, rfl⟩]
  refine br_t (nI_le (a := 20) (by omega) (by omega)) ⟨show vp_in (nI 12) 4096 from vin (by omega) (by omega), fun _ => ?_⟩
  show ∀ σ1, σ1 = up3 τ 14 0 40 (((τ 64 0 12 >>> ((4 : Int32) &&& 31)) &&& 15) * 4) → _
  rw [ehd]
  intro x ex
  obtain rfl := ex.trans eos1.symm
  rw [qs1]
  refine br_f (nI_nlt (b := 20) (by omega) (by omega)) (br_f (nI_nlt (by omega) (by omega)) ?_)
  show w14_added _ 64 0 0 (nI n) _ _
  rw [psd_l _ _ (by omega), Fs1 14 0 30 rfl, Fs1 14 0 5 rfl]
  refine s14_added (k := 64) (i := 0) (a := 0) (by omega) (by omega) (by omega) (by show _ ≤ 4096; omega) ?_
  rw [Fs1.row (k := 64) (i := 0) (fun _ => rfl)]
  refine s14_sixteen (by omega) ?_
  rw [hck]
  refine br_t rfl ?_
  refine s14_half (a := 0) (by omega) ?_
  intro x ex
  obtain rfl := ex.trans eos6.symm
  refine s14_half (a := 2) (by omega) ?_
  intro x ex
  obtain rfl := ex.trans eos8.symm
  refine s14_wholeWord (a := 4) (by omega) ?_
  intro x ex
  obtain rfl := ex.trans eos10.symm
  refine s14_wholeWord (a := 8) (by omega) ?_
  intro x ex
  obtain rfl := ex.trans eos12.symm
  refine ⟨show vp_in (nI 13) 4096 from vin (by omega) (by omega), fun _ => ?_⟩
  intro x ex
  obtain rfl := ex.trans eos13.symm
  refine s14_half (a := 14) (by omega) ?_
  intro x ex
  obtain rfl := ex.trans eos15.symm
  intro x ex
  obtain rfl := ex.trans eos16.symm
  intro x ex
  obtain rfl := ex.trans eos17.symm
  exact hq
/-- the component: a right head -/
theorem s10_head {σ : St} {f : Nat → Int32} {k1 i1 pl n hd : Nat} {from_ ip : Int32} {Q : Int32 → St → Prop} (ok : okS σ) (hk : k1 = 20 ∧ i1 = 0 ∨ k1 = 38 ∧ i1 < 4) (hl : pl + n ≤ alen σ k1 i1) (hp : pl < 100000) (hn : n ≤ 4096) (hn2 : 20 ≤ n) (hd0 : ∀ j, j < n → σ k1 i1 (pl + j) = f j) (ehd : ((f 12 >>> ((4 : Int32) &&& 31)) &&& 15) * 4 = nI hd) (h20 : 20 ≤ hd) (h60 : hd ≤ 60) (hdn : hd ≤ n) (hck : ck (psd from_ ip n + sB f 0 n) = 0)
    (hq : ∀ σ', okS σ' → Fr (mF [] [] [(10, [0, 1, 2, 3, 4, 5, 6, 7, 8, 9, 10, 107])] []) σ σ' → σ' 10 0 = (va_up (va_up (va_up (va_up (va_up (va_up (va_up (va_up (va_up (va_up (va_up (va_up (σ 10 0) 0 from_) 1 (two f 0)) 2 (two f 2)) 3 (four f 4)) 4 (four f 8)) 5 (f 13 &&& 31)) 6 (two f 14)) 7 (nI k1)) 107 (nI i1)) 8 (nI (pl + hd))) 9 (nI (n - hd))) 10 (nI (omss f hd 40 20))) → Q 1 σ') : w10_read σ k1 i1 (nI pl) (nI n) from_ ip Q := by
  have hbd := sB_le f 0 n
  have hpd := psd_lt from_ ip n
  have kne : k1 ≠ 10 := by omega
  have klt : ¬ k1 < 0 ∧ k1 < 100 ∧ i1 < 100 := by omega
  have al : ∀ s : St, alen s k1 i1 = alen σ k1 i1 := by
    intro s
    rcases hk with z | z <;> rw [z.1] <;> unfold alen <;> rw [if_neg (by decide), if_neg (by decide), if_neg (by decide), if_neg (by decide)]
  have hab : abc k1 i1 = true := by
    rcases hk with z | z
    · rw [z.1, z.2]; rfl
    · rw [z.1]
      have : i1 = 0 ∨ i1 = 1 ∨ i1 = 2 ∨ i1 = 3 := by omega
      rcases this with y | y | y | y <;> rw [y] <;> rfl
  have ar : ∀ s : St, Fr (mF [] [] [(10, [0, 1, 2, 3, 4, 5, 6, 7, 8, 9, 10, 107])] []) σ s → s k1 i1 = σ k1 i1 := fun s F => F.row (fun _ => by rcases hk with z | z <;> rw [z.1] <;> rfl)
  have et : ∀ a, a + 2 ≤ n → two (σ k1 i1) (pl + a) = two f a := fun a ha => two_ext (fun j hj => by rw [Nat.add_assoc, hd0 _ (by omega)])
  have ef : ∀ a, a + 4 ≤ n → four (σ k1 i1) (pl + a) = four f a := fun a ha => four_ext (fun j hj => by rw [Nat.add_assoc, hd0 _ (by omega)])
  have ad : ∀ a : Nat, nI pl + nI a = nI (pl + a) := fun a => nI_add pl a
  refine br_t (nI_le (a := 20) (by omega) (by omega)) ?_
  have a12 : nI pl + 12 = nI (pl + 12) := ad 12
  have a13 : nI pl + 13 = nI (pl + 13) := ad 13
  rw [a12, cl (by omega), hd0 12 (by omega), ehd]
  refine ⟨vin (by omega) (by omega), fun _ => br_f (nI_nlt (b := 20) (by omega) (by omega)) (br_t (nI_le (by omega) (by omega)) ?_)⟩
  rw [psd_i]
  refine s19_added (by omega) (by omega) (by omega) hl ?_
  rw [show sB (σ k1 i1) pl n = sB f 0 n from sB_ext (fun j hj => by rw [hd0 j hj, Nat.zero_add])]
  refine s19_folded (by omega) ?_
  rw [hck]
  refine br_t rfl ?_
  have Fσ : Fr (mF [] [] [(10, [0, 1, 2, 3, 4, 5, 6, 7, 8, 9, 10, 107])] []) σ σ := Fr.rf
  have kσ : okS σ := ok
  intro s3 es3
  have Fs3 : Fr (mF [] [] [(10, [0, 1, 2, 3, 4, 5, 6, 7, 8, 9, 10, 107])] []) σ s3 := by rw [es3]; exact Fσ.up rfl
  have ks3 : okS s3 := by rw [es3]; exact ok_n kσ rfl
  refine s19_two (a := pl) (by rw [al]; omega) (by omega) ?_
  intro s5 es5
  rw [ar _ Fs3, show two (σ k1 i1) pl = two f 0 from et 0 (by omega)] at es5
  have Fs5 : Fr (mF [] [] [(10, [0, 1, 2, 3, 4, 5, 6, 7, 8, 9, 10, 107])] []) σ s5 := by rw [es5]; exact Fs3.up rfl
  have ks5 : okS s5 := by rw [es5]; exact ok_n ks3 rfl
  rw [show nI pl + 2 = nI (pl + 2) from ad 2]
  refine s19_two (by rw [al]; omega) (by omega) ?_
  intro s7 es7
  rw [ar _ Fs5, et 2 (by omega)] at es7
  have Fs7 : Fr (mF [] [] [(10, [0, 1, 2, 3, 4, 5, 6, 7, 8, 9, 10, 107])] []) σ s7 := by rw [es7]; exact Fs5.up rfl
  have ks7 : okS s7 := by rw [es7]; exact ok_n ks5 rfl
  rw [show nI pl + 4 = nI (pl + 4) from ad 4]
  refine s19_four (by rw [al]; omega) (by omega) ?_
  intro s9 es9
  rw [ar _ Fs7, ef 4 (by omega)] at es9
  have Fs9 : Fr (mF [] [] [(10, [0, 1, 2, 3, 4, 5, 6, 7, 8, 9, 10, 107])] []) σ s9 := by rw [es9]; exact Fs7.up rfl
  have ks9 : okS s9 := by rw [es9]; exact ok_n ks7 rfl
  rw [show nI pl + 8 = nI (pl + 8) from ad 8]
  refine s19_four (by rw [al]; omega) (by omega) ?_
  intro s11 es11
  rw [ar _ Fs9, ef 8 (by omega)] at es11
  have Fs11 : Fr (mF [] [] [(10, [0, 1, 2, 3, 4, 5, 6, 7, 8, 9, 10, 107])] []) σ s11 := by rw [es11]; exact Fs9.up rfl
  have ks11 : okS s11 := by rw [es11]; exact ok_n ks9 rfl
  rw [a13, cl (by omega)]
  refine ⟨vin (by rw [al]; omega) (by omega), fun _ => ?_⟩
  intro s12 es12
  rw [ar _ Fs11, hd0 13 (by omega)] at es12
  have Fs12 : Fr (mF [] [] [(10, [0, 1, 2, 3, 4, 5, 6, 7, 8, 9, 10, 107])] []) σ s12 := by rw [es12]; exact Fs11.up rfl
  have ks12 : okS s12 := by rw [es12]; exact ok_n ks11 rfl
  rw [show nI pl + 14 = nI (pl + 14) from ad 14]
  refine s19_two (by rw [al]; omega) (by omega) ?_
  intro s14 es14
  rw [ar _ Fs12, et 14 (by omega)] at es14
  have Fs14 : Fr (mF [] [] [(10, [0, 1, 2, 3, 4, 5, 6, 7, 8, 9, 10, 107])] []) σ s14 := by rw [es14]; exact Fs12.up rfl
  have ks14 : okS s14 := by rw [es14]; exact ok_n ks12 rfl
  intro s15 es15
  have Fs15 : Fr (mF [] [] [(10, [0, 1, 2, 3, 4, 5, 6, 7, 8, 9, 10, 107])] []) σ s15 := by rw [es15]; exact (Fs14.up rfl).up rfl
  have ks15 : okS s15 := by rw [es15]; exact ok_n (ok_n ks14 rfl) rfl
  intro s16 es16
  rw [ad hd] at es16
  have Fs16 : Fr (mF [] [] [(10, [0, 1, 2, 3, 4, 5, 6, 7, 8, 9, 10, 107])] []) σ s16 := by rw [es16]; exact Fs15.up rfl
  have ks16 : okS s16 := by rw [es16]; exact ok_n ks15 rfl
  intro s17 es17
  rw [pk_sub hdn] at es17
  have Fs17 : Fr (mF [] [] [(10, [0, 1, 2, 3, 4, 5, 6, 7, 8, 9, 10, 107])] []) σ s17 := by rw [es17]; exact Fs16.up rfl
  have ks17 : okS s17 := by rw [es17]; exact ok_n ks16 rfl
  have w7 : s17 10 0 7 = nI k1 := by rw [es17, up3_g, if_neg (by omega), es16, up3_g, if_neg (by omega), es15, up3_g, if_neg (by omega), up3_g, if_pos ⟨rfl, rfl, rfl⟩]
  have w107 : s17 10 0 107 = nI i1 := by rw [es17, up3_g, if_neg (by omega), es16, up3_g, if_neg (by omega), es15, up3_g, if_pos ⟨rfl, rfl, rfl⟩]
  rw [show nI pl + 20 = nI (pl + 20) from ad 20, ad hd]
  refine s10_option (f := f) (by rw [w7]; exact cl (by omega)) (by rw [w107]; exact cl (by omega)) hab (fun j hj => by rw [ar _ Fs17]; exact hd0 j (by omega)) (by rw [al]; omega) hp h60 h20 ?_
  intro s19 es19
  have Fs19 : Fr (mF [] [] [(10, [0, 1, 2, 3, 4, 5, 6, 7, 8, 9, 10, 107])] []) σ s19 := by rw [es19]; exact Fs17.up rfl
  have ks19 : okS s19 := by rw [es19]; exact ok_n ks17 rfl
  refine hq s19 ks19 Fs19 ?_
  rw [es19, up3_r, if_pos ⟨rfl, rfl⟩, es17, up3_r, if_pos ⟨rfl, rfl⟩, es16, up3_r, if_pos ⟨rfl, rfl⟩, es15, up3_r, if_pos ⟨rfl, rfl⟩, up3_r, if_pos ⟨rfl, rfl⟩, es14, up3_r, if_pos ⟨rfl, rfl⟩, es12, up3_r, if_pos ⟨rfl, rfl⟩, es11, up3_r, if_pos ⟨rfl, rfl⟩, es9, up3_r, if_pos ⟨rfl, rfl⟩, es7, up3_r, if_pos ⟨rfl, rfl⟩, es5, up3_r, if_pos ⟨rfl, rfl⟩, es3, up3_r, if_pos ⟨rfl, rfl⟩]
