/-! the model's rows: put, halves, words; the tray -/
set_option maxRecDepth 100000
section PUT
variable {σ : St} {a n : Nat} {Q : St → Prop} {v : Int32}
theorem sh_0 (x : Int32) : x >>> (0 : Int32) = x := by
  have := sb_shr0 x
  rwa [sh0] at this
theorem pz0 (a : Nat) : nI a + 0 = nI a := nI_add a 0
theorem pz1 (a : Nat) : nI a + (0 + 1) = nI (a + 1) := nI_add a 1
theorem pz2 (a : Nat) : nI a + (0 + 1 + 1) = nI (a + 2) := nI_add a 2
theorem pz3 (a : Nat) : nI a + (0 + 1 + 1 + 1) = nI (a + 3) := nI_add a 3
theorem s14_put1 (h : a + 1 ≤ 1514) (hq : Q (row3 σ 57 0 (va_up (σ 57 0) a (b8 v)))) : w14_put σ (nI a) 1 v Q := by
  refine ⟨2, br_f (by decide) ?_⟩
  show vp_in (nI a + nI 0) 1514 ∧ _
  rw [nI_add]
  refine ⟨vin (by omega) (by omega), fun s1 e1 => br_t (by decide) ?_⟩
  subst e1
  rw [pz0, cl (by omega), show (8 * ((1 - 1) - 0) &&& 31 : Int32) = 0 by decide, sh_0, b8_f, b8_f, b8_b8, up3_as]
  exact hq
theorem s14_put2 (h : a + 2 ≤ 1514) (hq : Q (row3 σ 57 0 (put2 (σ 57 0) a v))) : w14_put σ (nI a) 2 v Q := by
  refine ⟨3, br_f (by decide) ?_⟩
  show vp_in (nI a + nI 0) 1514 ∧ _
  rw [nI_add]
  refine ⟨vin (by omega) (by omega), fun s1 e1 => br_f (by decide) ?_⟩
  show vp_in (nI a + nI 1) 1514 ∧ _
  rw [nI_add]
  refine ⟨vin (by omega) (by omega), fun s2 e2 => br_t (by decide) ?_⟩
  subst e2
  subst e1
  rw [up3_as (σ := σ), row3_up, pz0, pz1, cl (by omega), cl (by omega), show (8 * ((2 - 1) - 0) &&& 31 : Int32) = 8 by decide, show (8 * ((2 - 1) - (0 + 1)) &&& 31 : Int32) = 0 by decide, sh_0]
  simp only [b8_f, b8_b8]
  exact hq
theorem s14_put4 (h : a + 4 ≤ 1514) (hq : Q (row3 σ 57 0 (put4 (σ 57 0) a v))) : w14_put σ (nI a) 4 v Q := by
  refine ⟨5, br_f (by decide) ?_⟩
  show vp_in (nI a + nI 0) 1514 ∧ _
  rw [nI_add]
  refine ⟨vin (by omega) (by omega), fun s1 e1 => br_f (by decide) ?_⟩
  show vp_in (nI a + nI 1) 1514 ∧ _
  rw [nI_add]
  refine ⟨vin (by omega) (by omega), fun s2 e2 => br_f (by decide) ?_⟩
  show vp_in (nI a + nI 2) 1514 ∧ _
  rw [nI_add]
  refine ⟨vin (by omega) (by omega), fun s3 e3 => br_f (by decide) ?_⟩
  show vp_in (nI a + nI 3) 1514 ∧ _
  rw [nI_add]
  refine ⟨vin (by omega) (by omega), fun s4 e4 => br_t (by decide) ?_⟩
  subst e4
  subst e3
  subst e2
  subst e1
  rw [up3_as (σ := σ), row3_up, row3_up, row3_up, pz0, pz1, pz2, pz3, cl (by omega), cl (by omega), cl (by omega), cl (by omega), show (8 * ((4 - 1) - 0) &&& 31 : Int32) = 24 by decide, show (8 * ((4 - 1) - (0 + 1)) &&& 31 : Int32) = 16 by decide, show (8 * ((4 - 1) - (0 + 1 + 1)) &&& 31 : Int32) = 8 by decide, show (8 * ((4 - 1) - (0 + 1 + 1 + 1)) &&& 31 : Int32) = 0 by decide, sh_0]
  simp only [b8_f, b8_b8]
  rw [put4_4]
  exact hq
theorem s14_trayHalf {Q : Int32 → Prop} (h : a + 2 ≤ 65540) (hq : Q (two (σ 50 0) a)) : w14_trayHalf σ (nI a) Q := by
  refine ⟨vin (by omega) (by omega), fun _ => ?_⟩
  rw [nI_1]
  refine ⟨vin (by omega) (by omega), fun _ => ?_⟩
  rw [cl (by omega), cl (by omega), sh8]
  exact hq
theorem s14_trayWord {Q : Int32 → Prop} (h : a + 4 ≤ 65540) (hq : Q (four (σ 50 0) a)) : w14_trayWord σ (nI a) Q := by
  refine s14_trayHalf (by omega) ?_
  show w14_trayHalf _ (nI a + nI 2) _
  rw [nI_add]
  refine s14_trayHalf (by omega) ?_
  rw [sh16]
  exact hq
theorem s14_half {Q : Int32 → Prop} (h : a + 2 ≤ 4096) (hq : Q (two (σ 64 0) a)) : w14_half σ (nI a) Q := by
  refine ⟨vin (by omega) (by omega), fun _ => ?_⟩
  rw [nI_1]
  refine ⟨vin (by omega) (by omega), fun _ => ?_⟩
  rw [cl (by omega), cl (by omega), sh8]
  exact hq
theorem s14_wholeWord {Q : Int32 → Prop} (h : a + 4 ≤ 4096) (hq : Q (four (σ 64 0) a)) : w14_wholeWord σ (nI a) Q := by
  refine s14_half (by omega) ?_
  show w14_half _ (nI a + nI 2) _
  rw [nI_add]
  refine s14_half (by omega) ?_
  rw [sh16]
  exact hq
/-- a word into the tray -/
theorem s14_word (ht : σ 14 0 1 = nI a) (h : a + 4 ≤ 65540) (hq : Q (up3 (row3 σ 50 0 (put4 (σ 50 0) a v)) 14 0 1 (nI (a + 4)))) : w14_word σ v Q := by
  have e14 : ∀ (s : St) (f : Nat → Int32) (x : Int32), row3 (up3 s 14 0 1 x) 50 0 f = up3 (row3 s 50 0 f) 14 0 1 x := by
    intro s f x
    funext k i j
    simp only [row3_g, up3_g]
    split
    · rename_i h
      rw [if_neg (by omega)]
    · rfl
  have e50 : ∀ (s : St) (x : Int32), up3 s 14 0 1 x 50 0 = s 50 0 := fun s x => up3_i (by decide)
  have e1 : ∀ (s : St) (x y : Int32), up3 (up3 s 14 0 1 x) 14 0 1 y = up3 s 14 0 1 y := by
    intro s x y
    funext k i j
    simp only [up3_g]
    split <;> rfl
  have e0 : ∀ (s : St) (x : Int32), up3 s 14 0 1 x 14 0 1 = x := fun s x => by rw [up3_g, if_pos ⟨rfl, rfl, rfl⟩]
  have e2 : ∀ (s : St) (f : Nat → Int32), row3 s 50 0 f 14 0 1 = s 14 0 1 := fun s f => by rw [row3_g, if_neg (by decide)]
  refine ⟨5, br_f (by decide) ?_⟩
  rw [ht]
  refine ⟨vin (by omega) (by omega), fun s1 h1 s2 h2 => br_f (by decide) ?_⟩
  rw [up3_as] at h1
  have t2 : s2 14 0 1 = nI (a + 1) := by rw [h2, e0, h1, e2, ht, nI_1]
  rw [t2]
  refine ⟨vin (by omega) (by omega), fun s3 h3 s4 h4 => br_f (by decide) ?_⟩
  rw [up3_as] at h3
  have t4 : s4 14 0 1 = nI (a + 2) := by rw [h4, e0, h3, e2, t2, nI_1]
  rw [t4]
  refine ⟨vin (by omega) (by omega), fun s5 h5 s6 h6 => br_f (by decide) ?_⟩
  rw [up3_as] at h5
  have t6 : s6 14 0 1 = nI (a + 3) := by rw [h6, e0, h5, e2, t4, nI_1]
  rw [t6]
  refine ⟨vin (by omega) (by omega), fun s7 h7 s8 h8 => br_t (by decide) ?_⟩
  rw [up3_as] at h7
  have t8 : s7 14 0 1 + 1 = nI (a + 4) := by rw [h7, e2, t6, nI_1]
  rw [t8] at h8
  rw [cl (by omega)] at h1 h3 h5 h7
  rw [show ((24 - 8 * 0) &&& 31 : Int32) = 24 by decide] at h1
  rw [show ((24 - 8 * (0 + 1)) &&& 31 : Int32) = 16 by decide] at h3
  rw [show ((24 - 8 * (0 + 1 + 1)) &&& 31 : Int32) = 8 by decide] at h5
  rw [show ((24 - 8 * (0 + 1 + 1 + 1)) &&& 31 : Int32) = 0 by decide, sh_0] at h7
  simp only [b8_f, b8_b8] at h1 h3 h5 h7
  subst h8 h7 h6 h5 h4 h3 h2 h1
  simp only [e50, row3_s, e14, row3_row3, e1]
  rw [put4_4]
  exact hq
end PUT
