/-! hops: the cache, asking and telling -/
set_option maxRecDepth 100000
def RH (σ τ : St) : Prop := ∃ z : Nat, z ≤ 16 ∧ (σ 3 0 7) = nI z ∧ (∀ k, k < z → (τ 16 k 0) = 1 ∧ (σ 28 0) k = (τ 16 k 1) ∧ (σ 29 0) k = (τ 16 k 4) ∧ ∀ j, j < 6 → (σ 30 0) (6 * k + j) = macb (τ 16 k 2) (τ 16 k 3) j) ∧ ∀ k, z ≤ k → k < 16 → (τ 16 k 0) = 0
theorem RH.c {σ τ σ' τ' : St} (h1 : (σ' 3 0 7) = (σ 3 0 7)) (h2 : (σ' 28 0) = (σ 28 0)) (h3 : (σ' 29 0) = (σ 29 0)) (h4 : (σ' 30 0) = (σ 30 0)) (g : τ' 16 = τ 16) (h : RH σ τ) : RH σ' τ' := by
  unfold RH
  rw [h1, h2, h3, h4, g]
  exact h
/-- where a number is in the cache -/
def fnd (f : Nat → Int32) (z : Nat) (x : Int32) : Nat := scan (fun j => decide (f j ≠ x)) z 0
theorem fnd_le (f : Nat → Int32) (z : Nat) (x : Int32) : fnd f z x ≤ z := by
  have := (scan_le (fun j => decide (f j ≠ x)) z 0).2
  unfold fnd
  omega
theorem fnd_at {f : Nat → Int32} {z : Nat} {x : Int32} (h : fnd f z x < z) : f (fnd f z x) = x := by
  have := scan_stop (fun j => decide (f j ≠ x)) z 0 (by rw [Nat.zero_add]; exact h)
  exact Decidable.not_not.mp (of_decide_eq_false this)
theorem fnd_no {f : Nat → Int32} {z : Nat} {x : Int32} {j : Nat} (h : j < fnd f z x) : f j ≠ x := by
  have := scan_all _ z 0 j (Nat.zero_le _) h
  exact of_decide_eq_true this
theorem s3_find_L {σ : St} {x : Int32} {z : Nat} {Q K20 : Int32 → Prop} {K28 : Prop} (hz : (σ 3 0 7) = nI z) (hz2 : z ≤ 16) : ∀ (m j : Nat), j + m = z → (scan (fun j => decide (σ 28 0 j ≠ x)) m j < z → K20 (nI (scan (fun j => decide (σ 28 0 j ≠ x)) m j))) → (scan (fun j => decide (σ 28 0 j ≠ x)) m j = z → K28) → w3_find_L2 σ x Q K20 K28 (m + 1) (nI j) := by
  intro m
  induction m with
  | zero => intro j hj h1 h0; exact br_t (by rw [hz]; exact nI_le (by omega) (by omega)) (h0 (by simp only [scan]; omega))
  | succ m ih =>
    intro j hj h1 h0
    refine br_f (by rw [hz]; exact nI_ge (by omega) (by omega)) ⟨vin (by omega) (by omega), ?_⟩
    rw [cl (by omega)]
    by_cases c : σ 28 0 j = x
    · rw [scan_f _ (by simpa using c)] at h1
      exact br_u c (h1 (by omega))
    · rw [scan_t _ (by simpa using c)] at h1 h0
      refine br_v c ?_
      rw [nI_1]
      exact ih (j + 1) (by omega) h1 h0
theorem s3_find {σ : St} {x : Int32} {z : Nat} {Q : Int32 → Prop} (hz : (σ 3 0 7) = nI z) (hz2 : z ≤ 16) (h1 : fnd (σ 28 0) z x < z → Q (nI (fnd (σ 28 0) z x))) (h0 : fnd (σ 28 0) z x = z → Q (-1)) : w3_find σ x Q :=
  ⟨z + 1, s3_find_L hz hz2 z 0 (by omega) h1 h0⟩
theorem s14_entry_L {σ τ : St} {x : Int32} {z : Nat} {Q : Option Nat → Prop} {K33 : Int32 → Prop} {K46 : Prop} (hz2 : z ≤ 16) (hu : ∀ k, k < z → (τ 16 k 0) = 1 ∧ σ 28 0 k = (τ 16 k 1)) (hu0 : ∀ k, z ≤ k → k < 16 → (τ 16 k 0) = 0) : ∀ (m j : Nat), j + m = 16 → (∀ i, i < j → i < z → σ 28 0 i ≠ x) → (fnd (σ 28 0) z x < z → K33 (nI (fnd (σ 28 0) z x))) → (fnd (σ 28 0) z x = z → K46) → w14_entry_L2 τ x Q K33 K46 (m + 1) (nI j) := by
  have hle := fnd_le (σ 28 0) z x
  intro m
  induction m with
  | zero =>
    intro j hj hp h1 h0
    refine br_t (nI_le (a := 16) (by omega) (by omega)) (h0 ?_)
    rcases Nat.lt_or_ge (fnd (σ 28 0) z x) z with h | h
    · exact absurd (fnd_at h) (hp _ (by omega) h)
    · omega
  | succ m ih =>
    intro j hj hp h1 h0
    refine br_f (nI_ge (b := 16) (by omega) (by decide)) ⟨vin (by omega) (by omega), fun _ => ?_⟩
    rw [cl (by omega), nI_1]
    by_cases c : j < z
    · obtain ⟨u1, u2⟩ := hu j c
      refine br_f (by rw [u1]; decide) ⟨vin (by omega) (by omega), ?_⟩
      rw [← u2]
      by_cases c2 : σ 28 0 j = x
      · refine br_u c2 ?_
        have e : fnd (σ 28 0) z x = j := scan_eq _ (Nat.zero_le _) (by omega) (fun i _ hi => by simpa using hp i hi (by omega)) (fun _ => by simpa using c2)
        rw [e] at h1
        exact h1 c
      · refine br_v c2 (ih (j + 1) (by omega) (fun i hi hi2 => ?_) h1 h0)
        by_cases e9 : i = j
        · rw [e9]; exact c2
        · exact hp i (by omega) hi2
    · refine br_t (hu0 j (by omega) (by omega)) (ih (j + 1) (by omega) (fun i hi hi2 => hp i (by omega) hi2) h1 h0)
theorem s14_entry {σ τ : St} {x : Int32} {z : Nat} {Q : Option Nat → Prop} (hz2 : z ≤ 16) (hu : ∀ k, k < z → (τ 16 k 0) = 1 ∧ σ 28 0 k = (τ 16 k 1)) (hu0 : ∀ k, z ≤ k → k < 16 → (τ 16 k 0) = 0) (h1 : fnd (σ 28 0) z x < z → Q (some (fnd (σ 28 0) z x))) (h0 : fnd (σ 28 0) z x = z → Q none) : w14_entry τ x Q := by
  refine ⟨17, s14_entry_L hz2 hu hu0 16 0 rfl (fun i hi => by omega) (fun h => ?_) h0⟩
  refine ⟨vin (by omega) (by omega), ?_⟩
  rw [cl (by omega)]
  exact h1 h
/-- a frame to an address -/
theorem R_send {σ τ : St} {k1 i1 k4 i4 a n t s : Nat} {kind th tl : Int32} (ok : okS σ) (ok' : okS τ) (hk1 : abc k1 i1 = true) (hk4 : abc k4 i4 = true) (hV : RV σ τ t s) (hs : s < 2147480000) (ho : ∀ j, j < 6 → (σ 27 0) j = macb (τ 14 0 8) (τ 14 0 9) j) (h1 : a + 6 ≤ alen σ k1 i1) (ha : a < 100000) (h4 : n ≤ alen σ k4 i4) (hn : n ≤ 1500) (n1 : k1 ≠ 23) (n4 : k4 ≠ 23)
    (hto : ∀ j, j < 6 → σ k1 i1 (a + j) = macb th tl j) (hd : ∀ j, j < n → σ k4 i4 j = τ 57 0 (14 + j)) :
    RunV σ τ (w2_send σ k1 i1 (nI a) kind k4 i4 (nI n)) (w14_send τ th tl kind (nI n)) (mF [23, 25, 26] [] [(2, [3])] []) (mF [57, 58, 59, 60] [] [(14, [18, 23])] []) (fun σ' τ' => RV σ' τ' t (s + 1) ∧ (τ' 14 0 18) = (τ 14 0 18)) := by
  have hj : w2_send σ k1 i1 (nI a) kind k4 i4 (nI n) (fun σ' => w14_send τ th tl kind (nI n) (fun τ' => RV σ' τ' t (s + 1) ∧ (τ' 14 0 18) = (τ 14 0 18))) := by
    refine s2_send hV.2.2.1 hs h1 ha h4 hn n1 n4 (fun f hf => ?_)
    refine s14_send hV.2.2.2.1 hs hn (fun g hg => ⟨RV_send hV hn hs (fun j hj => ?_), by simp [up3_g, row3_g]⟩)
    rw [hf j hj, hg j hj]
    unfold frm
    split
    · exact hto j (by omega)
    · split
      · exact ho _ (by omega)
      · split
        · rfl
        · split
          · rfl
          · split
            · exact hd _ (by omega)
            · rfl
  obtain ⟨σ', h, k1, f1, g1⟩ := e2_send hk1 hk4 ok hj
  obtain ⟨τ', h, k2, f2, g2⟩ := e14_send ok' h
  exact ⟨σ', τ', g1, g2, k1, k2, f1, f2, h⟩
/-- what an ARP packet says -/
def arpb (what : Int32) (own tgt : Nat → Int32) (ip num : Int32) : Nat → Int32 := put4 (va_cpy tgt (put4 (va_cpy own (put2 (put2 (put4 (fun _ => 0) 0 67584) 4 1540) 6 what) 0 8 6) 14 ip) 0 18 6) 24 num
theorem s3_tell {σ : St} {what number : Int32} {k2 i2 a kt it at_ : Nat} {Q : St → Prop} (hw : (what = 1 ∧ kt = 33 ∧ it = 0 ∧ at_ = 0) ∨ (¬ what = 1 ∧ kt = k2 ∧ it = i2 ∧ at_ = a)) (h2 : ¬ what = 1 → a + 6 ≤ alen σ k2 i2 ∧ k2 ≠ 32) (ha : a < 100000)
    (hq : ∀ f : Nat → Int32, (∀ j, j < 28 → f j = arpb what ((σ 27 0)) (fun j => if what = 1 then (σ 34 0) j else σ k2 i2 (a + j)) ((σ 3 0 1)) number j) → w2_send (row3 σ 32 0 f) kt it (nI at_) 2054 32 0 28 Q) : w3_tell σ what k2 i2 (nI a) number Q := by
  have a32 : ∀ s : St, alen s 32 0 = 28 := fun _ => rfl
  unfold w3_tell
  refine s19_putFour (a := 0) (by rw [a32]; omega) (by omega) (by decide) ?_
  refine s19_putTwo (a := 4) (by rw [a32]; omega) (by omega) (by decide) ?_
  refine s19_putTwo (a := 6) (by rw [a32]; omega) (by omega) (by decide) ?_
  refine s19_copy (a := 0) (b := 8) (n := 6) (by decide) (by decide) (by omega) (by omega) (by omega) (by show _ ≤ 6; omega) (by rw [a32]; omega) ?_
  simp only [row3_s, row3_row3]
  rw [row3_o (k' := 27) (by decide)]
  refine s19_putFour (a := 14) (by rw [a32]; omega) (by omega) (by decide) ?_
  simp only [row3_s, row3_row3]
  rw [row3_o (k' := 3) (by decide)]
  generalize hg : put4 (va_cpy (σ 27 0) (put2 (put2 (put4 (σ 32 0) 0 67584) 4 1540) 6 what) 0 8 6) 14 (σ 3 0 1) = g
  have tail : ∀ (ks is as : Nat), ks ≠ 32 → as < 100000 → as + 6 ≤ alen σ ks is → (∀ j, j < 6 → σ ks is (as + j) = if what = 1 then σ 34 0 j else σ k2 i2 (a + j)) → w3_tell_J86 (row3 σ 32 0 g) what k2 i2 (nI a) number (nI as) ks is Q := by
    intro ks is as n1 n2 n3 n4
    refine s19_copy (b := 18) (n := 6) (by omega) (by decide) (by omega) (by omega) (by omega) (by rw [alen_row (by decide)]; exact n3) (by rw [a32]; omega) ?_
    simp only [row3_s, row3_row3]
    rw [row3_o (k' := ks) (by omega)]
    refine s19_putFour (a := 24) (by rw [a32]; omega) (by omega) (by decide) ?_
    simp only [row3_s, row3_row3]
    have hf := hq (put4 (va_cpy (σ ks is) g as 18 6) 24 number) (fun j hj => by
      unfold arpb put4 put2
      simp only [vu_g]
      by_cases c1 : 24 ≤ j
      · rcases (show j = 24 ∨ j = 25 ∨ j = 26 ∨ j = 27 by omega) with rfl | rfl | rfl | rfl <;> simp
      · rw [if_neg (by omega), if_neg (by omega), if_neg (by omega), if_neg (by omega), if_neg (by omega), if_neg (by omega), if_neg (by omega), if_neg (by omega)]
        by_cases c2 : 18 ≤ j
        · rw [pk_cpy_in (by omega) (by omega), pk_cpy_in (by omega) (by omega), n4 _ (by omega), Nat.zero_add]
        · rw [pk_cpy_out (by omega), pk_cpy_out (by omega), ← hg]
          unfold put4 put2
          simp only [vu_g]
          by_cases c3 : 14 ≤ j
          · rcases (show j = 14 ∨ j = 15 ∨ j = 16 ∨ j = 17 by omega) with rfl | rfl | rfl | rfl <;> simp
          · rw [if_neg (by omega), if_neg (by omega), if_neg (by omega), if_neg (by omega), if_neg (by omega), if_neg (by omega), if_neg (by omega), if_neg (by omega)]
            by_cases c4 : 8 ≤ j
            · rw [pk_cpy_in (by omega) (by omega), pk_cpy_in (by omega) (by omega)]
            · rw [pk_cpy_out (by omega), pk_cpy_out (by omega)]
              simp only [vu_g]
              rcases (show j = 0 ∨ j = 1 ∨ j = 2 ∨ j = 3 ∨ j = 4 ∨ j = 5 ∨ j = 6 ∨ j = 7 by omega) with rfl | rfl | rfl | rfl | rfl | rfl | rfl | rfl <;> simp)
    rcases hw with ⟨w1, w2, w3, w4⟩ | ⟨w1, w2, w3, w4⟩
    · subst w2; subst w3; subst w4
      exact br_u w1 (br_u w1 hf)
    · subst w2; subst w3; subst w4
      exact br_v w1 (br_v w1 hf)
  by_cases c : what = 1
  · exact br_u c (br_u c (tail 34 0 0 (by decide) (by omega) (by show _ ≤ 6; omega) (fun j hj => by rw [if_pos c, Nat.zero_add])))
  · exact br_v c (br_v c (tail k2 i2 a (h2 c).2 ha (h2 c).1 (fun j hj => by rw [if_neg c])))
theorem s14_arpFrame {τ : St} {op th tl gh gl num : Int32} {Q : St → Prop} (hq : ∀ f : Nat → Int32, (∀ j, j < 28 → f (14 + j) = arpb op (macb (τ 14 0 8) (τ 14 0 9)) (macb gh gl) ((τ 14 0 5)) num j) → w14_send (row3 τ 57 0 f) th tl 2054 28 Q) : w14_arpFrame τ op th tl gh gl num Q := by
  have e57 : ∀ (s : St) (f : Nat → Int32) (j : Nat), row3 s 57 0 f 14 0 j = s 14 0 j := fun s f j => by rw [row3_g, if_neg (by decide)]
  unfold w14_arpFrame
  refine s14_put4 (a := 14) (by omega) ?_
  refine s14_put2 (a := 18) (by omega) ?_
  refine s14_put2 (a := 20) (by omega) ?_
  simp only [row3_s, row3_row3, e57]
  refine s14_put2 (a := 22) (by omega) ?_
  simp only [row3_s, row3_row3, e57]
  refine s14_put4 (a := 24) (by omega) ?_
  simp only [row3_s, row3_row3, e57]
  refine s14_put4 (a := 28) (by omega) ?_
  simp only [row3_s, row3_row3, e57]
  refine s14_put2 (a := 32) (by omega) ?_
  simp only [row3_s, row3_row3, e57]
  refine s14_put4 (a := 34) (by omega) ?_
  simp only [row3_s, row3_row3, e57]
  refine s14_put4 (a := 38) (by omega) ?_
  simp only [row3_s, row3_row3, e57]
  refine hq _ (fun j hj => ?_)
  unfold arpb macb put4 put2
  simp only [vu_g]
  rcases (show j = 0 ∨ j = 1 ∨ j = 2 ∨ j = 3 ∨ j = 4 ∨ j = 5 ∨ j = 6 ∨ j = 7 ∨ j = 8 ∨ j = 9 ∨ j = 10 ∨ j = 11 ∨ j = 12 ∨ j = 13 ∨ 14 ≤ j by omega) with rfl | rfl | rfl | rfl | rfl | rfl | rfl | rfl | rfl | rfl | rfl | rfl | rfl | rfl | c
  all_goals first | (simp [va_cpy, vu_g]; done) | skip
  rcases (show j = 14 ∨ j = 15 ∨ j = 16 ∨ j = 17 ∨ j = 18 ∨ j = 19 ∨ j = 20 ∨ j = 21 ∨ j = 22 ∨ j = 23 ∨ j = 24 ∨ j = 25 ∨ j = 26 ∨ j = 27 by omega) with rfl | rfl | rfl | rfl | rfl | rfl | rfl | rfl | rfl | rfl | rfl | rfl | rfl | rfl
  all_goals simp [va_cpy, vu_g]
