/-! the device: frames out -/
set_option maxRecDepth 100000
/-- a frame -/
def frm (to own data : Nat → Int32) (kind : Int32) (n j : Nat) : Int32 := if j < 6 then to j else if j < 12 then own (j - 6) else if j = 12 then b8 (kind >>> 8) else if j = 13 then b8 kind else if j < 14 + n then data (j - 14) else 0
theorem imax_nI {a b : Nat} (ha : a < 2147483648) (hb : b < 2147483648) : imax (nI a) (nI b) = nI (max a b) := by
  unfold imax
  by_cases h : a < b
  · rw [if_pos (nI_lt h (by omega)), Nat.max_eq_right (by omega)]
  · rw [if_neg (nI_nlt (by omega) (by omega)), Nat.max_eq_left (by omega)]
theorem imin_nI {a b : Nat} (ha : a < 2147483648) (hb : b < 2147483648) : imin (nI a) (nI b) = nI (min a b) := by
  unfold imin
  by_cases h : b < a
  · rw [if_pos (nI_lt h (by omega)), Nat.min_eq_right (by omega)]
  · rw [if_neg (nI_nlt (by omega) (by omega)), Nat.min_eq_left (by omega)]
theorem rem32 {s : Nat} (h : s < 2147483648) : nI s - nI s / 32 * 32 = nI (s % 32) := pk_rem (d := 32) (by omega) (by decide) (by decide)
theorem s2_send_L {x6 : Int32} {o b : Nat} {Q : St → Prop} {K : St → Prop} (hb : b ≤ 1514) : ∀ (m j : Nat) (σ : St), j + m = b → (∀ f : Nat → Int32, (∀ i, f i = if j ≤ i ∧ i < b then 0 else σ 23 o i) → K (row3 σ 23 o f)) → w2_send_L81 x6 o (nI b) Q K (m + 1) σ (nI j) := by
  intro m
  induction m with
  | zero =>
    intro j σ hj hK
    have h9 := hK (σ 23 o) (fun i => by rw [if_neg (by omega)])
    rw [row3_self] at h9
    exact br_t (nI_le (by omega) (by omega)) h9
  | succ m ih =>
    intro j σ hj hK
    refine br_f (nI_ge (by omega) (by omega)) ⟨vin (by omega) (by omega), fun s1 e1 => ?_⟩
    rw [cl (by omega), up3_as] at e1
    subst e1
    rw [nI_1]
    refine ih (j + 1) _ (by omega) (fun f hf => ?_)
    rw [row3_row3]
    refine hK f (fun i => ?_)
    rw [hf i, row3_s, vu_g]
    by_cases h1 : i = j
    · subst h1
      rw [if_neg (by omega), if_pos rfl, if_pos (by omega)]
      rfl
    · rw [if_neg h1]
      by_cases h2 : j ≤ i ∧ i < b
      · rw [if_pos (by omega), if_pos h2]
      · rw [if_neg (by omega), if_neg h2]
theorem s2_send {σ : St} {k1 i1 k4 i4 a n s : Nat} {kind : Int32} {Q : St → Prop} (hs : (σ 2 0 3) = nI s) (hs2 : s < 2147480000) (h1 : a + 6 ≤ alen σ k1 i1) (ha : a < 100000) (h4 : n ≤ alen σ k4 i4) (hn : n ≤ 1500) (hk1 : k1 ≠ 23) (hk4 : k4 ≠ 23)
    (hq : ∀ f : Nat → Int32, (∀ j, j < max (14 + n) 60 → f j = frm (fun j => σ k1 i1 (a + j)) (σ 27 0) (σ k4 i4) kind n j) → Q (up3 (up3 (up3 (row3 σ 23 (s % 32) f) 25 0 (s % 32) (nI (max (14 + n) 60))) 26 0 (s % 32) ((σ 2 0 4))) 2 0 3 (nI (s + 1)))) : w2_send σ k1 i1 (nI a) kind k4 i4 (nI n) Q := by
  have hm : s % 32 < 32 := Nat.mod_lt _ (by decide)
  unfold w2_send
  rw [hs, rem32 (by omega), cl (by omega)]
  refine ⟨vin hm (by omega), ?_⟩
  have a23 : ∀ σ' : St, alen σ' 23 (s % 32) = 1514 := fun _ => rfl
  refine s19_copy (b := 0) (n := 6) (by omega) (by decide) (by omega) (by omega) (by omega) h1 (by rw [a23]; omega) ?_
  refine s19_copy (a := 0) (b := 6) (n := 6) (by omega) (by decide) (by omega) (by omega) (by omega) (by show _ ≤ 6; omega) (by rw [a23]; omega) ?_
  refine s19_putTwo (a := 12) (by rw [a23]; omega) (by omega) (by decide) ?_
  refine s19_copy (a := 0) (b := 14) (by omega) (by decide) (by omega) (by omega) (by omega) (by rw [alen_row (by decide), alen_row (by decide), alen_row (by decide)]; omega) (by rw [a23]; omega) ?_
  simp only [row3_s, row3_row3]
  rw [row3_o (σ := σ) (k' := 27) (by omega), row3_o (σ := σ) (k' := k4) (by omega)]
  generalize hg : va_cpy (σ k4 i4) (put2 (va_cpy (σ 27 0) (va_cpy (σ k1 i1) (σ 23 (s % 32)) a 0 6) 0 6 6) 12 kind) 0 14 n = g
  have e14 : (14 : Int32) + nI n = nI (14 + n) := nI_add 14 n
  rw [e14, show (60 : Int32) = nI 60 from rfl, imax_nI (by omega) (by omega)]
  refine ⟨max (14 + n) 60 - (14 + n) + 1, s2_send_L (by omega) _ (14 + n) _ (by omega) (fun f hf => ?_)⟩
  rw [row3_row3]
  refine ⟨vin hm (by omega), fun s1 e1 => ⟨vin hm (by omega), fun s2 e2 s3 e3 => ?_⟩⟩
  have q1 : s1 2 0 4 = σ 2 0 4 := by rw [e1, up3_g, if_neg (by omega), row3_g, if_neg (by omega)]
  have q2 : s2 2 0 3 = nI s := by rw [e2, up3_g, if_neg (by omega), e1, up3_g, if_neg (by omega), row3_g, if_neg (by omega)]; exact hs
  rw [q2, nI_1] at e3
  rw [q1, e1] at e2
  rw [e2] at e3
  subst e3
  refine hq f (fun j hj => ?_)
  rw [hf j, row3_s]
  unfold frm
  by_cases c1 : 14 + n ≤ j
  · rw [if_pos ⟨c1, hj⟩, if_neg (by omega), if_neg (by omega), if_neg (by omega), if_neg (by omega), if_neg (by omega)]
  · rw [if_neg (by omega), ← hg]
    by_cases c2 : 14 ≤ j
    · rw [pk_cpy_in (by omega) (by omega), if_neg (by omega), if_neg (by omega), if_neg (by omega), if_neg (by omega), if_pos (by omega), Nat.zero_add]
    · rw [pk_cpy_out (by omega)]
      unfold put2
      rw [vu_g, vu_g]
      by_cases c3 : j = 13
      · rw [if_pos (by omega), if_neg (by omega), if_neg (by omega), if_neg (by omega), if_pos c3]
      · rw [if_neg (by omega)]
        by_cases c4 : j = 12
        · rw [if_pos c4, if_neg (by omega), if_neg (by omega), if_pos c4]
        · rw [if_neg c4]
          by_cases c5 : 6 ≤ j
          · rw [pk_cpy_in (by omega) (by omega), if_neg (by omega), if_pos (by omega), Nat.zero_add]
          · rw [pk_cpy_out (by omega), pk_cpy_in (by omega) (by omega), if_pos (by omega), Nat.sub_zero]
theorem s14_send_L55 {x5 : Int32} {Q : St → Prop} {K : St → Prop} : ∀ (m j : Nat) (σ : St), j + m = max j 60 → (∀ f : Nat → Int32, (∀ i, f i = if j ≤ i ∧ i < 60 then 0 else σ 57 0 i) → K (row3 σ 57 0 f)) → j < 100000 → w14_send_L55 x5 Q K (m + 1) σ (nI j) := by
  intro m
  induction m with
  | zero =>
    intro j σ hj hK hj2
    have h9 := hK (σ 57 0) (fun i => by rw [if_neg (by omega)])
    rw [row3_self] at h9
    exact br_t (nI_le (a := 60) (by omega) (by omega)) h9
  | succ m ih =>
    intro j σ hj hK hj2
    refine br_f (nI_ge (b := 60) (by omega) (by decide)) ⟨vin (by omega) (by omega), fun s1 e1 => ?_⟩
    rw [cl (by omega), up3_as] at e1
    subst e1
    rw [nI_1]
    refine ih (j + 1) _ (by omega) (fun f hf => ?_) (by omega)
    rw [row3_row3]
    refine hK f (fun i => ?_)
    rw [hf i, row3_s, vu_g]
    by_cases h1 : i = j
    · subst h1
      rw [if_neg (by omega), if_pos rfl, if_pos (by omega)]
      rfl
    · rw [if_neg h1]
      by_cases h2 : j ≤ i ∧ i < 60
      · rw [if_pos (by omega), if_pos h2]
      · rw [if_neg (by omega), if_neg h2]
theorem s14_send_L116 {b k : Nat} {Q : St → Prop} {K : St → Prop} (hb : b ≤ 1514) (hk : k < 32) : ∀ (m j : Nat) (σ : St), j + m = b → K (row3 σ 58 0 (va_cpy (σ 57 0) (σ 58 0) j (1514 * k + j) m)) → w14_send_L116 (nI b) (nI k) Q K (m + 1) σ (nI j) := by
  have e : nI k * 1514 = nI (1514 * k) := by
    rw [Nat.mul_comm]
    exact pk_mul k 1514
  intro m
  induction m with
  | zero =>
    intro j σ hj hK
    rw [cpy_0, row3_self] at hK
    exact br_t (nI_le (by omega) (by omega)) hK
  | succ m ih =>
    intro j σ hj hK
    refine br_f (nI_ge (by omega) (by omega)) ⟨vin (by omega) (by omega), fun hby => ?_⟩
    rw [e, nI_add]
    refine ⟨vin (by omega) (by omega), fun s1 e1 => ?_⟩
    rw [cl (by omega), cl (by omega)] at e1
    rw [cl (by omega)] at hby
    rw [show (σ 57 0 j).toInt8.toInt32 = σ 57 0 j from hby, up3_as] at e1
    subst e1
    rw [nI_1]
    refine ih (j + 1) _ (by omega) ?_
    rw [row3_s, row3_row3, row3_o (k' := 57) (by decide), ← Nat.add_assoc, cpy_s]
    exact hK
theorem s14_send {σ : St} {th tl kind : Int32} {n s : Nat} {Q : St → Prop} (hs : (σ 14 0 23) = nI s) (hs2 : s < 2147480000) (hn : n ≤ 1500)
    (hq : ∀ f : Nat → Int32, (∀ j, j < max (14 + n) 60 → f j = frm (macb th tl) (macb ((σ 14 0 8)) ((σ 14 0 9))) (fun j => σ 57 0 (14 + j)) kind n j) → Q (up3 (up3 (up3 (row3 (row3 σ 57 0 f) 58 0 (va_cpy f (σ 58 0) 0 (1514 * (s % 32)) (max (14 + n) 60))) 59 0 (s % 32) (nI (max (14 + n) 60))) 60 0 (s % 32) ((σ 14 0 10))) 14 0 23 (nI (s + 1)))) : w14_send σ th tl kind (nI n) Q := by
  have hm : s % 32 < 32 := Nat.mod_lt _ (by decide)
  have e57 : ∀ (s : St) (f : Nat → Int32) (j : Nat), row3 s 57 0 f 14 0 j = s 14 0 j := fun s f j => by rw [row3_g, if_neg (by decide)]
  unfold w14_send
  refine s14_put2 (a := 0) (by omega) ?_
  refine s14_put4 (a := 2) (by omega) ?_
  simp only [row3_s, row3_row3, e57]
  refine s14_put2 (a := 6) (by omega) ?_
  simp only [row3_s, row3_row3, e57]
  refine s14_put4 (a := 8) (by omega) ?_
  simp only [row3_s, row3_row3, e57]
  refine s14_put2 (a := 12) (by omega) ?_
  simp only [row3_s, row3_row3, e57]
  have e14 : (14 : Int32) + nI n = nI (14 + n) := nI_add 14 n
  rw [e14, show (60 : Int32) = nI 60 from rfl, imax_nI (by omega) (by omega)]
  generalize hg : put2 (put4 (put2 (put4 (put2 (σ 57 0) 0 th) 2 tl) 6 (σ 14 0 8)) 8 (σ 14 0 9)) 12 kind = g
  refine ⟨max (14 + n) 60 - (14 + n) + 1, s14_send_L55 _ (14 + n) _ (by omega) (fun f hf => ?_) (by omega)⟩
  simp only [row3_s, row3_row3, e57] at hf ⊢
  rw [hs, rem32 (by omega)]
  refine br_t (nI_le (b := 1514) (by omega) (by decide)) ⟨max (14 + n) 60 + 1, s14_send_L116 (by omega) hm _ 0 _ (by omega) ?_⟩
  rw [row3_s, row3_o (k' := 58) (by decide)]
  refine ⟨vin hm (by omega), fun s1 e1 => ⟨vin hm (by omega), fun s2 e2 s3 e3 => ?_⟩⟩
  rw [cl (by omega)] at e1 e2
  have q1 : s1 14 0 10 = σ 14 0 10 := by rw [e1, up3_g, if_neg (by omega), row3_g, if_neg (by decide), e57]
  have q2 : s2 14 0 23 = nI s := by rw [e2, up3_g, if_neg (by omega), e1, up3_g, if_neg (by omega), row3_g, if_neg (by decide), e57]; exact hs
  rw [q2, nI_1] at e3
  rw [q1, e1] at e2
  rw [e2] at e3
  subst e3
  refine hq f (fun j hj => ?_)
  rw [hf j]
  unfold frm
  by_cases c1 : 14 + n ≤ j
  · rw [if_pos (by omega), if_neg (by omega), if_neg (by omega), if_neg (by omega), if_neg (by omega), if_neg (by omega)]
  · rw [if_neg (by omega), ← hg]
    by_cases c2 : 14 ≤ j
    · rw [if_neg (by omega), if_neg (by omega), if_neg (by omega), if_neg (by omega), if_pos (by omega)]
      unfold put4 put2
      simp only [vu_g]
      repeat rw [if_neg (by omega)]
      congr 1
      omega
    · unfold macb put4 put2
      simp only [vu_g]
      rcases (show j = 0 ∨ j = 1 ∨ j = 2 ∨ j = 3 ∨ j = 4 ∨ j = 5 ∨ j = 6 ∨ j = 7 ∨ j = 8 ∨ j = 9 ∨ j = 10 ∨ j = 11 ∨ j = 12 ∨ j = 13 by omega) with rfl | rfl | rfl | rfl | rfl | rfl | rfl | rfl | rfl | rfl | rfl | rfl | rfl | rfl <;> simp
/-- what was sent -/
def RV (σ τ : St) (t s : Nat) : Prop := (σ 2 0 4) = nI t ∧ (τ 14 0 10) = nI t ∧ (σ 2 0 3) = nI s ∧ (τ 14 0 23) = nI s ∧ ∀ k, k < 32 → k < s → ∃ l : Nat, 60 ≤ l ∧ l ≤ 1514 ∧ (σ 25 0) k = nI l ∧ (τ 59 0) k = nI l ∧ (σ 26 0) k = (τ 60 0) k ∧ ∀ j, j < l → (σ 23 k) j = (τ 58 0) (1514 * k + j)
theorem RV.c {σ τ σ' τ' : St} {t s : Nat} (h1 : (σ' 2 0 4) = (σ 2 0 4)) (h2 : (σ' 2 0 3) = (σ 2 0 3)) (h3 : σ' 23 = σ 23) (h4 : (σ' 25 0) = (σ 25 0)) (h5 : (σ' 26 0) = (σ 26 0)) (g1 : (τ' 14 0 10) = (τ 14 0 10)) (g2 : (τ' 14 0 23) = (τ 14 0 23)) (g3 : (τ' 58 0) = (τ 58 0)) (g4 : (τ' 59 0) = (τ 59 0)) (g5 : (τ' 60 0) = (τ 60 0)) (h : RV σ τ t s) : RV σ' τ' t s := by
  unfold RV
  rw [h1, h2, h3, h4, h5, g1, g2, g3, g4, g5]
  exact h
theorem RV_send {σ τ : St} {t s n : Nat} (h : RV σ τ t s) (hn : n ≤ 1500) (hs : s < 2147480000) {f g : Nat → Int32} (hfg : ∀ j, j < max (14 + n) 60 → f j = g j) :
    RV (up3 (up3 (up3 (row3 σ 23 (s % 32) f) 25 0 (s % 32) (nI (max (14 + n) 60))) 26 0 (s % 32) ((σ 2 0 4))) 2 0 3 (nI (s + 1))) (up3 (up3 (up3 (row3 (row3 τ 57 0 g) 58 0 (va_cpy g (τ 58 0) 0 (1514 * (s % 32)) (max (14 + n) 60))) 59 0 (s % 32) (nI (max (14 + n) 60))) 60 0 (s % 32) ((τ 14 0 10))) 14 0 23 (nI (s + 1))) t (s + 1) := by
  obtain ⟨h1, h2, h3, h4, h5⟩ := h
  have hm : s % 32 < 32 := Nat.mod_lt _ (by decide)
  refine ⟨?_, ?_, ?_, ?_, fun k hk hk2 => ?_⟩
  · simp [up3_g, row3_g]; exact h1
  · simp [up3_g, row3_g]; exact h2
  · simp [up3_g]
  · simp [up3_g]
  · by_cases e : k = s % 32
    · subst e
      refine ⟨max (14 + n) 60, by omega, by omega, ?_, ?_, ?_, fun j hj => ?_⟩
      · simp [up3_g]
      · simp [up3_g]
      · simp [up3_g]; rw [h1, h2]
      · rw [up3_j (by omega), up3_j (by omega), up3_j (by omega), row3_s, up3_j (by omega), up3_j (by omega), up3_j (by omega), row3_s, pk_cpy_in (by omega) (by omega), hfg j hj]
        congr 1
        omega
    · obtain ⟨l, q1, q2, q3, q4, q5, q6⟩ := h5 k hk (by omega)
      refine ⟨l, q1, q2, ?_, ?_, ?_, fun j hj => ?_⟩
      · simp [up3_g, row3_g, e]; exact q3
      · simp [up3_g, row3_g, e]; exact q4
      · simp [up3_g, row3_g, e]; exact q5
      · rw [up3_j (by omega), up3_j (by omega), up3_j (by omega), row3_o (by omega), up3_j (by omega), up3_j (by omega), up3_j (by omega), row3_s, pk_cpy_out (by omega)]
        exact q6 j hj
