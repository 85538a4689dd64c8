/-! boot -/
set_option maxRecDepth 100000
def macb (h l : Int32) : Nat → Int32 := put4 (put2 (fun _ => 0) 0 h) 2 l
/-- the machine's own numbers -/
def RM (σ τ : St) : Prop := (σ 0 0 12) = (τ 14 0 5) ∧ (σ 3 0 1) = (τ 14 0 5) ∧ (σ 5 0 1) = (τ 14 0 5) ∧ (σ 8 0 2) = (τ 14 0 5) ∧ (σ 3 0 3) = (τ 14 0 7) ∧ (∃ b : Nat, 8 ≤ b ∧ b ≤ 30 ∧ (τ 14 0 6) = nI b ∧ (σ 3 0 2) = (-1) <<< (nI (32 - b) &&& 31)) ∧ (∀ j, j < 6 → (σ 27 0) j = macb (τ 14 0 8) (τ 14 0 9) j) ∧ ∃ h : Int32, (τ 14 0 8) = h &&& 65535
theorem RM.c {σ τ σ' τ' : St} (h1 : (σ' 0 0 12) = (σ 0 0 12)) (h2 : (σ' 3 0 1) = (σ 3 0 1)) (h3 : (σ' 5 0 1) = (σ 5 0 1)) (h4 : (σ' 8 0 2) = (σ 8 0 2)) (h5 : (σ' 3 0 3) = (σ 3 0 3)) (h6 : (σ' 3 0 2) = (σ 3 0 2)) (h7 : (σ' 27 0) = (σ 27 0)) (g1 : (τ' 14 0 5) = (τ 14 0 5)) (g2 : (τ' 14 0 7) = (τ 14 0 7)) (g3 : (τ' 14 0 6) = (τ 14 0 6)) (g4 : (τ' 14 0 8) = (τ 14 0 8)) (g5 : (τ' 14 0 9) = (τ 14 0 9)) (h : RM σ τ) : RM σ' τ' := by
  unfold RM
  rw [h1, h2, h3, h4, h5, h6, h7, g1, g2, g3, g4, g5]
  exact h
/-- the files, as they were at boot -/
def RX (σ τ : St) : Prop := ∃ n c : Nat, n ≤ 65535 ∧ c ≤ 64 ∧ (τ 14 0 3) = nI n ∧ (σ 1 0 1) = nI c ∧ (τ 14 0 11) = nI c ∧ ∀ e, e < c → rig0 ((σ 22 0)) n e ∧ (∀ j, j < 48 → (σ 22 0) (8 + 64 * e + j) = (τ 52 0) (48 * e + j)) ∧ (τ 53 0) e = four ((σ 22 0)) (8 + 64 * e + 48) ∧ (τ 54 0) e = four ((σ 22 0)) (8 + 64 * e + 52) ∧ (τ 55 0) e = four ((σ 22 0)) (8 + 64 * e + 56)
theorem RX.c {σ τ σ' τ' : St} (h1 : (σ' 1 0 1) = (σ 1 0 1)) (h2 : (σ' 22 0) = (σ 22 0)) (g1 : (τ' 14 0 3) = (τ 14 0 3)) (g2 : (τ' 14 0 11) = (τ 14 0 11)) (g3 : (τ' 52 0) = (τ 52 0)) (g4 : (τ' 53 0) = (τ 53 0)) (g5 : (τ' 54 0) = (τ 54 0)) (g6 : (τ' 55 0) = (τ 55 0)) (h : RX σ τ) : RX σ' τ' := by
  unfold RX
  rw [h1, h2, g1, g2, g3, g4, g5, g6]
  exact h
/-- all that is at its beginning -/
def Beg (σ τ : St) : Prop := ((σ 0 0 11) = 1 ∧ (τ 14 0 4) = 1) ∧ ((σ 2 0 4) = 0 ∧ (τ 14 0 10) = 0) ∧ ((σ 2 0 3) = 0 ∧ (τ 14 0 23) = 0) ∧ ((σ 3 0 7) = 0 ∧ ∀ i, i < 16 → (τ 16 i 0) = 0) ∧ ((σ 3 0 9) = 0 ∧ ∀ i, i < 8 → (τ 17 i 0) = 0) ∧ ((σ 6 0 1) = 0 ∧ ∀ i, i < 4 → (τ 18 i 0) = 0) ∧ ((σ 5 0 2) = 0 ∧ (τ 14 0 24) = 0) ∧ (τ 14 0 25) = 0 ∧ (τ 14 0 12) = 0 ∧ (τ 14 0 18) = 0 ∧
  ((σ 6 0 2) = 0 ∧ (σ 0 0 13) = 0 ∧ (σ 8 0 3) = 0 ∧ (σ 8 0 4) = 0 ∧ (σ 8 0 5) = 0 ∧ (σ 8 0 6) = 0 ∧ (σ 8 0 7) = 0 ∧ (σ 8 0 8) = 0) ∧ (∀ k, k < 8 → (τ 56 0) k = 0) ∧ ∀ i, i < 16 → (σ 11 i 2) = 0 ∧ (σ 11 i 29) = 0 ∧ (σ 11 i 33) = 0 ∧ (τ 15 i 0) = 0
section BOOT
/-- a loop that puts 0 into the first field of all objects of a kind: what it is for the rest -/
theorem s14_boot_L120 {x7 : Int32} {e : Nat} {Q : Int32 → St → Prop} {K : St → Prop} (he : e < 64) : ∀ (m j : Nat) (σ : St), j + m = 48 → K (row3 σ 52 0 (va_cpy (σ 51 0) (σ 52 0) (8 + 64 * e + j) (48 * e + j) m)) → w14_boot_L120 x7 (nI e) Q K (m + 1) σ (nI j) := by
  have e48 : (48 : Int32) * nI e = nI (48 * e) := pk_mul 48 e
  intro m
  induction m with
  | zero =>
    intro j σ hj hK
    rw [cpy_0, row3_self] at hK
    exact br_t (nI_le (a := 48) (by omega) (by omega)) hK
  | succ m ih =>
    intro j σ hj hK
    refine br_f (nI_ge (b := 48) (by omega) (by decide)) ?_
    rw [e64, e48, nI_add, nI_add]
    refine ⟨vin (by omega) (by omega), fun hb => ⟨vin (by omega) (by omega), fun s1 e1 => ?_⟩⟩
    rw [cl (by omega), cl (by omega)] at e1
    rw [cl (by omega)] at hb
    rw [show (σ 51 0 (8 + 64 * e + j)).toInt8.toInt32 = σ 51 0 (8 + 64 * e + j) from hb, up3_as] at e1
    subst e1
    rw [nI_1]
    refine ih (j + 1) _ (by omega) ?_
    rw [row3_s, row3_row3, row3_o (k' := 51) (by decide), ← Nat.add_assoc, ← Nat.add_assoc, cpy_s]
    exact hK
def filed (σ : St) (f : Nat → Int32) (e : Nat) : Prop := (∀ j, j < 48 → σ 52 0 (48 * e + j) = f (8 + 64 * e + j)) ∧ σ 53 0 e = four f (8 + 64 * e + 48) ∧ σ 54 0 e = four f (8 + 64 * e + 52) ∧ σ 55 0 e = four f (8 + 64 * e + 56)
theorem s14_boot_L110 {c : Nat} {Q : Int32 → St → Prop} {K : St → Prop} (hc : c ≤ 64) : ∀ (m j : Nat) (σ : St), j + m = c → (∀ e, e < j → filed σ (σ 51 0) e) → (∀ σ', (∀ k i, k < 52 ∨ 55 < k → σ' k i = σ k i) → (∀ e, e < c → filed σ' (σ 51 0) e) → K σ') → w14_boot_L110 (nI c) Q K (m + 1) σ (nI j) := by
  intro m
  induction m with
  | zero =>
    intro j σ hj hp hK
    have e9 : j = c := by omega
    subst e9
    exact br_t (nI_le (by omega) (by omega)) (hK σ (fun _ _ _ => rfl) hp)
  | succ m ih =>
    intro j σ hj hp hK
    refine br_f (nI_ge (by omega) (by omega)) ⟨49, s14_boot_L120 (by omega) 48 0 σ rfl ?_⟩
    generalize hs1 : row3 σ 52 0 (va_cpy (σ 51 0) (σ 52 0) (8 + 64 * j + 0) (48 * j + 0) 48) = s1
    have a1 : s1 51 0 = σ 51 0 := by rw [← hs1, row3_o (by decide)]
    rw [e64, show (48 : Int32) = nI 48 from rfl, show (52 : Int32) = nI 52 from rfl, show (56 : Int32) = nI 56 from rfl, nI_add, nI_add, nI_add]
    refine s14_imageWord (by omega) ⟨vin (by omega) (by omega), fun s2 e2 => ?_⟩
    have a2 : s2 51 0 = σ 51 0 := by rw [e2, up3_i (by decide), a1]
    refine s14_imageWord (by omega) ⟨vin (by omega) (by omega), fun s3 e3 => ?_⟩
    have a3 : s3 51 0 = σ 51 0 := by rw [e3, up3_i (by decide), a2]
    refine s14_imageWord (by omega) ⟨vin (by omega) (by omega), fun s4 e4 => ?_⟩
    have a4 : s4 51 0 = σ 51 0 := by rw [e4, up3_i (by decide), a3]
    rw [cl (by omega), lN_i, ← four_n] at e2 e3 e4
    rw [a1] at e2
    rw [a2] at e3
    rw [a3] at e4
    have b1 : s4 52 0 = va_cpy (σ 51 0) (σ 52 0) (8 + 64 * j) (48 * j) 48 := by rw [e4, up3_i (by decide), e3, up3_i (by decide), e2, up3_i (by decide), ← hs1, row3_s]; rfl
    have b2 : ∀ e, s4 53 0 e = if e = j then four (σ 51 0) (8 + 64 * j + 48) else σ 53 0 e := by
      intro e
      rw [e4, up3_i (by decide), e3, up3_i (by decide), e2, up3_r, if_pos ⟨rfl, rfl⟩, vu_g, ← hs1, row3_o (by decide)]
    have b3 : ∀ e, s4 54 0 e = if e = j then four (σ 51 0) (8 + 64 * j + 52) else σ 54 0 e := by
      intro e
      rw [e4, up3_i (by decide), e3, up3_r, if_pos ⟨rfl, rfl⟩, vu_g, e2, up3_i (by decide), ← hs1, row3_o (by decide)]
    have b4 : ∀ e, s4 55 0 e = if e = j then four (σ 51 0) (8 + 64 * j + 56) else σ 55 0 e := by
      intro e
      rw [e4, up3_r, if_pos ⟨rfl, rfl⟩, vu_g, e3, up3_i (by decide), e2, up3_i (by decide), ← hs1, row3_o (by decide)]
    have b5 : ∀ k i, k < 52 ∨ 55 < k → s4 k i = σ k i := by
      intro k i hk
      rw [e4, up3_i (by omega), e3, up3_i (by omega), e2, up3_i (by omega), ← hs1, row3_o (by omega)]
    rw [nI_1]
    refine ih (j + 1) s4 (by omega) (fun e he => ?_) (fun σ' q1 q2 => hK σ' (fun k i hk => (q1 k i hk).trans (b5 k i hk)) (by rw [a4] at q2; exact q2))
    rw [a4]
    by_cases e9 : e = j
    · subst e9
      refine ⟨fun i hi => ?_, by rw [b2, if_pos rfl], by rw [b3, if_pos rfl], by rw [b4, if_pos rfl]⟩
      rw [b1, pk_cpy_in (by omega) (by omega)]
      congr 1
      omega
    · obtain ⟨q1, q2, q3, q4⟩ := hp e (by omega)
      refine ⟨fun i hi => ?_, by rw [b2, if_neg e9]; exact q2, by rw [b3, if_neg e9]; exact q3, by rw [b4, if_neg e9]; exact q4⟩
      rw [b1, pk_cpy_out (by omega)]
      exact q1 i hi
theorem s14_boot_L275 {x7 : Int32} {Q : Int32 → St → Prop} {K : St → Prop} : ∀ (m j : Nat) (σ : St), j + m = 8 → (∀ i, i < j → σ 56 0 i = 0) → (∀ σ', (∀ k i, k ≠ 56 → σ' k i = σ k i) → (∀ i, i < 8 → σ' 56 0 i = 0) → K σ') → w14_boot_L275 x7 Q K (m + 1) σ (nI j) := by
  intro m
  induction m with
  | zero =>
    intro j σ hj hp hK
    exact br_t (nI_le (a := 8) (by omega) (by omega)) (hK σ (fun _ _ _ => rfl) (fun i hi => hp i (by omega)))
  | succ m ih =>
    intro j σ hj hp hK
    refine br_f (nI_ge (b := 8) (by omega) (by decide)) ⟨vin (by omega) (by omega), fun s1 e1 => ?_⟩
    rw [cl (by omega)] at e1
    rw [nI_1]
    refine ih (j + 1) s1 (by omega) (fun i hi => ?_) (fun σ' q1 q2 => hK σ' (fun k i hk => (q1 k i hk).trans (by rw [e1, up3_i (by omega)])) q2)
    rw [e1, up3_g]
    split
    · rfl
    · exact hp i (by omega)
theorem s14_boot_L299 {x7 : Int32} {Q : Int32 → St → Prop} {K : St → Prop} : ∀ (m j : Nat) (σ : St), j + m = 16 → (∀ i, i < j → σ 15 i 0 = 0) → (∀ σ', (∀ k i, k ≠ 15 → σ' k i = σ k i) → (∀ i, i < 16 → σ' 15 i 0 = 0) → K σ') → w14_boot_L299 x7 Q K (m + 1) σ (nI j) := by
  intro m
  induction m with
  | zero =>
    intro j σ hj hp hK
    exact br_t (nI_le (a := 16) (by omega) (by omega)) (hK σ (fun _ _ _ => rfl) (fun i hi => hp i (by omega)))
  | succ m ih =>
    intro j σ hj hp hK
    refine br_f (nI_ge (b := 16) (by omega) (by decide)) ⟨vin (by omega) (by omega), fun s1 e1 => ?_⟩
    rw [cl (by omega)] at e1
    rw [nI_1]
    refine ih (j + 1) s1 (by omega) (fun i hi => ?_) (fun σ' q1 q2 => hK σ' (fun k i hk => (q1 k i hk).trans (by rw [e1, up3_i (by omega)])) q2)
    rw [e1, up3_g]
    split
    · rfl
    · rename_i h9
      exact hp i (by omega)
theorem s14_boot_L326 {x7 : Int32} {Q : Int32 → St → Prop} {K : St → Prop} : ∀ (m j : Nat) (σ : St), j + m = 16 → (∀ i, i < j → σ 16 i 0 = 0) → (∀ σ', (∀ k i, k ≠ 16 → σ' k i = σ k i) → (∀ i, i < 16 → σ' 16 i 0 = 0) → K σ') → w14_boot_L326 x7 Q K (m + 1) σ (nI j) := by
  intro m
  induction m with
  | zero =>
    intro j σ hj hp hK
    exact br_t (nI_le (a := 16) (by omega) (by omega)) (hK σ (fun _ _ _ => rfl) (fun i hi => hp i (by omega)))
  | succ m ih =>
    intro j σ hj hp hK
    refine br_f (nI_ge (b := 16) (by omega) (by decide)) ⟨vin (by omega) (by omega), fun s1 e1 => ?_⟩
    rw [cl (by omega)] at e1
    rw [nI_1]
    refine ih (j + 1) s1 (by omega) (fun i hi => ?_) (fun σ' q1 q2 => hK σ' (fun k i hk => (q1 k i hk).trans (by rw [e1, up3_i (by omega)])) q2)
    rw [e1, up3_g]
    split
    · rfl
    · rename_i h9
      exact hp i (by omega)
theorem s14_boot_L353 {x7 : Int32} {Q : Int32 → St → Prop} {K : St → Prop} : ∀ (m j : Nat) (σ : St), j + m = 8 → (∀ i, i < j → σ 17 i 0 = 0) → (∀ σ', (∀ k i, k ≠ 17 → σ' k i = σ k i) → (∀ i, i < 8 → σ' 17 i 0 = 0) → K σ') → w14_boot_L353 x7 Q K (m + 1) σ (nI j) := by
  intro m
  induction m with
  | zero =>
    intro j σ hj hp hK
    exact br_t (nI_le (a := 8) (by omega) (by omega)) (hK σ (fun _ _ _ => rfl) (fun i hi => hp i (by omega)))
  | succ m ih =>
    intro j σ hj hp hK
    refine br_f (nI_ge (b := 8) (by omega) (by decide)) ⟨vin (by omega) (by omega), fun s1 e1 => ?_⟩
    rw [cl (by omega)] at e1
    rw [nI_1]
    refine ih (j + 1) s1 (by omega) (fun i hi => ?_) (fun σ' q1 q2 => hK σ' (fun k i hk => (q1 k i hk).trans (by rw [e1, up3_i (by omega)])) q2)
    rw [e1, up3_g]
    split
    · rfl
    · rename_i h9
      exact hp i (by omega)
theorem s14_boot_L380 {x7 : Int32} {Q : Int32 → St → Prop} {K : St → Prop} : ∀ (m j : Nat) (σ : St), j + m = 4 → (∀ i, i < j → σ 18 i 0 = 0) → (∀ σ', (∀ k i, k ≠ 18 → σ' k i = σ k i) → (∀ i, i < 4 → σ' 18 i 0 = 0) → K σ') → w14_boot_L380 x7 Q K (m + 1) σ (nI j) := by
  intro m
  induction m with
  | zero =>
    intro j σ hj hp hK
    exact br_t (nI_le (a := 4) (by omega) (by omega)) (hK σ (fun _ _ _ => rfl) (fun i hi => hp i (by omega)))
  | succ m ih =>
    intro j σ hj hp hK
    refine br_f (nI_ge (b := 4) (by omega) (by decide)) ⟨vin (by omega) (by omega), fun s1 e1 => ?_⟩
    rw [cl (by omega)] at e1
    rw [nI_1]
    refine ih (j + 1) s1 (by omega) (fun i hi => ?_) (fun σ' q1 q2 => hK σ' (fun k i hk => (q1 k i hk).trans (by rw [e1, up3_i (by omega)])) q2)
    rw [e1, up3_g]
    split
    · rfl
    · rename_i h9
      exact hp i (by omega)
theorem s0_boot_L137 {x7 : Int32} {Q : Int32 → St → Prop} {K : St → Prop} : ∀ (m j : Nat) (σ : St), j + m = 16 → (∀ i, i < j → (σ 11 i 2) = 0 ∧ (σ 11 i 29) = 0 ∧ (σ 11 i 33) = 0) → (∀ σ', (∀ k i, k ≠ 11 → σ' k i = σ k i) → (∀ i, i < 16 → (σ' 11 i 2) = 0 ∧ (σ' 11 i 29) = 0 ∧ (σ' 11 i 33) = 0) → K σ') → w0_boot_L137 x7 Q K (m + 1) σ (nI j) := by
  intro m
  induction m with
  | zero =>
    intro j σ hj hp hK
    exact br_t (nI_le (a := 16) (by omega) (by omega)) (hK σ (fun _ _ _ => rfl) (fun i hi => hp i (by omega)))
  | succ m ih =>
    intro j σ hj hp hK
    refine br_f (nI_ge (b := 16) (by omega) (by decide)) ⟨vin (by omega) (by omega), fun s1 e1 s2 e2 s3 e3 => ?_⟩
    rw [cl (by omega)] at e1 e2 e3
    rw [nI_1]
    refine ih (j + 1) s3 (by omega) (fun i hi => ?_) (fun σ' q1 q2 => hK σ' (fun k i hk => (q1 k i hk).trans (by rw [e3, up3_i (by omega), e2, up3_i (by omega), e1, up3_i (by omega)])) q2)
    rw [e3, e2, e1]
    simp only [up3_g]
    by_cases e9 : i = j
    · subst e9
      simp
    · simp [e9]
      exact hp i (by omega)
theorem nlen_ext {f g : Nat → Int32} {a : Nat} (h : ∀ j, j < 48 → f (a + j) = g (a + j)) : nlen f a = nlen g a := scan_ext (fun i _ hi => by rw [h i (by omega)])
theorem rig0_ext {f g : Nat → Int32} {n e : Nat} (h : ∀ j, j < 8 + 64 * e + 64 → f j = g j) (hr : rig0 f n e) : rig0 g n e := by
  have e1 : nlen f (8 + 64 * e) = nlen g (8 + 64 * e) := nlen_ext (fun j hj => h _ (by omega))
  have q1 := nlen_le f (8 + 64 * e)
  have e2 : ∀ a, a < 61 → fourN f (8 + 64 * e + a) = fourN g (8 + 64 * e + a) := fun a ha => fourN_ext (fun j hj => h _ (by omega))
  obtain ⟨h1, h2, h3, h4, h5, h6, h7⟩ := hr
  refine ⟨by rw [← e1]; exact h1, by rw [← e1]; exact h2, by rw [← h _ (by omega)]; exact h3, fun j hj => ?_, fun j hj hj2 => ?_, by rw [← e2 48 (by omega), ← e2 52 (by omega)]; exact h6, by rw [← e2 60 (by omega)]; exact h7⟩
  · rw [← e1] at hj
    rw [← h _ (by omega)]
    exact h4 j hj
  · rw [← e1] at hj
    rw [← h _ (by omega)]
    exact h5 j hj hj2
theorem right_ext {f g : Nat → Int32} {n e : Nat} (h : ∀ j, j < 8 + 64 * e + 64 → f j = g j) (hr : right f n e) : right g n e :=
  ⟨rig0_ext h hr.1, fun k hk z => hr.2 k hk (fun j hj => by rw [h _ (by omega), h _ (by omega)]; exact z j hj)⟩
theorem goodI_ext {f g : Nat → Int32} {n : Nat} (h : ∀ j, j < n → f j = g j) (hr : goodI f n) : goodI g n := by
  obtain ⟨h1, h2, h3, h4, h5, h6, h7⟩ := hr
  have e4 : twoN f 4 = twoN g 4 := twoN_ext (fun j hj => h _ (by omega))
  have e6 : twoN f 6 = twoN g 6 := twoN_ext (fun j hj => h _ (by omega))
  have e0 : fourN f 0 = fourN g 0 := fourN_ext (fun j hj => h _ (by omega))
  refine ⟨h1, by rw [← e0]; exact h2, by rw [← e6]; exact h3, by rw [← e4]; exact h4, by rw [← e4]; exact h5, ?_, fun e he => right_ext (fun j hj => h j (by omega)) (h7 e (by rw [e4]; exact he))⟩
  rw [← e4, ← crc_ext (f := f) (fun j hj => h _ (by omega)), ← four_ext (f := f) (fun j hj => h _ (by omega))]
  exact h6
end BOOT
