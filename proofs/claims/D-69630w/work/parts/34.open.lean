/-! opening an image: the component's open, the model's files -/
set_option maxRecDepth 100000
def goodI (f : Nat → Int32) (n : Nat) : Prop := 12 ≤ n ∧ fourN f 0 = 1398034258 ∧ twoN f 6 = 0 ∧ twoN f 4 ≤ 64 ∧ 12 + 64 * twoN f 4 ≤ n ∧ crc f 0 (8 + 64 * twoN f 4) = four f (8 + 64 * twoN f 4) ∧ ∀ e, e < twoN f 4 → right f n e
theorem goodI.rig {f : Nat → Int32} {n : Nat} (h : goodI f n) : ∀ e, e < twoN f 4 → rig0 f n e := fun e he => (h.2.2.2.2.2.2 e he).1
section OPEN
variable {σ : St} {n : Nat}
theorem s1_open_L {c : Nat} {x2 : Int32} {Q : Int32 → St → Prop} {K : Int32 → Prop} (hf : ∀ j, by8 (σ 21 0 j)) (hr : rowIs σ 21) (hn : σ 90 0 0 = nI n) (hn2 : n ≤ 65535) (hc : 12 + 64 * c ≤ n) (hc2 : c ≤ 64) : ∀ (m j : Nat), j + m = c → (∀ e, e < j → rig0 (σ 21 0) n e) → ((∀ e, j ≤ e → e < c → right (σ 21 0) n e) → K 1) → ((¬ ∀ e, j ≤ e → e < c → right (σ 21 0) n e) → K 0) →
    w1_open_L105 σ (nI c) x2 Q K (m + 1) 1 (nI j) := by
  have hlen : alen σ 21 0 = n := by show (σ 90 0 0).toNatClampNeg = n; rw [hn, cl (by omega)]
  intro m
  induction m with
  | zero => intro j hj hp h1 h0; exact br_t (nI_le (by omega) (by omega)) (h1 (fun e h2 h3 => by omega))
  | succ m ih =>
    intro j hj hp h1 h0
    refine br_f (nI_ge (by omega) (by omega)) (br_f (by decide) ?_)
    refine s1_isRight hf hr (by omega) (by omega) hn hn2 hp (fun h => ?_) (fun h => ?_)
    · rw [nI_1]
      refine ih (j + 1) (by omega) (fun e he => ?_) (fun h3 => h1 (fun e h4 h5 => ?_)) (fun h3 => h0 (fun z => h3 (fun e h4 h5 => z e (by omega) h5)))
      · by_cases e9 : e = j
        · rw [e9]; exact h.1
        · exact hp e (by omega)
      · by_cases e9 : e = j
        · rw [e9]; exact h
        · exact h3 e (by omega) h5
    · rw [nI_1]
      have hz : K 0 := h0 (fun z => h (z j (by omega) (by omega)))
      cases m with
      | zero => exact br_t (nI_le (by omega) (by omega)) hz
      | succ m =>
        by_cases h9 : nI c ≤ nI (j + 1)
        · exact br_t h9 hz
        · exact br_f h9 (br_t rfl hz)
theorem row_back {σ : St} (h1 : σ 1 0 3 = nI 22) (h2 : σ 1 0 103 = nI 0) : up3 (up3 (up3 (up3 σ 1 0 3 (nI 21)) 1 0 103 (nI 0)) 1 0 3 (nI 22)) 1 0 103 (nI 0) = σ := by
  funext k i j
  simp only [up3_g]
  by_cases c1 : k = 1 ∧ i = 0 ∧ j = 103
  · rw [if_pos c1, c1.1, c1.2.1, c1.2.2, h2]
  · rw [if_neg c1]
    by_cases c2 : k = 1 ∧ i = 0 ∧ j = 3
    · rw [if_pos c2, c2.1, c2.2.1, c2.2.2, h1]
    · rw [if_neg c2, if_neg c1, if_neg c2]
theorem s1_open {Q : Int32 → St → Prop} (hf : ∀ j, by8 (σ 21 0 j)) (hr1 : σ 1 0 3 = nI 22) (hr2 : σ 1 0 103 = nI 0) (hn : σ 90 0 0 = nI n) (hn2 : n ≤ 65535) (h1 : goodI (σ 21 0) n → Q (nI (twoN (σ 21 0) 4)) (up3 (row3 σ 22 0 (va_cpy (σ 21 0) (σ 22 0) 0 0 (8 + 64 * twoN (σ 21 0) 4))) 1 0 1 (nI (twoN (σ 21 0) 4)))) (h0 : ¬ goodI (σ 21 0) n → Q (-1) σ) : w1_open σ Q := by
  have hlen : alen σ 21 0 = n := by show (σ 90 0 0).toNatClampNeg = n; rw [hn, cl (by omega)]
  unfold w1_open
  rw [hn, cl (by omega)]
  by_cases c1 : n < 12
  · exact br_t (nI_lt (b := 12) c1 (by decide)) (h0 (fun z => by have := z.1; omega))
  refine br_f (nI_nlt (b := 12) (by omega) (by omega)) ?_
  have t4 := twoN_lt (σ 21 0) 4
  refine s19_four (a := 0) (by omega) (by omega) ?_
  rw [four_n]
  by_cases c2 : fourN (σ 21 0) 0 = 1398034258
  rotate_left
  · exact br_v (fun z => c2 ((nI_inj (b := 1398034258) (fourN_lt _ _) (by decide)).mp z)) (h0 (fun z => c2 z.2.1))
  refine br_u (by rw [c2]; rfl) ?_
  refine s19_two (a := 6) (by omega) (by omega) ?_
  rw [two_n]
  by_cases c3 : twoN (σ 21 0) 6 = 0
  rotate_left
  · exact br_f (fun z => c3 ((nI_inj (b := 0) (by have := twoN_lt (σ 21 0) 6; omega) (by decide)).mp z)) (h0 (fun z => c3 z.2.2.1))
  refine br_t (by rw [c3]; rfl) ?_
  refine s19_two (a := 4) (by omega) (by omega) ?_
  rw [two_n]
  show (64 < nI (twoN (σ 21 0) 4) → _) ∧ (¬ 64 < nI (twoN (σ 21 0) 4) → _)
  by_cases c4 : 64 < twoN (σ 21 0) 4
  · exact br_t (nI_lt (a := 64) c4 (by omega)) (h0 (fun z => by have := z.2.2.2.1; omega))
  refine br_f (nI_nlt (a := 64) (by omega) (by omega)) ?_
  rw [e64, show (4 : Int32) = nI 4 from rfl, nI_add]
  by_cases c5 : 8 + 64 * twoN (σ 21 0) 4 + 4 ≤ n
  rotate_left
  · exact br_f (fun z => c5 ((nI_leI (by omega) (by omega)).mp z)) (h0 (fun z => by have := z.2.2.2.2.1; omega))
  refine br_t (nI_le c5 (by omega)) ?_
  refine s1_check (a := 0) (by omega) (by omega) (by rw [hn, cl (by omega)]; omega) ?_
  refine s19_four (by omega) (by omega) ?_
  have q21 : ∀ z : Int32, (up3 (up3 σ 1 0 3 z) 1 0 103 (nI 0)) 21 0 = σ 21 0 := fun z => by rw [up3_i (by decide), up3_i (by decide)]
  have q90 : ∀ z : Int32, (up3 (up3 σ 1 0 3 z) 1 0 103 (nI 0)) 90 0 0 = nI n := fun z => by rw [up3_i (by decide), up3_i (by decide)]; exact hn
  have hr9 : rowIs (up3 (up3 σ 1 0 3 (nI 21)) 1 0 103 (nI 0)) 21 := by
    refine ⟨?_, ?_, by decide⟩
    · rw [up3_g, if_neg (by decide), up3_g, if_pos ⟨rfl, rfl, rfl⟩]; rfl
    · rw [up3_g, if_pos ⟨rfl, rfl, rfl⟩]; rfl
  have bad : ∀ x2, ¬ goodI (σ 21 0) n → w1_open_J128 (up3 (up3 σ 1 0 3 (nI 21)) 1 0 103 (nI 0)) (nI (twoN (σ 21 0) 4)) x2 0 Q := by
    intro x2 hb s1 e1
    rw [row_back hr1 hr2] at e1
    subst e1
    exact br_u rfl (h0 hb)
  by_cases c6 : crc (σ 21 0) 0 (8 + 64 * twoN (σ 21 0) 4) = four (σ 21 0) (8 + 64 * twoN (σ 21 0) 4)
  rotate_left
  · refine br_v c6 (fun s7 e7 => ⟨1, ?_⟩)
    subst e7
    have hb := bad (nI (8 + 64 * twoN (σ 21 0) 4)) (fun z => c6 z.2.2.2.2.2.1)
    by_cases h9 : nI (twoN (σ 21 0) 4) ≤ 0
    · exact br_t h9 hb
    · exact br_f h9 (br_t rfl hb)
  refine br_u c6 (fun s7 e7 => ⟨twoN (σ 21 0) 4 + 1, ?_⟩)
  subst e7
  refine s1_open_L (n := n) (by rw [q21]; exact hf) hr9 (q90 _) hn2 (by omega) (by omega) _ 0 (by omega) (fun e he => by omega) ?_ ?_
  · rw [q21]
    intro h s1 e1
    rw [row_back hr1 hr2] at e1
    subst e1
    refine br_v (by decide) ?_
    have a22 : alen s1 22 0 = 4104 := rfl
    refine s19_copy (a := 0) (b := 0) (n := 8 + 64 * twoN (s1 21 0) 4) (by decide) (by decide) (by omega) (by omega) (by omega) (by omega) (by rw [a22]; omega) ?_
    intro s2 e2
    subst e2
    exact h1 ⟨by omega, c2, c3, by omega, by omega, c6, fun e he => h e (by omega) he⟩
  · rw [q21]
    intro h
    exact bad _ (fun z => h (fun e _ he => z.2.2.2.2.2.2 e he))
end OPEN
/-! the model -/
theorem lN_or {x y : Nat} (hx : x < 256) (h : y * 256 + x < 4294967296) : (lN y <<< ((8 : Int32).toInt64 &&& 63)) ||| lN x = lN (y * 256 + x) := by
  apply Int64.toBitVec_inj.mp
  apply BitVec.eq_of_toNat_eq
  have e1 : ((8 : Int32).toInt64 &&& 63) = (8 : Int64) := by decide
  have q : ∀ z : Nat, z < 18446744073709551616 → (lN z).toBitVec.toNat = z := by
    intro z hz
    show (BitVec.ofNat 64 z).toNat = z
    rw [BitVec.toNat_ofNat]
    omega
  rw [e1, Int64.toBitVec_or, BitVec.toNat_or, q x (by omega), q _ (by omega)]
  have e2 : (lN y <<< (8 : Int64)).toBitVec.toNat = y * 256 := by
    rw [Int64.toBitVec_shiftLeft]
    rw [show ((8 : Int64).toBitVec.smod 64) = 8#64 by decide]
    rw [BitVec.shiftLeft_eq', BitVec.toNat_shiftLeft, q y (by omega), Nat.shiftLeft_eq]
    show y * 2 ^ 8 % 2 ^ 64 = y * 256
    omega
  rw [e2]
  have := Nat.two_pow_add_eq_or_of_lt (i := 8) (b := x) hx y
  rw [show y * 256 = 2 ^ 8 * y by omega]
  exact this.symm
section FILES
variable {σ : St} {n : Nat}
theorem s14_imageWord {a : Nat} {Q : Int64 → Prop} (h : a + 4 ≤ 65535) (hq : Q (lN (fourN (σ 51 0) a))) : w14_imageWord σ (nI a) Q := by
  have u0 := ub_lt (σ 51 0 a)
  have u1 := ub_lt (σ 51 0 (a + 1))
  have u2 := ub_lt (σ 51 0 (a + 2))
  have u3 := ub_lt (σ 51 0 (a + 3))
  have l : ∀ x : Int32, (x &&& 255).toInt64 = lN (ub x) := fun x => by have := ub_lt x; rw [ub_and, nI_l (by omega)]
  refine ⟨5, br_f (by decide) ?_⟩
  rw [show nI a + 0 = nI a from pz0 a]
  refine ⟨vin (by omega) (by omega), fun _ => br_f (by decide) ?_⟩
  rw [show nI a + (0 + 1) = nI (a + 1) from pz1 a]
  refine ⟨vin (by omega) (by omega), fun _ => br_f (by decide) ?_⟩
  rw [show nI a + (0 + 1 + 1) = nI (a + 2) from pz2 a]
  refine ⟨vin (by omega) (by omega), fun _ => br_f (by decide) ?_⟩
  rw [show nI a + (0 + 1 + 1 + 1) = nI (a + 3) from pz3 a]
  refine ⟨vin (by omega) (by omega), fun _ => br_t (by decide) ?_⟩
  rw [cl (by omega), cl (by omega), cl (by omega), cl (by omega), l, l, l, l]
  rw [show (0 : Int64) = lN 0 from rfl, lN_or u0 (by omega), lN_or u1 (by omega), lN_or u2 (by omega), lN_or u3 (by omega)]
  unfold fourN twoN at hq
  rw [show (((0 * 256 + ub (σ 51 0 a)) * 256 + ub (σ 51 0 (a + 1))) * 256 + ub (σ 51 0 (a + 2))) * 256 + ub (σ 51 0 (a + 3)) = (ub (σ 51 0 a) * 256 + ub (σ 51 0 (a + 1))) * 65536 + (ub (σ 51 0 (a + 2)) * 256 + ub (σ 51 0 (a + 2 + 1))) by rw [show a + 2 + 1 = a + 3 by omega]; omega]
  exact hq
theorem s14_files_L167 {a : Nat} {x1 x2 : Int32} {Q K : Int32 → Prop} (hf : ∀ j, by8 (σ 51 0 j)) (ha : a + 48 ≤ 65535) : ∀ (m j : Nat), j + m = 48 → K (nI (scan (fun j => decide (ub (σ 51 0 (a + j)) ≠ 0)) m j)) → w14_files_L167 σ x1 x2 (nI a) Q K (m + 1) (nI j) := by
  intro m
  induction m with
  | zero => intro j hj hK; exact br_t (nI_le (a := 48) (by omega) (by omega)) hK
  | succ m ih =>
    intro j hj hK
    refine br_f (nI_ge (b := 48) (by omega) (by decide)) ?_
    rw [nI_add]
    refine ⟨vin (by omega) (by omega), fun _ => ?_⟩
    rw [cl (by omega), nI_1]
    have h9 := by8_c (hf (a + j)) (c := 0) (by decide)
    by_cases hc : ub (σ 51 0 (a + j)) = 0
    · rw [scan_f _ (by simpa using hc)] at hK
      exact br_t (h9.mpr hc) hK
    · rw [scan_t _ (by simpa using hc)] at hK
      exact br_f (fun z => hc (h9.mp z)) (ih (j + 1) (by omega) hK)
theorem s14_files_L220 {a l : Nat} {x1 x2 : Int32} {Q : Int32 → Prop} {K259 K267 K275 : Prop} (hf : ∀ j, by8 (σ 51 0 j)) (ha : a + 48 ≤ 65535) (hl : l ≤ 48) : ∀ (m j : Nat), j + m = 48 → ((∀ i, j ≤ i → i < 48 → (i < l → 33 ≤ ub (σ 51 0 (a + i)) ∧ ub (σ 51 0 (a + i)) ≤ 126) ∧ (l ≤ i → ub (σ 51 0 (a + i)) = 0)) → K275) →
    ((¬ ∀ i, j ≤ i → i < 48 → (i < l → 33 ≤ ub (σ 51 0 (a + i)) ∧ ub (σ 51 0 (a + i)) ≤ 126) ∧ (l ≤ i → ub (σ 51 0 (a + i)) = 0)) → K259 ∧ K267) → w14_files_L220 σ x1 x2 (nI a) (nI l) Q K259 K267 K275 (m + 1) (nI j) := by
  intro m
  induction m with
  | zero => intro j hj h1 h0; exact br_t (nI_le (a := 48) (by omega) (by omega)) (h1 (fun i hi hi2 => by omega))
  | succ m ih =>
    intro j hj h1 h0
    refine br_f (nI_ge (b := 48) (by omega) (by decide)) ?_
    rw [nI_add]
    refine ⟨vin (by omega) (by omega), fun _ => ?_⟩
    rw [cl (by omega), nI_1]
    have hx := hf (a + j)
    have hu := ub_lt (σ 51 0 (a + j))
    have hI := by8_int hx
    have go : ((j < l → 33 ≤ ub (σ 51 0 (a + j)) ∧ ub (σ 51 0 (a + j)) ≤ 126) ∧ (l ≤ j → ub (σ 51 0 (a + j)) = 0)) → w14_files_L220 σ x1 x2 (nI a) (nI l) Q K259 K267 K275 (m + 1) (nI (j + 1)) := by
      intro hok
      refine ih (j + 1) (by omega) (fun h => h1 (fun i hi hi2 => ?_)) (fun h => h0 (fun z => h (fun i hi hi2 => z i (by omega) hi2)))
      by_cases e9 : i = j
      · rw [e9]; exact hok
      · exact h i (by omega) hi2
    by_cases c1 : l ≤ j
    · refine br_t (nI_le c1 (by omega)) ?_
      have h9 := by8_c hx (c := 0) (by decide)
      by_cases c2 : ub (σ 51 0 (a + j)) = 0
      · exact br_t (h9.mpr c2) (go ⟨fun z => by omega, fun _ => c2⟩)
      · exact br_f (fun z => c2 (h9.mp z)) (h0 (fun z => c2 ((z j (by omega) (by omega)).2 c1))).2
    · refine br_f (nI_ge (by omega) (by omega)) ?_
      have i33 : σ 51 0 (a + j) < 33 ↔ (σ 51 0 (a + j)).toInt < 33 := Int32.lt_iff_toInt_lt
      have i126 : σ 51 0 (a + j) ≤ 126 ↔ (σ 51 0 (a + j)).toInt ≤ 126 := Int32.le_iff_toInt_le
      by_cases c2 : σ 51 0 (a + j) < 33
      · refine br_t c2 (h0 (fun z => ?_)).2
        have h7 := (z j (by omega) (by omega)).1 (by omega)
        have h8 := i33.mp c2
        rw [hI, if_pos (by omega)] at h8
        omega
      · refine br_f c2 ?_
        by_cases c3 : σ 51 0 (a + j) ≤ 126
        · refine br_t c3 (go ⟨fun _ => ?_, fun z => by omega⟩)
          have h7 : ¬ (σ 51 0 (a + j)).toInt < 33 := fun z => c2 (i33.mpr z)
          have h8 := i126.mp c3
          rw [hI] at h7 h8
          split at h7 <;> split at h8 <;> omega
        · refine br_f c3 (h0 (fun z => ?_)).1
          have h7 := (z j (by omega) (by omega)).1 (by omega)
          have h8 : ¬ (σ 51 0 (a + j)).toInt ≤ 126 := fun y => c3 (i126.mpr y)
          rw [hI, if_pos (by omega)] at h8
          omega
theorem s14_files_L331 {a g : Nat} {x1 x2 : Int32} {Q K : Int32 → Prop} (ha : a + 48 ≤ 65535) (hg : 8 + 64 * g + 48 ≤ 65535) : ∀ (m j : Nat) (s : Int32), j + m = 48 → (s = 0 ∨ s = 1) → ((s = 1 ∧ ∀ i, j ≤ i → i < 48 → σ 51 0 (a + i) = σ 51 0 (8 + 64 * g + i)) → K 1) → (¬ (s = 1 ∧ ∀ i, j ≤ i → i < 48 → σ 51 0 (a + i) = σ 51 0 (8 + 64 * g + i)) → K 0) →
    w14_files_L331 σ x1 x2 (nI a) (nI g) Q K (m + 1) s (nI j) := by
  intro m
  induction m with
  | zero =>
    intro j s hj hs h1 h0
    refine br_t (nI_le (a := 48) (by omega) (by omega)) ?_
    rcases hs with rfl | rfl
    · exact h0 (fun z => absurd z.1 (by decide))
    · exact h1 ⟨rfl, fun i hi hi2 => by omega⟩
  | succ m ih =>
    intro j s hj hs h1 h0
    refine br_f (nI_ge (b := 48) (by omega) (by decide)) ?_
    rw [nI_1]
    rcases hs with rfl | rfl
    · exact br_t rfl (ih (j + 1) 0 (by omega) (Or.inl rfl) (fun z => absurd z.1 (by decide)) (fun _ => h0 (fun z => absurd z.1 (by decide))))
    · refine br_f (by decide) ?_
      rw [e64, nI_add, nI_add]
      refine ⟨vin (by omega) (by omega), fun _ => ⟨vin (by omega) (by omega), fun _ => ?_⟩⟩
      rw [cl (by omega), cl (by omega)]
      by_cases c : σ 51 0 (a + j) = σ 51 0 (8 + 64 * g + j)
      · refine br_u c (ih (j + 1) 1 (by omega) (Or.inr rfl) (fun z => h1 ⟨rfl, fun i hi hi2 => ?_⟩) (fun z => h0 (fun y => z ⟨rfl, fun i hi hi2 => y.2 i (by omega) hi2⟩)))
        by_cases e9 : i = j
        · rw [e9]; exact c
        · exact z.2 i (by omega) hi2
      · exact br_v c (ih (j + 1) 0 (by omega) (Or.inl rfl) (fun z => absurd z.1 (by decide)) (fun _ => h0 (fun z => c (z.2 j (by omega) (by omega)))))
theorem s14_files_L319 {e : Nat} {x1 : Int32} {Q : Int32 → Prop} {K389 K397 : Prop} (he : e ≤ 64) : ∀ (m j : Nat), j + m = e → ((∀ g, j ≤ g → g < e → ¬ ∀ i, i < 48 → σ 51 0 (8 + 64 * e + i) = σ 51 0 (8 + 64 * g + i)) → K397) → ((¬ ∀ g, j ≤ g → g < e → ¬ ∀ i, i < 48 → σ 51 0 (8 + 64 * e + i) = σ 51 0 (8 + 64 * g + i)) → K389) →
    w14_files_L319 σ x1 (nI e) (nI (8 + 64 * e)) Q K389 K397 (m + 1) (nI j) := by
  intro m
  induction m with
  | zero => intro j hj h1 h0; exact br_t (nI_le (by omega) (by omega)) (h1 (fun i hi hi2 => by omega))
  | succ m ih =>
    intro j hj h1 h0
    refine br_f (nI_ge (by omega) (by omega)) ⟨49, s14_files_L331 (by omega) (by omega) 48 0 1 rfl (Or.inr rfl) (fun h => ?_) (fun h => ?_)⟩
    · exact br_f (by decide) (h0 (fun z => z j (by omega) (by omega) (fun i hi => h.2 i (by omega) hi)))
    · refine br_t rfl ?_
      rw [nI_1]
      refine ih (j + 1) (by omega) (fun h3 => h1 (fun g hg hg2 => ?_)) (fun h3 => h0 (fun z => h3 (fun g hg hg2 => z g (by omega) hg2)))
      by_cases e9 : g = j
      · rw [e9]; exact fun z => h ⟨rfl, fun i _ hi => z i hi⟩
      · exact h3 g (by omega) hg2
theorem lcmp_gt {a b : Nat} (ha : a < 9223372036854775808) (hb : b < 9223372036854775808) : 0 < lg_cmp (lN a) (lN b) ↔ b < a := by
  rw [lg_cmp_gt]
  exact pk_lLT (by omega) (by omega)
theorem s14_files_L151 {c : Nat} {Q : Int32 → Prop} {K215 K259 K267 K314 K389 K403 : Prop} (hf : ∀ j, by8 (σ 51 0 j)) (hn : (σ 14 0 3) = nI n) (hn2 : n ≤ 65535) (hc : 12 + 64 * c ≤ n) (hc2 : c ≤ 64) : ∀ (m j : Nat), j + m = c → ((∀ e, j ≤ e → e < c → right (σ 51 0) n e) → K403) → ((¬ ∀ e, j ≤ e → e < c → right (σ 51 0) n e) → K215 ∧ K259 ∧ K267 ∧ K314 ∧ K389) →
    w14_files_L151 σ (nI c) Q K215 K259 K267 K314 K389 K403 (m + 1) (nI j) := by
  intro m
  induction m with
  | zero => intro j hj h1 h0; exact br_t (nI_le (by omega) (by omega)) (h1 (fun i hi hi2 => by omega))
  | succ m ih =>
    intro j hj h1 h0
    refine br_f (nI_ge (by omega) (by omega)) ?_
    rw [e64]
    refine ⟨49, s14_files_L167 hf (by omega) 48 0 rfl ?_⟩
    have hq := nlen_le (σ 51 0) (8 + 64 * j)
    have bad : ¬ right (σ 51 0) n j → K215 ∧ K259 ∧ K267 ∧ K314 ∧ K389 := fun h => h0 (fun z => h (z j (by omega) (by omega)))
    show w14_files_J192 σ (nI c) (nI j) (nI (8 + 64 * j)) (nI (nlen (σ 51 0) (8 + 64 * j))) Q _ K215 K259 K267 K314 K389
    by_cases c1 : nlen (σ 51 0) (8 + 64 * j) = 0
    · exact br_t (by rw [c1]; rfl) (bad (fun z => z.1.1 c1)).1
    refine br_f (nI_ne0 (by omega) (by omega)) ?_
    by_cases c2 : nlen (σ 51 0) (8 + 64 * j) = 48
    · exact br_t (by rw [c2]; rfl) (bad (fun z => z.1.2.1 c2)).1
    refine br_f (fun z => c2 ((nI_eq (b := 48) (by omega) (by decide)).mp z)) ⟨vin (by omega) (by omega), fun _ => ?_⟩
    rw [cl (by omega)]
    have h47 := by8_c (hf (8 + 64 * j)) (c := 47) (by decide)
    by_cases c3 : ub (σ 51 0 (8 + 64 * j)) = 47
    rotate_left
    · exact br_f (fun z => c3 (h47.mp z)) (bad (fun z => c3 z.1.2.2.1)).1
    refine br_t (h47.mpr c3) ⟨49, s14_files_L220 hf (by omega) hq 48 0 rfl (fun c4 => ?_) (fun c4 => ?_)⟩
    rotate_left
    · have hb := bad (fun z => c4 (fun i hi hi2 => ⟨fun hl => z.1.2.2.2.1 i hl, fun hl => z.1.2.2.2.2.1 i hl hi2⟩))
      exact ⟨hb.2.1, hb.2.2.1⟩
    show w14_imageWord σ (nI (8 + 64 * j) + nI 48) _
    rw [nI_add]
    refine s14_imageWord (by omega) ?_
    show w14_imageWord σ (nI (8 + 64 * j) + nI 52) _
    rw [nI_add]
    refine s14_imageWord (by omega) ?_
    have f1 := fourN_lt (σ 51 0) (8 + 64 * j + 48)
    have f2 := fourN_lt (σ 51 0) (8 + 64 * j + 52)
    rw [lN_add, hn, nI_l (by omega)]
    by_cases d1 : n < fourN (σ 51 0) (8 + 64 * j + 48) + fourN (σ 51 0) (8 + 64 * j + 52)
    · exact br_t ((lcmp_gt (by omega) (by omega)).mpr d1) (bad (fun z => by have := z.1.2.2.2.2.2.1; omega)).2.2.2.1
    refine br_f (fun z => d1 ((lcmp_gt (by omega) (by omega)).mp z)) ?_
    show w14_imageWord σ (nI (8 + 64 * j) + nI 60) _
    rw [nI_add]
    refine s14_imageWord (by omega) ?_
    have f3 := fourN_lt (σ 51 0) (8 + 64 * j + 60)
    have hz : lg_cmp (lN (fourN (σ 51 0) (8 + 64 * j + 60))) 0 = 0 ↔ fourN (σ 51 0) (8 + 64 * j + 60) = 0 := by
      rw [lg_cmp_eq]
      exact pk_lEQ (b := 0) (by omega) (by decide)
    by_cases d2 : fourN (σ 51 0) (8 + 64 * j + 60) = 0
    rotate_left
    · exact br_f (fun z => d2 (hz.mp z)) (bad (fun z => d2 z.1.2.2.2.2.2.2)).2.2.2.1
    refine br_t (hz.mpr d2) ⟨j + 1, s14_files_L319 (by omega) j 0 (by omega) (fun h => ?_) (fun h => (bad (fun z => h (fun g _ hg => z.2 g hg))).2.2.2.2)⟩
    rw [nI_1]
    have hrig : right (σ 51 0) n j := ⟨⟨c1, c2, c3, fun i hi => (c4 i (by omega) (by omega)).1 hi, fun i hi hi2 => (c4 i (by omega) hi2).2 hi, by omega, d2⟩, fun g hg => h g (by omega) hg⟩
    refine ih (j + 1) (by omega) (fun h3 => h1 (fun e he he2 => ?_)) (fun h3 => h0 (fun z => h3 (fun e he he2 => z e (by omega) he2)))
    by_cases e9 : e = j
    · rw [e9]; exact hrig
    · exact h3 e (by omega) he2
theorem s14_files {Q : Int32 → Prop} (hf : ∀ j, by8 (σ 51 0 j)) (hn : (σ 14 0 3) = nI n) (hn2 : n ≤ 65535) (h1 : goodI (σ 51 0) n → Q (nI (twoN (σ 51 0) 4))) (h0 : ¬ goodI (σ 51 0) n → Q (-1)) : w14_files σ Q := by
  have t4 := twoN_lt (σ 51 0) 4
  have hb : ∀ j c : Nat, c < 128 → (σ 51 0 j = nI c ↔ ub (σ 51 0 j) = c) := fun j c hc => by8_c (hf j) hc
  have u0 := ub_lt (σ 51 0 0)
  have u1 := ub_lt (σ 51 0 1)
  have u2 := ub_lt (σ 51 0 2)
  have u3 := ub_lt (σ 51 0 3)
  have u6 := ub_lt (σ 51 0 6)
  have u7 := ub_lt (σ 51 0 7)
  have magic : fourN (σ 51 0) 0 = 1398034258 ↔ ub (σ 51 0 0) = 83 ∧ ub (σ 51 0 1) = 84 ∧ ub (σ 51 0 2) = 79 ∧ ub (σ 51 0 3) = 82 := by
    have e : fourN (σ 51 0) 0 = (ub (σ 51 0 0) * 256 + ub (σ 51 0 1)) * 65536 + (ub (σ 51 0 2) * 256 + ub (σ 51 0 3)) := rfl
    rw [e]
    omega
  have zero : twoN (σ 51 0) 6 = 0 ↔ ub (σ 51 0 6) = 0 ∧ ub (σ 51 0 7) = 0 := by
    have e : twoN (σ 51 0) 6 = ub (σ 51 0 6) * 256 + ub (σ 51 0 7) := rfl
    rw [e]
    omega
  unfold w14_files
  rw [hn]
  have vv : ∀ c : Nat, c < 65535 → vp_in (nI c) 65535 := fun c hc => vin hc (by omega)
  by_cases c1 : n < 12
  · exact br_t (nI_lt (b := 12) c1 (by decide)) (h0 (fun z => by have := z.1; omega))
  refine br_f (nI_nlt (b := 12) (by omega) (by omega)) ⟨vv 0 (by omega), fun _ => ?_⟩
  by_cases m0 : ub (σ 51 0 0) = 83
  rotate_left
  · exact br_v (fun z => m0 ((hb 0 83 (by omega)).mp z)) (h0 (fun z => m0 (magic.mp z.2.1).1))
  refine br_u ((hb 0 83 (by omega)).mpr m0) ⟨vv 1 (by omega), fun _ => ?_⟩
  by_cases m1 : ub (σ 51 0 1) = 84
  rotate_left
  · exact br_v (fun z => m1 ((hb 1 84 (by omega)).mp z)) (h0 (fun z => m1 (magic.mp z.2.1).2.1))
  refine br_u ((hb 1 84 (by omega)).mpr m1) ⟨vv 2 (by omega), fun _ => ?_⟩
  by_cases m2 : ub (σ 51 0 2) = 79
  rotate_left
  · exact br_v (fun z => m2 ((hb 2 79 (by omega)).mp z)) (h0 (fun z => m2 (magic.mp z.2.1).2.2.1))
  refine br_u ((hb 2 79 (by omega)).mpr m2) ⟨vv 3 (by omega), fun _ => ?_⟩
  by_cases m3 : ub (σ 51 0 3) = 82
  rotate_left
  · exact br_v (fun z => m3 ((hb 3 82 (by omega)).mp z)) (h0 (fun z => m3 (magic.mp z.2.1).2.2.2))
  refine br_u ((hb 3 82 (by omega)).mpr m3) ⟨vv 6 (by omega), fun _ => ?_⟩
  by_cases m6 : ub (σ 51 0 6) = 0
  rotate_left
  · exact br_v (fun z => m6 ((hb 6 0 (by omega)).mp z)) (h0 (fun z => m6 (zero.mp z.2.2.1).1))
  refine br_u ((hb 6 0 (by omega)).mpr m6) ⟨vv 7 (by omega), fun _ => ?_⟩
  by_cases m7 : ub (σ 51 0 7) = 0
  rotate_left
  · exact br_f (fun z => m7 ((hb 7 0 (by omega)).mp z)) (h0 (fun z => m7 (zero.mp z.2.2.1).2))
  refine br_t ((hb 7 0 (by omega)).mpr m7) ⟨vv 4 (by omega), fun _ => ⟨vv 5 (by omega), fun _ => ?_⟩⟩
  have e4 : ((σ 51 0 (4 : Int32).toNatClampNeg &&& 255) <<< ((8 : Int32) &&& 31)) ||| (σ 51 0 (5 : Int32).toNatClampNeg &&& 255) = nI (twoN (σ 51 0) 4) := by
    rw [sh8]
    exact two_n (σ 51 0) 4
  rw [e4]
  by_cases c4 : 64 < twoN (σ 51 0) 4
  · exact br_t (nI_lt (a := 64) c4 (by omega)) (h0 (fun z => by have := z.2.2.2.1; omega))
  refine br_f (nI_nlt (a := 64) (by omega) (by omega)) ?_
  have e12 : (12 : Int32) + 64 * nI (twoN (σ 51 0) 4) = nI (12 + 64 * twoN (σ 51 0) 4) := by
    show nI 12 + nI 64 * nI _ = _
    rw [pk_mul, nI_add]
  rw [e12, e64]
  by_cases c5 : n < 12 + 64 * twoN (σ 51 0) 4
  · exact br_t (nI_lt c5 (by omega)) (h0 (fun z => by have := z.2.2.2.2.1; omega))
  refine br_f (nI_nlt (by omega) (by omega)) ?_
  have hck := s14_check (σ := σ) (a := 0) (n := 8 + 64 * twoN (σ 51 0) 4) (by omega) (Q := fun r1 => w14_imageWord σ (nI (8 + 64 * twoN (σ 51 0) 4)) (fun r2 => ((r1 = r2.toInt32 → (∃ z17, w14_files_L151 σ (nI (twoN (σ 51 0) 4)) Q (Q (-1)) (Q (-1)) (Q (-1)) (Q (-1)) (Q (-1)) (Q (nI (twoN (σ 51 0) 4))) z17 0)) ∧ (¬ r1 = r2.toInt32 → (Q (-1)))))) (by
    refine s14_imageWord (by omega) ?_
    rw [lN_i, ← four_n]
    by_cases c6 : crc (σ 51 0) 0 (8 + 64 * twoN (σ 51 0) 4) = four (σ 51 0) (8 + 64 * twoN (σ 51 0) 4)
    rotate_left
    · exact br_f c6 (h0 (fun z => c6 z.2.2.2.2.2.1))
    refine br_t c6 ⟨twoN (σ 51 0) 4 + 1, s14_files_L151 hf hn hn2 (by omega) (by omega) _ 0 (by omega) (fun h => h1 ⟨by omega, magic.mpr ⟨m0, m1, m2, m3⟩, zero.mpr ⟨m6, m7⟩, by omega, by omega, c6, fun e he => h e (by omega) he⟩) (fun h => ?_)⟩
    have hb := h0 (fun z => h (fun e _ he => z.2.2.2.2.2.2 e he))
    exact ⟨hb, hb, hb, hb, hb⟩)
  rw [Nat.zero_add] at hck
  exact hck
end FILES
