/-! the hops: learning an address, and what waits for it -/
set_option maxRecDepth 100000
theorem lb_or (x y : Int32) (i : Nat) : (x ||| y).toBitVec.getLsbD i = (x.toBitVec.getLsbD i || y.toBitVec.getLsbD i) := by
  rw [Int32.toBitVec_or, BitVec.getLsbD_or]
theorem lb_255 (x : Int32) (i : Nat) : (x &&& 255).toBitVec.getLsbD i = (x.toBitVec.getLsbD i && decide (i < 8)) := by
  rw [Int32.toBitVec_and, BitVec.getLsbD_and]
  congr 1
  by_cases h : i < 8
  · rw [decide_eq_true h]
    rcases (show i = 0 ∨ i = 1 ∨ i = 2 ∨ i = 3 ∨ i = 4 ∨ i = 5 ∨ i = 6 ∨ i = 7 by omega) with rfl | rfl | rfl | rfl | rfl | rfl | rfl | rfl <;> rfl
  · rw [decide_eq_false h]
    show Nat.testBit 255 i = false
    exact Nat.testBit_lt_two_pow (show 255 < 2 ^ i from Nat.lt_of_lt_of_le (show 255 < 2 ^ 8 by decide) (Nat.pow_le_pow_right (by decide) (by omega)))
theorem lb_shl (x s : Int32) (k : Nat) (hs : (s.toBitVec.smod 32).toNat = k) {i : Nat} (hi : i < 32) : (x <<< s).toBitVec.getLsbD i = (decide (k ≤ i) && x.toBitVec.getLsbD (i - k)) := by
  rw [Int32.toBitVec_shiftLeft, BitVec.shiftLeft_eq', hs, BitVec.getLsbD_shiftLeft]
  by_cases h : k ≤ i
  · simp [h, hi, show ¬ i < k by omega]
  · simp [h, show i < k by omega]
theorem two_lo (f : Nat → Int32) (a : Nat) : b8 (two f a) = b8 (f (a + 1)) := b8_ext fun i hi => by
  unfold two
  rw [lb_or, lb_shl _ 8 8 (by decide) (by omega), lb_255, lb_255]
  simp [hi, show ¬ 8 ≤ i by omega]
theorem two_hi (f : Nat → Int32) (a : Nat) : b8 (two f a >>> 8) = b8 (f a) := b8_ext fun i hi => by
  rw [lb_sshr _ 8 8 (by decide) (by omega) (by omega)]
  unfold two
  rw [lb_or, lb_shl _ 8 8 (by decide) (by omega), lb_255, lb_255]
  simp [hi, show ¬ 8 + i < 8 by omega]
theorem four_lo (f : Nat → Int32) (a : Nat) : ∀ i, i < 16 → (four f a).toBitVec.getLsbD i = (two f (a + 2)).toBitVec.getLsbD i := by
  intro i hi
  unfold four
  rw [lb_or, lb_shl _ 16 16 (by decide) (by omega)]
  simp [show ¬ 16 ≤ i by omega]
theorem two_up (f : Nat → Int32) (a i : Nat) (h : 16 ≤ i) (h2 : i < 32) : (two f a).toBitVec.getLsbD i = false := by
  unfold two
  rw [lb_or, lb_shl _ 8 8 (by decide) (by omega), lb_255, lb_255]
  simp [show ¬ i < 8 by omega, show ¬ i - 8 < 8 by omega]
theorem four_hi (f : Nat → Int32) (a : Nat) : ∀ i, i < 16 → (four f a).toBitVec.getLsbD (16 + i) = (two f a).toBitVec.getLsbD i := by
  intro i hi
  unfold four
  rw [lb_or, lb_shl _ 16 16 (by decide) (by omega), two_up f (a + 2) (16 + i) (by omega) (by omega)]
  simp
/-- an address as it is read is the address that is put -/
theorem mac_two {f : Nat → Int32} (hf : ∀ j, by8 (f j)) (a : Nat) : ∀ j, j < 6 → f (a + j) = macb (two f a) (four f (a + 2)) j := by
  have e0 : b8 (two f a >>> 8) = f a := (two_hi f a).trans (hf a)
  have e1 : b8 (two f a) = f (a + 1) := (two_lo f a).trans (hf _)
  have e2 : b8 (four f (a + 2) >>> 16 >>> 8) = f (a + 2) := by
    rw [b8_24', ← b8_by (hf (a + 2)), ← two_hi f (a + 2)]
    refine b8_ext fun i hi => ?_
    rw [lb_sshr _ 24 24 (by decide) (by omega) (by omega), lb_sshr _ 8 8 (by decide) (by omega) (by omega), show 24 + i = 16 + (8 + i) by omega, four_hi _ _ _ (by omega)]
  have e3 : b8 (four f (a + 2) >>> 16) = f (a + 3) := by
    rw [← b8_by (hf (a + 3)), ← two_lo f (a + 2)]
    refine b8_ext fun i hi => ?_
    rw [lb_sshr _ 16 16 (by decide) (by omega) (by omega), four_hi _ _ _ (by omega)]
  have e4 : b8 (four f (a + 2) >>> 8) = f (a + 4) := by
    rw [← b8_by (hf (a + 4)), ← two_hi f (a + 4)]
    refine b8_ext fun i hi => ?_
    rw [lb_sshr _ 8 8 (by decide) (by omega) (by omega), lb_sshr _ 8 8 (by decide) (by omega) (by omega), four_lo _ _ _ (by omega)]
  have e5 : b8 (four f (a + 2)) = f (a + 5) := by
    rw [← b8_by (hf (a + 5)), ← two_lo f (a + 4)]
    refine b8_ext fun i hi => ?_
    rw [four_lo _ _ _ (by omega)]
  intro j hj
  unfold macb put4 put2
  rcases (show j = 0 ∨ j = 1 ∨ j = 2 ∨ j = 3 ∨ j = 4 ∨ j = 5 by omega) with rfl | rfl | rfl | rfl | rfl | rfl <;> simp [vu_g, e0, e1, e2, e3, e4, e5]
/-- a row without its k-th -/
def rm (h : Nat → Nat) (k w j : Nat) : Nat := if k ≤ j ∧ j + 1 < w then h (j + 1) else if j + 1 = w then h k else h j
theorem s3_remove_L {o2 k w : Nat} {h0 : Nat → Nat} {Q K : St → Prop} (hw8 : w ≤ 8) (hh : ∀ i, i < 8 → h0 i < 8) (σ0 : St) (hK : ∀ σ', Fr (mF [31] [] [] []) σ0 σ' → (∀ i, i < 8 → hrw σ' i = if k ≤ i ∧ i + 1 < w then h0 (i + 1) else h0 i) → K σ') : ∀ (m x : Nat) (σ : St), x + m + 1 = w → k ≤ x → (σ 3 0 9) = nI w → Fr (mF [31] [] [] []) σ0 σ → (∀ i, i < 8 → hrw σ i = if k ≤ i ∧ i < x then h0 (i + 1) else h0 i) → w3_remove_L9 o2 Q K (m + 1) σ (nI x) := by
  intro m
  induction m with
  | zero =>
    intro x σ hx hk hw f hi
    refine br_t (by rw [hw, nI_1]; exact nI_le (by omega) (by omega)) (hK σ f (fun i h => ?_))
    rw [hi i h]
    by_cases c : k ≤ i ∧ i < x
    · rw [if_pos c, if_pos (by omega)]
    · rw [if_neg c, if_neg (by omega)]
  | succ m ih =>
    intro x σ hx hk hw f hi
    have hv : (σ 31 0 (x + 1)).toNatClampNeg = h0 (x + 1) := by
      have := hi (x + 1) (by omega)
      rw [if_neg (by omega)] at this
      exact this
    refine br_f (by rw [hw, nI_1]; exact nI_ge (by omega) (by omega)) ?_
    rw [nI_1, cl (by omega), cl (by omega), hv]
    refine ⟨vin (by omega) (by omega), hh _ (by omega), vin (by omega) (by omega), fun s3 e3 => ?_⟩
    have hh1 := hh (x + 1) (by omega)
    refine ih (x + 1) s3 (by omega) (by omega) (by rw [e3, up3_g, if_neg (by omega)]; exact hw) (by rw [e3]; exact f.up rfl) (fun i h => ?_)
    unfold hrw
    rw [e3, up3_g]
    by_cases c : i = x
    · rw [if_pos ⟨rfl, rfl, c⟩, if_pos (by omega), cl (by omega), c]
    · rw [if_neg (fun z => c z.2.2)]
      show hrw σ i = _
      rw [hi i h]
      by_cases c2 : k ≤ i ∧ i < x
      · rw [if_pos c2, if_pos (by omega)]
      · rw [if_neg c2, if_neg (by omega)]
theorem s3_remove {σ : St} {k w : Nat} {Q : St → Prop} (hw8 : w ≤ 8) (hk : k < w) (hw : (σ 3 0 9) = nI w) (hP : RPm σ) (hq : ∀ σ', Fr (mF [31] [] [(3, [9])] []) σ σ' → (σ' 3 0 9) = nI (w - 1) → (∀ i, i < 8 → hrw σ' i = rm (hrw σ) k w i) → Q σ') : w3_remove σ (nI k) Q := by
  unfold w3_remove
  rw [cl (by omega)]
  refine ⟨vin (by omega) (by omega), hP.1 k (by omega), (w - 1 - k) + 1, s3_remove_L (k := k) (w := w) (h0 := hrw σ) hw8 hP.1 σ (fun s5 f5 h5 => ?_) (w - 1 - k) k σ (by omega) (Nat.le_refl _) hw Fr.rf (fun i _ => by rw [if_neg (by omega)])⟩
  intro s6 e6
  have w5 : s5 3 0 9 - 1 = nI (w - 1) := by
    rw [f5 3 0 9 rfl, hw]
    exact pk_sub (a := w) (b := 1) (by omega)
  rw [w5] at e6
  have w6 : s6 3 0 9 = nI (w - 1) := by rw [e6, up3_g, if_pos ⟨rfl, rfl, rfl⟩]
  rw [w6, cl (by omega)]
  refine ⟨vin (by omega) (by omega), fun s7 e7 => ?_⟩
  refine hq s7 ?_ (by rw [e7, up3_g, if_neg (by omega)]; exact w6) (fun i hi => ?_)
  · rw [e7, e6]
    exact ((f5.sub (mF_sub rfl sub_nil rfl sud_nil)).up rfl).up rfl
  · show (s7 31 0 i).toNatClampNeg = _
    rw [e7, up3_g]
    by_cases c : i = w - 1
    · rw [if_pos ⟨rfl, rfl, c⟩]
      have := hP.1 k (by omega)
      have e : (nI (σ 31 0 k).toNatClampNeg).toNatClampNeg = hrw σ k := cl (by unfold hrw at this; omega)
      rw [e]
      unfold rm
      rw [if_neg (by omega), if_pos (by omega)]
    · rw [if_neg (fun z => c z.2.2), e6, up3_g, if_neg (by omega)]
      show hrw s5 i = _
      rw [h5 i hi]
      unfold rm
      by_cases c2 : k ≤ i ∧ i + 1 < w
      · rw [if_pos c2, if_pos c2]
      · rw [if_neg c2, if_neg c2, if_neg (by omega)]
theorem RPm_rm {σ σ' : St} {k w : Nat} (hP : RPm σ) (hw8 : w ≤ 8) (hk : k < w) (h : ∀ i, i < 8 → hrw σ' i = rm (hrw σ) k w i) : RPm σ' := by
  have hp : ∀ i, i < 8 → ∃ i', i' < 8 ∧ rm (hrw σ) k w i = hrw σ i' ∧ (if k ≤ i ∧ i + 1 < w then i' = i + 1 else if i + 1 = w then i' = k else i' = i) := by
    intro i hi
    unfold rm
    by_cases c : k ≤ i ∧ i + 1 < w
    · exact ⟨i + 1, by omega, by rw [if_pos c], by rw [if_pos c]⟩
    · by_cases c2 : i + 1 = w
      · exact ⟨k, by omega, by rw [if_neg c, if_pos c2], by rw [if_neg c, if_pos c2]⟩
      · exact ⟨i, by omega, by rw [if_neg c, if_neg c2], by rw [if_neg c, if_neg c2]⟩
  refine ⟨fun i hi => ?_, fun i i' hi hi' e => ?_⟩
  · obtain ⟨a, a1, a2, _⟩ := hp i hi
    rw [h i hi, a2]
    exact hP.1 a a1
  · obtain ⟨a, a1, a2, a3⟩ := hp i hi
    obtain ⟨b, b1, b2, b3⟩ := hp i' hi'
    rw [h i hi, h i' hi', a2, b2] at e
    have := hP.2 a b a1 b1 e
    split at a3 <;> split at b3 <;> (try split at a3) <;> (try split at b3) <;> omega
/-- the k-th waits no more -/
theorem RW_del {σ τ σ' τ' : St} {t o w k : Nat} {q r : Nat → Nat} (h : RWx σ τ t o w q r) (hk : k < w) (hh : ∀ i, i < 8 → hrw σ' i = rm (hrw σ) k w i) (h9 : (σ' 3 0 9) = nI (w - 1)) (h25 : (τ' 14 0 25) = (τ 14 0 25)) (h4 : σ' 4 = σ 4) (h35 : σ' 35 = σ 35) (hm : ∀ j, j ≠ q k → τ' 17 j = τ 17 j) (h68 : τ' 68 = τ 68) (hu : (τ' 17 (q k) 0) = 0) : RW σ' τ' t o := by
  have hx := h
  obtain ⟨h1, h2, h3, hc, h5, h6, h7, h8⟩ := h
  have sh : ∀ i, i < w - 1 → ∃ i', i' < w ∧ i' ≠ k ∧ hrw σ' i = hrw σ i' ∧ i' = if i < k then i else i + 1 := by
    intro i hi
    refine ⟨if i < k then i else i + 1, ?_, ?_, ?_, rfl⟩
    · split <;> omega
    · split <;> omega
    · rw [hh i (by omega)]
      unfold rm
      by_cases c : i < k
      · rw [if_pos c, if_neg (by omega), if_neg (by omega)]
      · rw [if_neg c, if_pos (by omega)]
  refine ⟨w - 1, by omega, h9, h25.trans h3, ?_, fun i => q (if i < k then i else i + 1), fun i => r (if i < k then i else i + 1), fun i hi => ?_, fun a b hab hb => ?_, fun j hj hj2 => ?_, fun a b ha hb hab => ?_⟩
  · have := cnt_up (f := fun j => (τ' 17 j 0)) (g := fun j => (τ 17 j 0)) (n := 8) (k := q k) (h5 k hk).1 hu (by rw [(h5 k hk).2.1]; decide) (fun j _ e => by rw [hm j e])
    omega
  · obtain ⟨i', a1, a2, a3, a4⟩ := sh i hi
    obtain ⟨b1, b2, b3, b4, b5⟩ := h5 i' a1
    have e : q i' ≠ q k := fun z => a2 (hx.qi a1 hk z)
    dsimp only
    rw [← a4, hm _ e, a3]
    exact ⟨b1, b2, b3, b4, b5.c (by rw [h4]) (by rw [h35]) (hm _ e) (by rw [h68])⟩
  · obtain ⟨a', a1, a2, _, a4⟩ := sh a (by omega)
    obtain ⟨b', b1, b2, _, b4⟩ := sh b (by omega)
    show r (if a < k then a else a + 1) < r (if b < k then b else b + 1)
    rw [← a4, ← b4]
    refine h6 a' b' ?_ b1
    rw [a4, b4]
    split <;> split <;> omega
  · have e : j ≠ q k := fun z => hj2 (by rw [z]; exact hu)
    rw [hm j e] at hj2
    obtain ⟨i, hi, hq⟩ := h7 j hj hj2
    have hik : i ≠ k := fun z => e (by rw [← hq, z])
    refine ⟨if i < k then i else i - 1, by split <;> omega, ?_⟩
    rw [← hq]
    dsimp only
    by_cases c : i < k
    · rw [if_pos c, if_pos c]
    · rw [if_neg c, if_neg (by omega)]
      congr 1
      omega
  · obtain ⟨a', a1, a2, _, a4⟩ := sh a ha
    obtain ⟨b', b1, b2, _, b4⟩ := sh b hb
    show τ' 17 (q (if a < k then a else a + 1)) _ ≠ τ' 17 (q (if b < k then b else b + 1)) _
    rw [← a4, ← b4, hm _ (fun z => a2 (hx.qi a1 hk z)), hm _ (fun z => b2 (hx.qi b1 hk z))]
    refine h8 a' b' a1 b1 ?_
    rw [a4, b4]
    split <;> split <;> omega
