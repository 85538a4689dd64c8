/-! the store: names, entries, a right image -/
set_option maxRecDepth 100000
def nlen (f : Nat → Int32) (a : Nat) : Nat := scan (fun j => decide (ub (f (a + j)) ≠ 0)) 48 0
theorem nlen_le (f : Nat → Int32) (a : Nat) : nlen f a ≤ 48 := (scan_le _ 48 0).2
theorem nlen_in {f : Nat → Int32} {a j : Nat} (h : j < nlen f a) : ub (f (a + j)) ≠ 0 := by
  have := scan_all _ 48 0 j (Nat.zero_le _) h
  simpa using this
theorem nlen_at {f : Nat → Int32} {a : Nat} (h : nlen f a < 48) : ub (f (a + nlen f a)) = 0 := by
  have := scan_stop (fun j => decide (ub (f (a + j)) ≠ 0)) 48 0 (by rw [Nat.zero_add]; exact h)
  exact Decidable.not_not.mp (of_decide_eq_false this)
theorem nlen_eq {f : Nat → Int32} {a l : Nat} (h1 : l ≤ 48) (h2 : ∀ j, j < l → ub (f (a + j)) ≠ 0) (h3 : l < 48 → ub (f (a + l)) = 0) : nlen f a = l :=
  scan_eq _ (Nat.zero_le _) (by omega) (fun i _ hi => by simpa using h2 i hi) (fun h => by simpa using h3 (by omega))
section STORE
variable {σ : St} {k : Nat}
/-- the row that is looked at -/
def rowIs (σ : St) (k : Nat) : Prop := ((σ 1 0 3)).toNatClampNeg = k ∧ (σ 1 0 103).toNatClampNeg = 0 ∧ abc k 0 = true
theorem e64 (e : Nat) : (8 : Int32) + 64 * nI e = nI (8 + 64 * e) := by
  show nI 8 + nI 64 * nI e = _
  rw [pk_mul, nI_add]
theorem ub_eq0 {x : Int32} : x &&& 255 = 0 ↔ ub x = 0 := by
  rw [ub_and]
  exact nI_eq (b := 0) (by have := ub_lt x; omega) (by decide)
theorem s1_look {a : Nat} {Q : Int32 → Prop} (hr : rowIs σ k) (ha : a < alen σ k 0) (hb : a < 2147483648) (hq : Q (nI (ub (σ k 0 a)))) : w1_look σ (nI a) Q := by
  obtain ⟨r1, r2, r3⟩ := hr
  unfold w1_look
  rw [r1, r2]
  refine ⟨r3, vin ha hb, fun _ => ?_⟩
  rw [cl hb, ub_and]
  exact hq
theorem s1_nameLength_L {e : Nat} {Q K : Int32 → Prop} (hr : rowIs σ k) (he : e < 1000) (hl : 8 + 64 * e + 48 ≤ alen σ k 0) : ∀ (m j : Nat), j + m = 48 → K (nI (scan (fun j => decide (ub (σ k 0 (8 + 64 * e + j)) ≠ 0)) m j)) → w1_nameLength_L2 σ (nI e) Q K (m + 1) (nI j) := by
  intro m
  induction m with
  | zero => intro j hj hK; exact br_t (nI_le (a := 48) (by omega) (by omega)) hK
  | succ m ih =>
    intro j hj hK
    refine br_f (nI_ge (b := 48) (by omega) (by decide)) ?_
    unfold w1_entry
    show w1_look σ (8 + 64 * nI e + nI j) _
    rw [e64, nI_add]
    refine s1_look hr (by omega) (by omega) ?_
    have hu := ub_lt (σ k 0 (8 + 64 * e + j))
    by_cases hc : ub (σ k 0 (8 + 64 * e + j)) = 0
    · rw [scan_f _ (by simpa using hc)] at hK
      exact br_t (by rw [hc]; rfl) hK
    · rw [scan_t _ (by simpa using hc)] at hK
      refine br_f (nI_ne0 (by omega) (by omega)) ?_
      rw [nI_1]
      exact ih (j + 1) (by omega) hK
theorem s1_nameLength {e : Nat} {Q : Int32 → Prop} (hr : rowIs σ k) (he : e < 1000) (hl : 8 + 64 * e + 48 ≤ alen σ k 0) (hq : Q (nI (nlen (σ k 0) (8 + 64 * e)))) : w1_nameLength σ (nI e) Q :=
  ⟨49, s1_nameLength_L hr he hl 48 0 rfl hq⟩
theorem s1_place {e : Nat} {Q : Int32 → Prop} (hr : rowIs σ k) (he : e < 1000) (hl : 8 + 64 * e + 64 ≤ alen σ k 0) (hq : Q (four (σ k 0) (8 + 64 * e + 48))) : w1_place σ (nI e) Q := by
  obtain ⟨r1, r2, r3⟩ := hr
  unfold w1_place
  rw [r1, r2]
  refine ⟨r3, ?_⟩
  show w19_four σ k 0 (8 + 64 * nI e + nI 48) _
  rw [e64, nI_add]
  exact s19_four (by omega) (by omega) hq
theorem s1_length {e : Nat} {Q : Int32 → Prop} (hr : rowIs σ k) (he : e < 1000) (hl : 8 + 64 * e + 64 ≤ alen σ k 0) (hq : Q (four (σ k 0) (8 + 64 * e + 52))) : w1_length σ (nI e) Q := by
  obtain ⟨r1, r2, r3⟩ := hr
  unfold w1_length
  rw [r1, r2]
  refine ⟨r3, ?_⟩
  show w19_four σ k 0 (8 + 64 * nI e + nI 48 + nI 4) _
  rw [e64, nI_add, nI_add]
  exact s19_four (by omega) (by omega) hq
theorem s1_mark {e : Nat} {Q : Int32 → Prop} (hr : rowIs σ k) (he : e < 1000) (hl : 8 + 64 * e + 64 ≤ alen σ k 0) (hq : Q (four (σ k 0) (8 + 64 * e + 56))) : w1_mark σ (nI e) Q := by
  obtain ⟨r1, r2, r3⟩ := hr
  unfold w1_mark
  rw [r1, r2]
  refine ⟨r3, ?_⟩
  show w19_four σ k 0 (8 + 64 * nI e + nI 48 + nI 8) _
  rw [e64, nI_add, nI_add]
  exact s19_four (by omega) (by omega) hq
/-- a name of n bytes at b in a row g is that of an entry -/
def named (f : Nat → Int32) (e : Nat) (g : Nat → Int32) (b n : Nat) : Prop := nlen f (8 + 64 * e) = n ∧ ∀ j, j < n → f (8 + 64 * e + j) = g (b + j)
theorem s1_isNamed_L {e b n k2 i2 : Nat} {Q : Int32 → Prop} {K44 K52 : Prop} (hr : rowIs σ k) (he : e < 1000) (hl : 8 + 64 * e + n ≤ alen σ k 0) (hl2 : b + n ≤ alen σ k2 i2) (hb : b < 536870912) (hn : n < 1000) : ∀ (m j : Nat), j + m = n → ((∀ i, j ≤ i → i < n → σ k 0 (8 + 64 * e + i) = σ k2 i2 (b + i)) → K52) → ((¬ ∀ i, j ≤ i → i < n → σ k 0 (8 + 64 * e + i) = σ k2 i2 (b + i)) → K44) →
    w1_isNamed_L15 σ (nI e) k2 i2 (nI b) (nI n) Q K44 K52 (m + 1) (nI j) := by
  obtain ⟨r1, r2, r3⟩ := hr
  intro m
  induction m with
  | zero => intro j hj h1 h2; exact br_t (nI_le (by omega) (by omega)) (h1 (fun i hi hi2 => by omega))
  | succ m ih =>
    intro j hj h1 h2
    refine br_f (nI_ge (by omega) (by omega)) ?_
    rw [r1, r2]
    refine ⟨r3, ?_⟩
    show vp_in (8 + 64 * nI e + nI j) _ ∧ (by8 (σ k 0 (8 + 64 * nI e + nI j).toNatClampNeg) → _)
    rw [e64, nI_add, nI_add]
    refine ⟨vin (by omega) (by omega), fun _ => ⟨vin (by omega) (by omega), fun _ => ?_⟩⟩
    rw [cl (by omega), cl (by omega)]
    by_cases hc : σ k 0 (8 + 64 * e + j) = σ k2 i2 (b + j)
    · refine br_t hc ?_
      rw [nI_1]
      refine ih (j + 1) (by omega) (fun h => h1 (fun i hi hi2 => ?_)) (fun h => h2 (fun z => h (fun i hi hi2 => z i (by omega) hi2)))
      by_cases e9 : i = j
      · rw [e9]; exact hc
      · exact h i (by omega) hi2
    · exact br_f hc (h2 (fun z => hc (z j (by omega) (by omega))))
theorem s1_isNamed {e b n k2 i2 : Nat} {Q : Int32 → Prop} (hr : rowIs σ k) (he : e < 1000) (hl : 8 + 64 * e + 48 ≤ alen σ k 0) (hl2 : b + n ≤ alen σ k2 i2) (hb : b < 536870912) (hn : n ≤ 48) (h1 : named (σ k 0) e (σ k2 i2) b n → Q 1) (h0 : ¬ named (σ k 0) e (σ k2 i2) b n → Q 0) : w1_isNamed σ (nI e) k2 i2 (nI b) (nI n) Q := by
  have hq := nlen_le (σ k 0) (8 + 64 * e)
  refine s1_nameLength hr he hl ?_
  by_cases hc : nlen (σ k 0) (8 + 64 * e) = n
  · refine br_t (by rw [hc]) ⟨n + 1, s1_isNamed_L hr he (by omega) hl2 hb (by omega) n 0 (by omega) (fun h => h1 ⟨hc, fun j hj => h j (by omega) hj⟩) (fun h => h0 (fun z => h (fun j _ hj => z.2 j hj)))⟩
  · exact br_f (fun z => hc ((nI_eq (by omega) (by omega)).mp z)) (h0 (fun z => hc z.1))
/-- the entry e of an image of n bytes is right, as far as it does not look at others -/
def rig0 (f : Nat → Int32) (n e : Nat) : Prop := nlen f (8 + 64 * e) ≠ 0 ∧ nlen f (8 + 64 * e) ≠ 48 ∧ ub (f (8 + 64 * e)) = 47 ∧ (∀ j, j < nlen f (8 + 64 * e) → 33 ≤ ub (f (8 + 64 * e + j)) ∧ ub (f (8 + 64 * e + j)) ≤ 126) ∧ (∀ j, nlen f (8 + 64 * e) ≤ j → j < 48 → ub (f (8 + 64 * e + j)) = 0) ∧ fourN f (8 + 64 * e + 48) + fourN f (8 + 64 * e + 52) ≤ n ∧ fourN f (8 + 64 * e + 60) = 0
def right (f : Nat → Int32) (n e : Nat) : Prop := rig0 f n e ∧ ∀ g, g < e → ¬ ∀ j, j < 48 → f (8 + 64 * e + j) = f (8 + 64 * g + j)
theorem s1_isRight_L34 {e l : Nat} {Q : Int32 → Prop} {K71 K79 : Prop} (hr : rowIs σ k) (he : e < 1000) (hl : 8 + 64 * e + 48 ≤ alen σ k 0) (hl2 : l ≤ 48) : ∀ (m j : Nat), j + m = l → ((∀ i, j ≤ i → i < l → 33 ≤ ub (σ k 0 (8 + 64 * e + i)) ∧ ub (σ k 0 (8 + 64 * e + i)) ≤ 126) → K79) → ((¬ ∀ i, j ≤ i → i < l → 33 ≤ ub (σ k 0 (8 + 64 * e + i)) ∧ ub (σ k 0 (8 + 64 * e + i)) ≤ 126) → K71) →
    w1_isRight_L34 σ (nI e) (nI l) Q K71 K79 (m + 1) (nI j) := by
  intro m
  induction m with
  | zero => intro j hj h1 h2; exact br_t (nI_le (by omega) (by omega)) (h1 (fun i hi hi2 => by omega))
  | succ m ih =>
    intro j hj h1 h2
    refine br_f (nI_ge (by omega) (by omega)) ?_
    unfold w1_entry
    show w1_look σ (8 + 64 * nI e + nI j) _
    have hu := ub_lt (σ k 0 (8 + 64 * e + j))
    rw [e64, nI_add]
    refine s1_look hr (by omega) (by omega) ?_
    by_cases c1 : ub (σ k 0 (8 + 64 * e + j)) < 33
    · exact br_t (nI_lt (b := 33) c1 (by decide)) (h2 (fun z => by have := z j (by omega) (by omega); omega))
    · refine br_f (nI_nlt (b := 33) (by omega) (by omega)) ?_
      show w1_look σ (nI (8 + 64 * e) + nI j) _
      rw [nI_add]
      refine s1_look hr (by omega) (by omega) ?_
      by_cases c2 : ub (σ k 0 (8 + 64 * e + j)) ≤ 126
      · refine br_t (nI_le (b := 126) c2 (by decide)) ?_
        rw [nI_1]
        refine ih (j + 1) (by omega) (fun h => h1 (fun i hi hi2 => ?_)) (fun h => h2 (fun z => h (fun i hi hi2 => z i (by omega) hi2)))
        by_cases e9 : i = j
        · rw [e9]; omega
        · exact h i (by omega) hi2
      · exact br_f (nI_ge (a := 126) (by omega) (by omega)) (h2 (fun z => c2 (z j (by omega) (by omega)).2))
theorem s1_isRight_L81 {e : Nat} {x2 : Int32} {Q : Int32 → Prop} {K101 K109 : Prop} (hr : rowIs σ k) (he : e < 1000) (hl : 8 + 64 * e + 48 ≤ alen σ k 0) : ∀ (m j : Nat), j + m = 48 → ((∀ i, j ≤ i → i < 48 → ub (σ k 0 (8 + 64 * e + i)) = 0) → K109) → ((¬ ∀ i, j ≤ i → i < 48 → ub (σ k 0 (8 + 64 * e + i)) = 0) → K101) →
    w1_isRight_L81 σ (nI e) x2 Q K101 K109 (m + 1) (nI j) := by
  intro m
  induction m with
  | zero => intro j hj h1 h2; exact br_t (nI_le (a := 48) (by omega) (by omega)) (h1 (fun i hi hi2 => by omega))
  | succ m ih =>
    intro j hj h1 h2
    refine br_f (nI_ge (b := 48) (by omega) (by decide)) ?_
    unfold w1_entry
    show w1_look σ (8 + 64 * nI e + nI j) _
    have hu := ub_lt (σ k 0 (8 + 64 * e + j))
    rw [e64, nI_add]
    refine s1_look hr (by omega) (by omega) ?_
    by_cases c1 : ub (σ k 0 (8 + 64 * e + j)) = 0
    · refine br_t (by rw [c1]; rfl) ?_
      rw [nI_1]
      refine ih (j + 1) (by omega) (fun h => h1 (fun i hi hi2 => ?_)) (fun h => h2 (fun z => h (fun i hi hi2 => z i (by omega) hi2)))
      by_cases e9 : i = j
      · rw [e9]; exact c1
      · exact h i (by omega) hi2
    · exact br_f (nI_ne0 (by omega) (by omega)) (h2 (fun z => c1 (z j (by omega) (by omega))))
theorem s1_isRight_L178 {e l : Nat} {Q : Int32 → Prop} {K203 K211 : Prop} (hr : rowIs σ k) (he : e < 1000) (hl : 8 + 64 * e + 48 ≤ alen σ k 0) (hl2 : l ≤ 48) : ∀ (m j : Nat), j + m = e → ((∀ g, j ≤ g → g < e → ¬ named (σ k 0) g (σ k 0) (8 + 64 * e) l) → K211) → ((¬ ∀ g, j ≤ g → g < e → ¬ named (σ k 0) g (σ k 0) (8 + 64 * e) l) → K203) →
    w1_isRight_L178 σ (nI e) (nI l) Q K203 K211 (m + 1) (nI j) := by
  have hr0 := hr
  obtain ⟨r1, r2, r3⟩ := hr
  intro m
  induction m with
  | zero => intro j hj h1 h2; exact br_t (nI_le (by omega) (by omega)) (h1 (fun i hi hi2 => by omega))
  | succ m ih =>
    intro j hj h1 h2
    refine br_f (nI_ge (by omega) (by omega)) ?_
    rw [r1, r2]
    refine ⟨r3, ?_⟩
    show w1_isNamed σ (nI j) k 0 (8 + 64 * nI e) (nI l) _
    rw [e64]
    refine s1_isNamed hr0 (by omega) (by omega) (by omega) (by omega) hl2 (fun h => ?_) (fun h => ?_)
    · exact br_f (by decide) (h2 (fun z => z j (by omega) (by omega) h))
    · refine br_t rfl ?_
      rw [nI_1]
      refine ih (j + 1) (by omega) (fun h3 => h1 (fun i hi hi2 => ?_)) (fun h3 => h2 (fun z => h3 (fun i hi hi2 => z i (by omega) hi2)))
      by_cases e9 : i = j
      · rw [e9]; exact h
      · exact h3 i (by omega) hi2
/-- two names of right entries are the same if all 48 bytes are -/
theorem named_iff {f : Nat → Int32} (hf : ∀ j, by8 (f j)) {n e g : Nat} (he : rig0 f n e) (hg : rig0 f n g) : named f g f (8 + 64 * e) (nlen f (8 + 64 * e)) ↔ ∀ j, j < 48 → f (8 + 64 * e + j) = f (8 + 64 * g + j) := by
  constructor
  · intro ⟨h1, h2⟩ j hj
    by_cases hc : j < nlen f (8 + 64 * e)
    · exact (h2 j hc).symm
    · have a1 := he.2.2.2.2.1 j (by omega) hj
      have a2 := hg.2.2.2.2.1 j (by omega) hj
      exact (by8_eq (hf _) (hf _)).mpr (by rw [a1, a2])
  · intro h
    have a := nlen_le f (8 + 64 * e)
    refine ⟨nlen_eq a (fun j hj => ?_) (fun hj => ?_), fun j hj => (h j (by omega)).symm⟩
    · rw [← h j (by omega)]; exact nlen_in hj
    · rw [← h _ hj]; exact nlen_at hj
theorem s1_isRight {e n : Nat} {Q : Int32 → Prop} (hf : ∀ j, by8 (σ k 0 j)) (hr : rowIs σ k) (he : e < 1000) (hl : 8 + 64 * e + 64 ≤ alen σ k 0) (hn : σ 90 0 0 = nI n) (hn2 : n ≤ 65535) (hp : ∀ g, g < e → rig0 (σ k 0) n g) (h1 : right (σ k 0) n e → Q 1) (h0 : ¬ right (σ k 0) n e → Q 0) : w1_isRight σ (nI e) Q := by
  have hq := nlen_le (σ k 0) (8 + 64 * e)
  have hr0 := hr
  refine s1_nameLength hr he (by omega) ?_
  by_cases c1 : nlen (σ k 0) (8 + 64 * e) = 0
  · exact br_t (by rw [c1]; rfl) (h0 (fun z => z.1.1 c1))
  refine br_f (nI_ne0 (by omega) (by omega)) ?_
  by_cases c2 : nlen (σ k 0) (8 + 64 * e) = 48
  · exact br_t (by rw [c2]; rfl) (h0 (fun z => z.1.2.1 c2))
  refine br_f (fun z => c2 ((nI_eq (b := 48) (by omega) (by decide)).mp z)) ?_
  unfold w1_entry
  show w1_look σ (8 + 64 * nI e) _
  rw [e64]
  refine s1_look hr (by omega) (by omega) ?_
  by_cases c3 : ub (σ k 0 (8 + 64 * e)) = 47
  rotate_left
  · exact br_f (fun z => c3 ((nI_eq (b := 47) (by have := ub_lt (σ k 0 (8 + 64 * e)); omega) (by decide)).mp z)) (h0 (fun z => c3 z.1.2.2.1))
  refine br_t (by rw [c3]; rfl) ⟨nlen (σ k 0) (8 + 64 * e) + 1, s1_isRight_L34 hr he (by omega) hq _ 0 (by omega) (fun c4 => ?_) (fun c4 => h0 (fun z => c4 (fun i _ hi => z.1.2.2.2.1 i hi)))⟩
  refine ⟨48 - nlen (σ k 0) (8 + 64 * e) + 1, s1_isRight_L81 hr he (by omega) _ _ (by omega) (fun c5 => ?_) (fun c5 => h0 (fun z => c5 (fun i hi hi2 => z.1.2.2.2.2.1 i hi hi2)))⟩
  refine s1_place hr he hl (s1_length hr he hl ?_)
  have f1 := fourN_lt (σ k 0) (8 + 64 * e + 48)
  have f2 := fourN_lt (σ k 0) (8 + 64 * e + 52)
  rw [four_n, four_n, hn, cl (by omega)]
  by_cases d1 : nI (fourN (σ k 0) (8 + 64 * e + 48)) < 0
  · exact br_t d1 (h0 (fun z => by have := (nI_neg f1).mp d1; have := z.1.2.2.2.2.2.1; omega))
  refine br_f d1 ?_
  by_cases d2 : nI (fourN (σ k 0) (8 + 64 * e + 52)) < 0
  · exact br_t d2 (h0 (fun z => by have := (nI_neg f2).mp d2; have := z.1.2.2.2.2.2.1; omega))
  refine br_f d2 ?_
  have g1 : fourN (σ k 0) (8 + 64 * e + 48) < 2147483648 := Nat.lt_of_not_le fun z => d1 ((nI_neg f1).mpr z)
  have g2 : fourN (σ k 0) (8 + 64 * e + 52) < 2147483648 := Nat.lt_of_not_le fun z => d2 ((nI_neg f2).mpr z)
  by_cases d3 : n < fourN (σ k 0) (8 + 64 * e + 48)
  · exact br_t (nI_lt d3 (by omega)) (h0 (fun z => by have := z.1.2.2.2.2.2.1; omega))
  refine br_f (nI_nlt (by omega) (by omega)) ?_
  rw [pk_sub (by omega)]
  by_cases d4 : n - fourN (σ k 0) (8 + 64 * e + 48) < fourN (σ k 0) (8 + 64 * e + 52)
  · exact br_t (nI_lt d4 (by omega)) (h0 (fun z => by have := z.1.2.2.2.2.2.1; omega))
  refine br_f (nI_nlt (by omega) (by omega)) ?_
  obtain ⟨r1, r2, r3⟩ := hr
  rw [r1, r2]
  refine ⟨r3, ?_⟩
  show w19_four σ k 0 (nI (8 + 64 * e) + nI 48 + nI 12) _
  rw [nI_add, nI_add]
  refine s19_four (by omega) (by omega) ?_
  have f3 := fourN_lt (σ k 0) (8 + 64 * e + 48 + 12)
  rw [four_n]
  by_cases d5 : fourN (σ k 0) (8 + 64 * e + 48 + 12) = 0
  rotate_left
  · exact br_f (fun z => d5 ((nI_inj (b := 0) f3 (by decide)).mp z)) (h0 (fun z => d5 z.1.2.2.2.2.2.2))
  refine br_t (by rw [d5]; rfl) ?_
  have hrig : rig0 (σ k 0) n e := ⟨c1, c2, c3, fun j hj => c4 j (by omega) hj, fun j hj hj2 => c5 j hj hj2, by omega, d5⟩
  refine ⟨e + 1, s1_isRight_L178 hr0 he (by omega) hq e 0 (by omega) (fun h => h1 ⟨hrig, fun g hg z => h g (by omega) hg ((named_iff hf hrig (hp g hg)).mpr z)⟩) (fun h => h0 (fun z => h (fun g _ hg y => z.2 g hg ((named_iff hf hrig (hp g hg)).mp y))))⟩
end STORE
