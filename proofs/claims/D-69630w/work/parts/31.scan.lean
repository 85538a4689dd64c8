/-! numbers of bytes; scanning -/
set_option maxRecDepth 100000
theorem by8_int {x : Int32} (h : by8 x) : x.toInt = if ub x < 128 then (ub x : Int) else (ub x : Int) - 256 := by
  have h1 : x.toInt8.toInt32.toInt = x.toInt := by rw [show x.toInt8.toInt32 = x from h]
  rw [Int8.toInt_toInt32, Int32.toInt_toInt8] at h1
  have h2 : x.toInt = x.toBitVec.toInt := rfl
  have h3 : (x.toBitVec.toInt : Int) = if 2 * x.toBitVec.toNat < 4294967296 then (x.toBitVec.toNat : Int) else (x.toBitVec.toNat : Int) - 4294967296 := BitVec.toInt_eq_toNat_cond _
  have h4 := x.toBitVec.isLt
  rw [h2] at h1 ⊢
  unfold ub
  unfold Int.bmod at h1
  dsimp only at h1
  split at h3 <;> split at h1 <;> split <;> omega
theorem by8_eq {x y : Int32} (hx : by8 x) (hy : by8 y) : x = y ↔ ub x = ub y := by
  refine ⟨fun h => by rw [h], fun h => Int32.toInt_inj.mp ?_⟩
  rw [by8_int hx, by8_int hy, h]
theorem ub_nI {c : Nat} (h : c < 256) : ub (nI c) = c := by
  unfold ub
  rw [pk_tn (by omega)]
  omega
theorem by8_c {x : Int32} (hx : by8 x) {c : Nat} (h : c < 128) : x = nI c ↔ ub x = c := by
  refine ⟨fun e => by rw [e, ub_nI (by omega)], fun e => Int32.toInt_inj.mp ?_⟩
  rw [by8_int hx, e, if_pos h, nI_toInt (by omega)]
def twoN (f : Nat → Int32) (a : Nat) : Nat := ub (f a) * 256 + ub (f (a + 1))
def fourN (f : Nat → Int32) (a : Nat) : Nat := twoN f a * 65536 + twoN f (a + 2)
theorem twoN_lt (f : Nat → Int32) (a : Nat) : twoN f a < 65536 := by
  have := ub_lt (f a)
  have := ub_lt (f (a + 1))
  unfold twoN
  omega
theorem fourN_lt (f : Nat → Int32) (a : Nat) : fourN f a < 4294967296 := by
  have := twoN_lt f a
  have := twoN_lt f (a + 2)
  unfold fourN
  omega
theorem nI_or {x y k : Nat} (hx : x < 2 ^ k) (h : y * 2 ^ k + x < 4294967296) : nI (y * 2 ^ k) ||| nI x = nI (y * 2 ^ k + x) := by
  apply Int32.toBitVec_inj.mp
  apply BitVec.eq_of_toNat_eq
  have h0 : y * 2 ^ k < 4294967296 := by omega
  have h1 : x < 4294967296 := by omega
  rw [Int32.toBitVec_or, BitVec.toNat_or, pk_tn (by omega), pk_tn (by omega), pk_tn (by omega)]
  rw [Nat.mul_comm]
  exact (Nat.two_pow_add_eq_or_of_lt hx y).symm
theorem two_n (f : Nat → Int32) (a : Nat) : two f a = nI (twoN f a) := by
  have h1 := ub_lt (f a)
  have h2 := ub_lt (f (a + 1))
  unfold two twoN
  rw [ub_and, ub_and, shl8 h1]
  exact nI_or (k := 8) h2 (by omega)
theorem four_n (f : Nat → Int32) (a : Nat) : four f a = nI (fourN f a) := by
  have h1 := twoN_lt f a
  have h2 := twoN_lt f (a + 2)
  unfold four fourN
  rw [two_n, two_n]
  have e : nI (twoN f a) <<< (16 : Int32) = nI (twoN f a * 2 ^ 16) := pk_shlN (n := twoN f a) 16 16 (by decide) (by omega)
  rw [e]
  exact nI_or (k := 16) h2 (by omega)
theorem twoN_ext {f g : Nat → Int32} {a b : Nat} (h : ∀ j, j < 2 → f (a + j) = g (b + j)) : twoN f a = twoN g b := by
  unfold twoN
  rw [h 1 (by omega), show f a = g b from h 0 (by omega)]
theorem fourN_ext {f g : Nat → Int32} {a b : Nat} (h : ∀ j, j < 4 → f (a + j) = g (b + j)) : fourN f a = fourN g b := by
  unfold fourN
  rw [twoN_ext (f := f) (g := g) (a := a) (b := b) (fun j hj => h j (by omega)), twoN_ext (f := f) (g := g) (a := a + 2) (b := b + 2) (fun j hj => by have := h (2 + j) (by omega); rwa [← Nat.add_assoc, ← Nat.add_assoc] at this)]
theorem four_ext {f g : Nat → Int32} {a b : Nat} (h : ∀ j, j < 4 → f (a + j) = g (b + j)) : four f a = four g b := by rw [four_n, four_n, fourN_ext h]
theorem two_ext {f g : Nat → Int32} {a b : Nat} (h : ∀ j, j < 2 → f (a + j) = g (b + j)) : two f a = two g b := by rw [two_n, two_n, twoN_ext h]
theorem nI_inj {a b : Nat} (ha : a < 4294967296) (hb : b < 4294967296) : nI a = nI b ↔ a = b := by
  refine ⟨fun h => ?_, fun h => by rw [h]⟩
  have : (nI a).toBitVec.toNat = (nI b).toBitVec.toNat := by rw [h]
  rwa [pk_tn (by omega), pk_tn (by omega)] at this
theorem nI_neg {a : Nat} (ha : a < 4294967296) : nI a < 0 ↔ 2147483648 ≤ a := by
  have h3 : ((nI a).toBitVec.toInt : Int) = if 2 * (nI a).toBitVec.toNat < 4294967296 then ((nI a).toBitVec.toNat : Int) else ((nI a).toBitVec.toNat : Int) - 4294967296 := BitVec.toInt_eq_toNat_cond _
  rw [pk_tn (by omega)] at h3
  rw [Int32.lt_iff_toInt_lt]
  show (nI a).toBitVec.toInt < 0 ↔ _
  rw [h3]
  split <;> omega
/-- the first place from j on, at most m further, where p does not hold -/
def scan (p : Nat → Bool) : Nat → Nat → Nat
  | 0, j => j
  | m + 1, j => if p j then scan p m (j + 1) else j
theorem scan_le (p : Nat → Bool) : ∀ m j, j ≤ scan p m j ∧ scan p m j ≤ j + m := by
  intro m
  induction m with
  | zero => intro j; exact ⟨Nat.le_refl _, Nat.le_refl _⟩
  | succ m ih =>
    intro j
    simp only [scan]
    split
    · have := ih (j + 1)
      omega
    · omega
theorem scan_all (p : Nat → Bool) : ∀ m j k, j ≤ k → k < scan p m j → p k = true := by
  intro m
  induction m with
  | zero => intro j k h1 h2; simp only [scan] at h2; omega
  | succ m ih =>
    intro j k h1 h2
    simp only [scan] at h2
    split at h2
    · rename_i hp
      by_cases e : k = j
      · rw [e]; exact hp
      · exact ih (j + 1) k (by omega) h2
    · omega
theorem scan_stop (p : Nat → Bool) : ∀ m j, scan p m j < j + m → p (scan p m j) = false := by
  intro m
  induction m with
  | zero => intro j h; simp only [scan] at h; omega
  | succ m ih =>
    intro j h
    simp only [scan] at h ⊢
    split
    · rename_i hp
      rw [if_pos hp] at h
      exact ih (j + 1) (by omega)
    · rename_i hp
      simpa using hp
theorem scan_eq (p : Nat → Bool) {m j k : Nat} (h1 : j ≤ k) (h2 : k ≤ j + m) (h3 : ∀ i, j ≤ i → i < k → p i = true) (h4 : k < j + m → p k = false) : scan p m j = k := by
  have a1 := scan_le p m j
  rcases Nat.lt_trichotomy (scan p m j) k with h | h | h
  · have := h3 _ a1.1 h
    rw [scan_stop p m j (by omega)] at this
    cases this
  · exact h
  · have := scan_all p m j k h1 h
    rw [h4 (by omega)] at this
    cases this
theorem scan_ext {p q : Nat → Bool} {m j : Nat} (h : ∀ i, j ≤ i → i < j + m → p i = q i) : scan p m j = scan q m j := by
  have a1 := scan_le q m j
  exact scan_eq p a1.1 a1.2 (fun i h1 h2 => by rw [h i h1 (by omega)]; exact scan_all q m j i h1 h2) (fun h1 => by rw [h _ a1.1 h1]; exact scan_stop q m j h1)
theorem scan_t (p : Nat → Bool) {m j : Nat} (h : p j = true) : scan p (m + 1) j = scan p m (j + 1) := by simp only [scan, h, if_true]
theorem scan_f (p : Nat → Bool) {m j : Nat} (h : p j = false) : scan p (m + 1) j = j := by simp only [scan, h]; rfl
/-- does p hold at all places -/
def alls (p : Nat → Bool) (m j : Nat) : Bool := decide (scan p m j = j + m)
theorem alls_iff (p : Nat → Bool) {m j : Nat} : alls p m j = true ↔ ∀ i, j ≤ i → i < j + m → p i = true := by
  unfold alls
  rw [decide_eq_true_eq]
  refine ⟨fun h i h1 h2 => scan_all p m j i h1 (by omega), fun h => ?_⟩
  exact scan_eq p (by omega) (Nat.le_refl _) h (fun z => absurd z (by omega))
theorem alls_s (p : Nat → Bool) {m j : Nat} : alls p (m + 1) j = (p j && alls p m (j + 1)) := by
  rw [Bool.eq_iff_iff, Bool.and_eq_true, alls_iff, alls_iff]
  refine ⟨fun h => ⟨h j (by omega) (by omega), fun i h1 h2 => h i (by omega) (by omega)⟩, fun h i h1 h2 => ?_⟩
  by_cases e : i = j
  · rw [e]; exact h.1
  · exact h.2 i (by omega) (by omega)
theorem alls_0 (p : Nat → Bool) {j : Nat} : alls p 0 j = true := by rw [alls_iff]; intro i h1 h2; omega
