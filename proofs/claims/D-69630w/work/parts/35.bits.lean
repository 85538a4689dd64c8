/-! bits: the first rows are of the kit's BITS.to-paste (a starting text); then masks -/
set_option maxRecDepth 100000
def bt (x : Int32) (i : Nat) : Bool := x.toBitVec.getLsbD i
theorem b_ext {x y : Int32} (h : ∀ i, i < 32 → bt x i = bt y i) : x = y := Int32.toBitVec_inj.mp (BitVec.eq_of_getLsbD_eq (fun i hi => h i hi))
theorem b_or (x y : Int32) (i : Nat) : bt (x ||| y) i = (bt x i || bt y i) := by unfold bt; rw [Int32.toBitVec_or, BitVec.getLsbD_or]
theorem b_and (x y : Int32) (i : Nat) : bt (x &&& y) i = (bt x i && bt y i) := by unfold bt; rw [Int32.toBitVec_and, BitVec.getLsbD_and]
theorem b_m1 : ∀ i, i < 32 → bt (-1) i = true := by decide +kernel
theorem s_l : ∀ n, n < 32 → ((nI n &&& 31).toBitVec.smod 32).toNat = n := by decide +kernel
theorem b_shl (n : Nat) (hn : n < 32) (x : Int32) {i : Nat} (hi : i < 32) : bt (x <<< (nI n &&& 31)) i = (decide (n ≤ i) && bt x (i - n)) := by
  unfold bt
  rw [Int32.toBitVec_shiftLeft]
  show (x.toBitVec <<< ((nI n &&& 31).toBitVec.smod 32).toNat).getLsbD i = _
  rw [s_l n hn, BitVec.getLsbD_shiftLeft]
  rcases Nat.lt_or_ge i n with h | h
  · simp [h, Nat.not_le.mpr h]
  · simp [hi, h, Nat.not_lt.mpr h]
theorem b_sshr (n : Nat) (hn : n < 32) (x : Int32) {i : Nat} (hi : i < 32) : bt (x >>> (nI n &&& 31)) i = if n + i < 32 then bt x (n + i) else bt x 31 := by
  unfold bt
  rw [Int32.toBitVec_shiftRight]
  show (x.toBitVec.sshiftRight ((nI n &&& 31).toBitVec.smod 32).toNat).getLsbD i = _
  rw [s_l n hn, BitVec.getLsbD_sshiftRight, BitVec.msb_eq_getLsbD_last]
  simp [hi]
/-- the bits from n on are the same -/
def hib (n : Nat) (x y : Int32) : Prop := ∀ i, n ≤ i → i < 32 → bt x i = bt y i
theorem msk_iff {n : Nat} (hn : n < 32) (x y : Int32) : x &&& ((-1) <<< (nI n &&& 31)) = y &&& ((-1) <<< (nI n &&& 31)) ↔ hib n x y := by
  have e : ∀ (z : Int32) (i : Nat), i < 32 → bt (z &&& ((-1) <<< (nI n &&& 31))) i = (bt z i && decide (n ≤ i)) := by
    intro z i hi
    rw [b_and, b_shl n hn _ hi]
    by_cases h : n ≤ i
    · rw [b_m1 (i - n) (by omega)]; simp [h]
    · simp [h]
  refine ⟨fun h i h1 h2 => ?_, fun h => b_ext (fun i hi => ?_)⟩
  · have := congrArg (fun z => bt z i) h
    simp only [e x i h2, e y i h2] at this
    simpa [h1] using this
  · rw [e x i hi, e y i hi]
    by_cases h1 : n ≤ i
    · rw [h i h1 hi]
    · simp [h1]
theorem sar_iff {n : Nat} (hn : n < 32) (x y : Int32) : x >>> (nI n &&& 31) = y >>> (nI n &&& 31) ↔ hib n x y := by
  refine ⟨fun h i h1 h2 => ?_, fun h => b_ext (fun i hi => ?_)⟩
  · have := congrArg (fun z => bt z (i - n)) h
    simp only [b_sshr n hn x (show i - n < 32 by omega), b_sshr n hn y (show i - n < 32 by omega)] at this
    rw [if_pos (by omega), if_pos (by omega), show n + (i - n) = i by omega] at this
    exact this
  · rw [b_sshr n hn x hi, b_sshr n hn y hi]
    split
    · exact h _ (by omega) (by omega)
    · exact h _ (by omega) (by omega)
theorem net_iff {n : Nat} (hn : n < 32) (x y : Int32) : (x >>> (nI n &&& 31)) <<< (nI n &&& 31) = (y >>> (nI n &&& 31)) <<< (nI n &&& 31) ↔ hib n x y := by
  have e : ∀ (z : Int32) (i : Nat), i < 32 → bt ((z >>> (nI n &&& 31)) <<< (nI n &&& 31)) i = (decide (n ≤ i) && bt z i) := by
    intro z i hi
    rw [b_shl n hn _ hi]
    by_cases h : n ≤ i
    · rw [b_sshr n hn z (by omega), if_pos (by omega), show n + (i - n) = i by omega]
    · simp [h]
  refine ⟨fun h i h1 h2 => ?_, fun h => b_ext (fun i hi => ?_)⟩
  · have := congrArg (fun z => bt z i) h
    simp only [e x i h2, e y i h2] at this
    simpa [h1] using this
  · rw [e x i hi, e y i hi]
    by_cases h1 : n ≤ i
    · rw [h i h1 hi]
    · simp [h1]
