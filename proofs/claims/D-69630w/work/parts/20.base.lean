/-! the plain law: states, rows, bytes -/
set_option maxRecDepth 100000
theorem up3_g {σ : St} {k i j k' i' j' : Nat} {v : Int32} : up3 σ k i j v k' i' j' = if k' = k ∧ i' = i ∧ j' = j then v else σ k' i' j' := by
  split
  · rename_i h
    obtain ⟨rfl, rfl, rfl⟩ := h
    simp [up3, va_up]
  · rename_i h
    exact up3_j h
theorem row3_r {σ : St} {k i k' i' : Nat} {f : Nat → Int32} : row3 σ k i f k' i' = if k' = k ∧ i' = i then f else σ k' i' := by
  split
  · rename_i h
    obtain ⟨rfl, rfl⟩ := h
    exact row3_s
  · rename_i h
    exact row3_o h
theorem row3_g {σ : St} {k i k' i' j' : Nat} {f : Nat → Int32} : row3 σ k i f k' i' j' = if k' = k ∧ i' = i then f j' else σ k' i' j' := by
  rw [row3_r]
  split <;> rfl
theorem up3_as {σ : St} {k i j : Nat} {v : Int32} : up3 σ k i j v = row3 σ k i (va_up (σ k i) j v) := rfl
theorem up3_r {σ : St} {k i j k' i' : Nat} {v : Int32} : up3 σ k i j v k' i' = if k' = k ∧ i' = i then va_up (σ k i) j v else σ k' i' := row3_r
theorem vu_g {f : Nat → Int32} {k j : Nat} {v : Int32} : va_up f k v j = if j = k then v else f j := rfl
theorem row3_row3 {σ : St} {k i : Nat} {f g : Nat → Int32} : row3 (row3 σ k i f) k i g = row3 σ k i g := by
  funext k' i' j'
  simp only [row3_g]
  split <;> rfl
theorem row3_self {σ : St} {k i : Nat} : row3 σ k i (σ k i) = σ := by
  funext k' i' j'
  rw [row3_g]
  split
  · rename_i h
    rw [h.1, h.2]
  · rfl
theorem row3_up {σ : St} {k i j : Nat} {v : Int32} {f : Nat → Int32} : up3 (row3 σ k i f) k i j v = row3 σ k i (va_up f j v) := by
  rw [up3_as, row3_s, row3_row3]
theorem alen_row {σ : St} {k i : Nat} {f : Nat → Int32} (h : k ≠ 90) (k' i' : Nat) : alen (row3 σ k i f) k' i' = alen σ k' i' := by
  have e : ∀ i', row3 σ k i f 90 i' = σ 90 i' := fun i' => row3_o (fun z => h z.1.symm)
  simp only [alen, e]
theorem vin {n N : Nat} (h : n < N) (hn : n < 2147483648) : vp_in (nI n) N := vp_in_iff.mpr (by rw [nI_toInt (by omega)]; omega)
theorem cl {n : Nat} (hn : n < 2147483648) : (nI n).toNatClampNeg = n := nI_clamp (by omega)
theorem cl_lit {n : Nat} (h : n < 2147483648) : (@OfNat.ofNat Int32 n Int32.instOfNat).toNatClampNeg = n := cl h
theorem li {n : Nat} : (@OfNat.ofNat Int32 n Int32.instOfNat) = nI n := rfl
/-- a byte -/
def b8 (x : Int32) : Int32 := x.toInt8.toInt32
theorem b8_f (x : Int32) : x.toInt8.toInt32 = b8 x := rfl
theorem b8_b8 (x : Int32) : b8 (b8 x) = b8 x := by simp [b8]
theorem b8_by {x : Int32} (h : by8 x) : b8 x = x := h
theorem by_b8 (x : Int32) : by8 (b8 x) := b8_b8 x
theorem ok_by {σ : St} (ok : okS σ) {k i : Nat} (h : ∀ j, tyk k j = 2) (j : Nat) : by8 (σ k i j) := (ok k i j).2 (h j)
theorem ok_bo {σ : St} (ok : okS σ) {k i j : Nat} (h : tyk k j = 1) : bo (σ k i j) := (ok k i j).1 h
theorem abc_by {σ : St} (ok : okS σ) {k i : Nat} (h : abc k i = true) (j : Nat) : by8 (σ k i j) := (ok k i j).2 ((ab_spec (abc_spec h).1).2.2.2.2.2.2.2 j)
theorem abm_by {σ : St} (ok : okS σ) {k i : Nat} (h : abm k i = true) (j : Nat) : by8 (σ k i j) := (ok k i j).2 ((ab_spec (abm_spec h).1).2.2.2.2.2.2.2 j)
def put2 (f : Nat → Int32) (a : Nat) (v : Int32) : Nat → Int32 := va_up (va_up f a (b8 (v >>> 8))) (a + 1) (b8 v)
def put4 (f : Nat → Int32) (a : Nat) (v : Int32) : Nat → Int32 := put2 (put2 f a (v >>> 16)) (a + 2) v
def two (f : Nat → Int32) (a : Nat) : Int32 := ((f a &&& 255) <<< 8) ||| (f (a + 1) &&& 255)
def four (f : Nat → Int32) (a : Nat) : Int32 := (two f a <<< 16) ||| two f (a + 2)
theorem b8_ext {x y : Int32} (h : ∀ i, i < 8 → x.toBitVec.getLsbD i = y.toBitVec.getLsbD i) : b8 x = b8 y := by
  unfold b8
  congr 1
  apply Int8.toBitVec_inj.mp
  rw [Int32.toBitVec_toInt8, Int32.toBitVec_toInt8]
  apply BitVec.eq_of_getLsbD_eq
  intro i hi
  rw [BitVec.getLsbD_signExtend, BitVec.getLsbD_signExtend]
  simp only [hi, decide_true, Bool.true_and]
  rw [if_pos (by omega), if_pos (by omega)]
  exact h i hi
theorem sh8 : ((8 : Int32) &&& 31) = 8 := by decide
theorem sh16 : ((16 : Int32) &&& 31) = 16 := by decide
theorem sh24 : ((24 : Int32) &&& 31) = 24 := by decide
theorem sh0 : ((0 : Int32) &&& 31) = 0 := by decide
theorem sh4 : ((4 : Int32) &&& 31) = 4 := by decide
theorem lb_sshr (x s : Int32) (k : Nat) (hs : (s.toBitVec.smod 32).toNat = k) (hk : k < 32) {i : Nat} (hi : i + k < 32) : (x >>> s).toBitVec.getLsbD i = x.toBitVec.getLsbD (k + i) := by
  rw [Int32.toBitVec_shiftRight, BitVec.sshiftRight_eq', BitVec.getLsbD_sshiftRight, hs]
  simp only [show ¬ 32 ≤ i by omega, decide_false, Bool.not_false, Bool.true_and]
  rw [if_pos (by omega)]
theorem lb_ushr16 (x : Int32) {i : Nat} (hi : i < 32) : (ushr x 16).toBitVec.getLsbD i = x.toBitVec.getLsbD (16 + i) := by
  unfold ushr
  rw [show (Int32.toUInt32 16 &&& Int32.toUInt32 31) = (16 : UInt32) by decide]
  show ((x.toUInt32 >>> (16 : UInt32)).toBitVec).getLsbD i = _
  rw [UInt32.toBitVec_shiftRight, BitVec.ushiftRight_eq', BitVec.getLsbD_ushiftRight]
  rfl
theorem b8_16 (v : Int32) : b8 (ushr v 16) = b8 (v >>> 16) := b8_ext fun i hi => by
  rw [lb_ushr16 v (by omega), lb_sshr v 16 16 (by decide) (by omega) (by omega)]
theorem b8_24 (v : Int32) : b8 (ushr v 16 >>> 8) = b8 (v >>> 24) := b8_ext fun i hi => by
  rw [lb_sshr _ 8 8 (by decide) (by omega) (by omega), lb_ushr16 v (by omega), lb_sshr v 24 24 (by decide) (by omega) (by omega)]
  congr 1
  omega
theorem b8_24' (v : Int32) : b8 (v >>> 16 >>> 8) = b8 (v >>> 24) := b8_ext fun i hi => by
  rw [lb_sshr _ 8 8 (by decide) (by omega) (by omega), lb_sshr v 16 16 (by decide) (by omega) (by omega), lb_sshr v 24 24 (by decide) (by omega) (by omega)]
  congr 1
  omega
theorem put4_u {f : Nat → Int32} {a : Nat} {v : Int32} : put2 (put2 f a (ushr v 16)) (a + 2) v = put4 f a v := by
  unfold put4
  congr 1
  unfold put2
  rw [b8_16, b8_24, b8_24']
theorem put4_4 {f : Nat → Int32} {a : Nat} {v : Int32} : va_up (va_up (va_up (va_up f a (b8 (v >>> 24))) (a + 1) (b8 (v >>> 16))) (a + 2) (b8 (v >>> 8))) (a + 3) (b8 v) = put4 f a v := by
  unfold put4 put2
  rw [b8_24']
section NET
variable {σ : St} {k0 i0 k2 i2 a b n : Nat} {Q : St → Prop} {v : Int32}
theorem s19_putTwo (h : a + 2 ≤ alen σ k0 i0) (ha : a < 1073741824) (hk : k0 ≠ 90) (hq : Q (row3 σ k0 i0 (put2 (σ k0 i0) a v))) : w19_putTwo σ k0 i0 (nI a) v Q := by
  refine ⟨vin (by omega) (by omega), fun s1 e1 => ?_⟩
  rw [nI_1]
  subst e1
  rw [up3_as, alen_row hk]
  refine ⟨vin (by omega) (by omega), fun s2 e2 => ?_⟩
  subst e2
  rw [row3_up, cl (by omega), cl (by omega), sh8]
  simp only [b8_f, b8_b8]
  exact hq
theorem s19_putFour (h : a + 4 ≤ alen σ k0 i0) (ha : a < 536870912) (hk : k0 ≠ 90) (hq : Q (row3 σ k0 i0 (put4 (σ k0 i0) a v))) : w19_putFour σ k0 i0 (nI a) v Q := by
  refine s19_putTwo (by omega) (by omega) hk ?_
  show w19_putTwo _ k0 i0 (nI a + nI 2) v _
  rw [nI_add]
  refine s19_putTwo (by rw [alen_row hk]; omega) (by omega) hk ?_
  rw [row3_s, row3_row3, put4_u]
  exact hq
theorem s19_two {Q : Int32 → Prop} (h : a + 2 ≤ alen σ k0 i0) (ha : a < 1073741824) (hq : Q (two (σ k0 i0) a)) : w19_two σ k0 i0 (nI a) Q := by
  refine ⟨vin (by omega) (by omega), fun _ => ?_⟩
  rw [nI_1]
  refine ⟨vin (by omega) (by omega), fun _ => ?_⟩
  rw [cl (by omega), cl (by omega), sh8]
  exact hq
theorem s19_four {Q : Int32 → Prop} (h : a + 4 ≤ alen σ k0 i0) (ha : a < 536870912) (hq : Q (four (σ k0 i0) a)) : w19_four σ k0 i0 (nI a) Q := by
  refine s19_two (by omega) (by omega) ?_
  show w19_two _ k0 i0 (nI a + nI 2) _
  rw [nI_add]
  refine s19_two (by omega) (by omega) ?_
  rw [sh16]
  exact hq
theorem cpy_0 {f g : Nat → Int32} {a b : Nat} : va_cpy f g a b 0 = g := by
  funext j
  rw [pk_cpy_out (by omega)]
theorem cpy_s {f g : Nat → Int32} {a b m : Nat} : va_cpy f (va_up g b (f a)) (a + 1) (b + 1) m = va_cpy f g a b (m + 1) := by
  funext j
  by_cases h1 : j < b
  · rw [pk_cpy_out (by omega), pk_cpy_out (by omega), vu_g, if_neg (by omega)]
  · by_cases h2 : j = b
    · subst h2
      rw [pk_cpy_out (by omega), pk_cpy_in (by omega) (by omega), vu_g, if_pos rfl, Nat.sub_self]
      rfl
    · by_cases h3 : j < b + (m + 1)
      · rw [pk_cpy_in (by omega) (by omega), pk_cpy_in (by omega) (by omega)]
        congr 1
        omega
      · rw [pk_cpy_out (by omega), pk_cpy_out (by omega), vu_g, if_neg h2]
theorem s19_copy_L {K : St → Prop} (hne : ¬ (k2 = k0 ∧ i2 = i0)) (hk2 : k2 ≠ 90) (hn : n < 536870912) (ha : a < 536870912) (hb : b < 536870912) : ∀ (m j : Nat) (σ : St), j + m = n → a + n ≤ alen σ k0 i0 → b + n ≤ alen σ k2 i2 →
    K (row3 σ k2 i2 (va_cpy (σ k0 i0) (σ k2 i2) (a + j) (b + j) m)) → w19_copy_L3 k0 i0 (nI a) k2 i2 (nI b) (nI n) Q K (m + 1) σ (nI j) := by
  intro m
  induction m with
  | zero =>
    intro j σ hj h1 h2 hK
    rw [cpy_0, row3_self] at hK
    exact br_t (nI_le (by omega) (by omega)) hK
  | succ m ih =>
    intro j σ hj h1 h2 hK
    refine br_f (nI_ge (by omega) (by omega)) ?_
    rw [nI_add, nI_add]
    refine ⟨vin (by omega) (by omega), fun hby => ⟨vin (by omega) (by omega), fun s1 e1 => ?_⟩⟩
    rw [nI_1]
    subst e1
    rw [up3_as]
    have e2 : ∀ g, row3 σ k2 i2 g k0 i0 = σ k0 i0 := fun g => row3_o (fun z => hne ⟨z.1.symm, z.2.symm⟩)
    refine ih (j + 1) _ (by omega) (by rw [alen_row hk2]; exact h1) (by rw [alen_row hk2]; exact h2) ?_
    rw [e2, row3_s, row3_row3, cl (by omega), cl (by omega)]
    rw [cl (by omega)] at hby
    rw [show (σ k0 i0 (a + j)).toInt8.toInt32 = σ k0 i0 (a + j) from hby, ← Nat.add_assoc, ← Nat.add_assoc, cpy_s]
    exact hK
theorem s19_copy (hne : ¬ (k2 = k0 ∧ i2 = i0)) (hk2 : k2 ≠ 90) (hn : n < 536870912) (ha : a < 536870912) (hb : b < 536870912) (h1 : a + n ≤ alen σ k0 i0) (h2 : b + n ≤ alen σ k2 i2) (hq : Q (row3 σ k2 i2 (va_cpy (σ k0 i0) (σ k2 i2) a b n))) : w19_copy σ k0 i0 (nI a) k2 i2 (nI b) (nI n) Q :=
  ⟨n + 1, s19_copy_L hne hk2 hn ha hb n 0 σ (by omega) h1 h2 hq⟩
end NET
