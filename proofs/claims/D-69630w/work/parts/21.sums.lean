/-! sums and checks -/
set_option maxRecDepth 100000
def ub (x : Int32) : Nat := x.toBitVec.toNat % 256
theorem ub_and (x : Int32) : x &&& 255 = nI (ub x) := pk_and x 8 (by decide)
theorem ub_lt (x : Int32) : ub x < 256 := Nat.mod_lt _ (by decide)
def hi16 (x : Int32) : Nat := x.toBitVec.toNat / 65536
def lo16 (x : Int32) : Nat := x.toBitVec.toNat % 65536
theorem hi16_lt (x : Int32) : hi16 x < 65536 := by
  have := x.toBitVec.isLt
  unfold hi16
  omega
theorem lo16_lt (x : Int32) : lo16 x < 65536 := Nat.mod_lt _ (by decide)
theorem ushr16 (x : Int32) : ushr x 16 = nI (hi16 x) := by
  have h := pk_ushr x 16 16 (by decide)
  have h2 : (ushr x 16).toBitVec.toNat = hi16 x := h
  have h3 := hi16_lt x
  apply Int32.toBitVec_inj.mp
  apply BitVec.eq_of_toNat_eq
  rw [h2, pk_tn (by omega)]
theorem and16 (x : Int32) : x &&& 65535 = nI (lo16 x) := pk_and x 16 (by decide)
/-- the bytes from a place on, in pairs, added up -/
def sB (f : Nat → Int32) (a : Nat) : Nat → Nat
  | 0 => 0
  | n + 1 => sB f a n + (if n % 2 = 0 then ub (f (a + n)) * 256 else ub (f (a + n)))
theorem sB_le (f : Nat → Int32) (a n : Nat) : sB f a n ≤ n * 65280 := by
  induction n with
  | zero => exact Nat.le_refl _
  | succ n ih =>
    have := ub_lt (f (a + n))
    simp only [sB]
    split <;> omega
theorem sB_ext {f g : Nat → Int32} {a b n : Nat} (h : ∀ j, j < n → f (a + j) = g (b + j)) : sB f a n = sB g b n := by
  induction n with
  | zero => rfl
  | succ n ih =>
    simp only [sB]
    rw [ih (fun j hj => h j (by omega)), h n (by omega)]
def fo : Nat → Nat → Nat
  | 0, s => s
  | n + 1, s => if s ≤ 65535 then s else fo n (s % 65536 + s / 65536)
theorem fo_le : ∀ (n s : Nat), s ≤ n → fo n s ≤ 65535 := by
  intro n
  induction n with
  | zero => intro s h; simp only [fo]; omega
  | succ n ih =>
    intro s h
    simp only [fo]
    split
    · assumption
    · exact ih _ (by omega)
/-- what a sum comes to -/
def ck (s : Nat) : Nat := 65535 - fo s s
theorem ck_lt (s : Nat) : ck s < 65536 := by unfold ck; omega
theorem nI_par {n : Nat} (h : n < 2147483648) : nI n - nI n / 2 * 2 = nI (n % 2) := pk_rem (d := 2) (by omega) (by decide) (by decide)
theorem shl8 {n : Nat} (h : n < 256) : nI n <<< (8 : Int32) = nI (n * 256) := pk_shlN (n := n) 8 8 (by decide) (by omega)
theorem shl0 (x : Int32) : x <<< (0 : Int32) = x := by
  have := sb_shl0 x
  rwa [sh0] at this
section SUM
variable {σ : St} {k i a n : Nat}
theorem s19_added_L {Q K : Int32 → Prop} (hn : n < 16384) (ha : a < 536870912) (hl : a + n ≤ alen σ k i) : ∀ (m j s : Nat), j + m = n → s + m * 65280 < 2147483648 → (∀ t, t = s + sB (σ k i) a n - sB (σ k i) a j → K (nI t)) →
    sB (σ k i) a j ≤ sB (σ k i) a n → w19_added_L6 σ k i (nI a) (nI n) Q K (m + 1) (nI s) (nI j) := by
  intro m
  induction m with
  | zero =>
    intro j s hj hs hK hle
    refine br_t (nI_le (by omega) (by omega)) ?_
    have e : j = n := by omega
    have := hK s (by rw [e]; omega)
    exact this
  | succ m ih =>
    intro j s hj hs hK hle
    have hu := ub_lt (σ k i (a + j))
    have hmono : sB (σ k i) a (j + 1) ≤ sB (σ k i) a n := by
      have : ∀ d, sB (σ k i) a (j + 1) ≤ sB (σ k i) a (j + 1 + d) := by
        intro d
        induction d with
        | zero => exact Nat.le_refl _
        | succ d ih => refine Nat.le_trans ih ?_; rw [← Nat.add_assoc]; simp only [sB]; omega
      have h2 := this m
      rwa [show j + 1 + m = n by omega] at h2
    refine br_f (nI_ge (by omega) (by omega)) ?_
    rw [nI_par (by omega), nI_add, nI_1, cl (by omega)]
    have step : ∀ w, w < 65536 → sB (σ k i) a (j + 1) = sB (σ k i) a j + w → w19_added_L6 σ k i (nI a) (nI n) Q K (m + 1) (nI (s + w)) (nI (j + 1)) := by
      intro w hw1 hw
      have hw2 : w ≤ 65280 := by
        have e : sB (σ k i) a (j + 1) = sB (σ k i) a j + (if j % 2 = 0 then ub (σ k i (a + j)) * 256 else ub (σ k i (a + j))) := rfl
        rw [e] at hw
        split at hw <;> omega
      exact ih (j + 1) (s + w) (by omega) (by omega) (fun t ht => hK t (by omega)) hmono
    rcases Nat.mod_two_eq_zero_or_one j with h2 | h2
    · rw [h2]
      refine ⟨fun z => absurd rfl z, fun _ => ⟨vin (by omega) (by omega), fun _ => ?_⟩⟩
      rw [ub_and, sh8, shl8 hu, nI_add]
      exact step _ (by omega) (by simp only [sB]; rw [if_pos h2])
    · rw [h2]
      refine ⟨fun _ => ⟨vin (by omega) (by omega), fun _ => ?_⟩, fun z => absurd z (by decide)⟩
      rw [ub_and, nI_add]
      exact step _ (by omega) (by simp only [sB]; rw [if_neg (by omega)])
theorem s19_added {Q : Int32 → Prop} {s : Nat} (hn : n < 16384) (ha : a < 536870912) (hs : s < 1000000) (hl : a + n ≤ alen σ k i) (hq : Q (nI (s + sB (σ k i) a n))) : w19_added σ (nI s) k i (nI a) (nI n) Q :=
  ⟨n + 1, s19_added_L hn ha hl n 0 s (by omega) (by omega) (fun t ht => by rw [ht]; exact hq) (Nat.zero_le _)⟩
theorem s14_added_L {Q K : Int64 → Prop} (hn : n < 16384) (ha : a < 536870912) (hl : a + n ≤ lnL.getD k 0) : ∀ (m j s : Nat), j + m = n → s + m * 65280 < 2147483648 → (∀ t, t = s + sB (σ k i) a n - sB (σ k i) a j → K (lN t)) →
    sB (σ k i) a j ≤ sB (σ k i) a n → w14_added_L6 σ k i (nI a) (nI n) Q K (m + 1) (lN s) (nI j) := by
  intro m
  induction m with
  | zero =>
    intro j s hj hs hK hle
    refine br_t (nI_le (by omega) (by omega)) ?_
    have e : j = n := by omega
    exact hK s (by rw [e]; omega)
  | succ m ih =>
    intro j s hj hs hK hle
    have hu := ub_lt (σ k i (a + j))
    have hmono : sB (σ k i) a (j + 1) ≤ sB (σ k i) a n := by
      have : ∀ d, sB (σ k i) a (j + 1) ≤ sB (σ k i) a (j + 1 + d) := by
        intro d
        induction d with
        | zero => exact Nat.le_refl _
        | succ d ih => refine Nat.le_trans ih ?_; rw [← Nat.add_assoc]; simp only [sB]; omega
      have h2 := this m
      rwa [show j + 1 + m = n by omega] at h2
    refine br_f (nI_ge (by omega) (by omega)) ?_
    rw [nI_par (by omega), nI_add, nI_1, cl (by omega)]
    refine ⟨vin (by omega) (by omega), fun _ => ?_⟩
    have step : ∀ w, w < 65536 → sB (σ k i) a (j + 1) = sB (σ k i) a j + w → w14_added_L6 σ k i (nI a) (nI n) Q K (m + 1) (lN (s + w)) (nI (j + 1)) := by
      intro w hw1 hw
      have hw2 : w ≤ 65280 := by
        have e : sB (σ k i) a (j + 1) = sB (σ k i) a j + (if j % 2 = 0 then ub (σ k i (a + j)) * 256 else ub (σ k i (a + j))) := rfl
        rw [e] at hw
        split at hw <;> omega
      exact ih (j + 1) (s + w) (by omega) (by omega) (fun t ht => hK t (by omega)) hmono
    rcases Nat.mod_two_eq_zero_or_one j with h2 | h2
    · rw [h2]
      refine ⟨fun z => absurd rfl z, fun _ => ?_⟩
      rw [ub_and, sh8, shl8 hu, nI_l (by omega), lN_add]
      exact step _ (by omega) (by simp only [sB]; rw [if_pos h2])
    · rw [h2]
      refine ⟨fun _ => ?_, fun z => absurd z (by decide)⟩
      rw [ub_and, sh0, shl0, nI_l (by omega), lN_add]
      exact step _ (by omega) (by simp only [sB]; rw [if_neg (by omega)])
theorem s14_added {Q : Int64 → Prop} {s : Nat} (hn : n < 16384) (ha : a < 536870912) (hs : s < 1000000) (hl : a + n ≤ lnL.getD k 0) (hq : Q (lN (s + sB (σ k i) a n))) : w14_added σ k i (nI a) (nI n) (lN s) Q :=
  ⟨n + 1, s14_added_L hn ha hl n 0 s (by omega) (by omega) (fun t ht => by rw [ht]; exact hq) (Nat.zero_le _)⟩
theorem s19_folded_L {Q K : Int32 → Prop} : ∀ (m s : Nat), s ≤ m → s < 2147483648 → K (nI (fo m s)) → w19_folded_L2 σ Q K (m + 1) (nI s) := by
  intro m
  induction m with
  | zero =>
    intro s h hs hK
    exact br_t (nI_le (b := 65535) (by omega) (by decide)) hK
  | succ m ih =>
    intro s h hs hK
    simp only [fo] at hK
    by_cases h2 : s ≤ 65535
    · rw [if_pos h2] at hK
      exact br_t (nI_le (b := 65535) (by omega) (by decide)) hK
    · rw [if_neg h2] at hK
      refine br_f (nI_ge (a := 65535) (by omega) (by omega)) ?_
      rw [pk_andN (by omega) 16 (by decide), sh16, pk_shrN (by omega) 16 16 (by decide), nI_add]
      exact ih _ (by omega) (by omega) hK
theorem nxor : ∀ r : Nat, r ≤ 65535 → (nI r ^^^ (-1)) &&& 65535 = nI (65535 - r) := by
  intro r hr
  rw [pk_and _ 16 (by decide)]
  have e : (nI r ^^^ (-1)).toBitVec.toNat = 4294967295 - r := by
    have e1 : (nI r ^^^ (-1)).toBitVec = ~~~ (nI r).toBitVec := by
      rw [Int32.toBitVec_xor]
      have : (-1 : Int32).toBitVec = BitVec.allOnes 32 := by decide
      rw [this, BitVec.xor_allOnes]
    rw [e1, BitVec.toNat_not, pk_tn (by omega)]
  rw [e]
  congr 1
  show (4294967295 - r) % 65536 = 65535 - r
  omega
theorem s19_folded {Q : Int32 → Prop} {s : Nat} (hs : s < 2147483648) (hq : Q (nI (ck s))) : w19_folded σ (nI s) Q :=
  ⟨s + 1, s19_folded_L s s (Nat.le_refl _) hs (by rw [nxor _ (fo_le s s (Nat.le_refl _))]; exact hq)⟩
theorem lcmp_le {a b : Nat} (ha : a < 2147483648) (hb : b < 2147483648) : lg_cmp (lN a) (lN b) ≤ 0 ↔ a ≤ b := by
  unfold lg_cmp
  have h1 := lN_lt (a := b) (b := a) (by omega) (by omega)
  have h2 := lN_eq (a := a) (b := b) (by omega) (by omega)
  by_cases c1 : b < a
  · rw [if_pos (h1.mpr c1)]
    exact ⟨fun z => absurd z (by decide), fun z => by omega⟩
  · rw [if_neg (fun z => c1 (h1.mp z))]
    refine ⟨fun _ => by omega, fun _ => ?_⟩
    split <;> decide
theorem s14_sixteen_L {Q : Int32 → Prop} {K : Int64 → Prop} : ∀ (m s : Nat), s ≤ m → s < 2147483648 → K (lN (fo m s)) → w14_sixteen_L2 σ Q K (m + 1) (lN s) := by
  intro m
  induction m with
  | zero =>
    intro s h hs hK
    exact br_t ((lcmp_le (b := 65535) (by omega) (by decide)).mpr (by omega)) hK
  | succ m ih =>
    intro s h hs hK
    simp only [fo] at hK
    by_cases h2 : s ≤ 65535
    · rw [if_pos h2] at hK
      exact br_t ((lcmp_le (b := 65535) (by omega) (by decide)).mpr (by omega)) hK
    · rw [if_neg h2] at hK
      refine br_f (fun z => h2 ((lcmp_le (b := 65535) (by omega) (by decide)).mp z)) ?_
      have e1 : lN s &&& 65535 = lN (s % 65536) := by
        apply Int64.toBitVec_inj.mp
        apply BitVec.eq_of_toNat_eq
        rw [Int64.toBitVec_and, BitVec.toNat_and]
        show (BitVec.ofNat 64 s).toNat &&& 65535 = (BitVec.ofNat 64 (s % 65536)).toNat
        rw [BitVec.toNat_ofNat, BitVec.toNat_ofNat, Nat.mod_eq_of_lt (a := s) (by omega), Nat.mod_eq_of_lt (a := s % 65536) (by omega)]
        exact Nat.and_two_pow_sub_one_eq_mod s 16
      have e2 : lN s >>> ((16 : Int32).toInt64 &&& 63) = lN (s / 65536) := by
        apply Int64.toInt_inj.mp
        have e : (lN s >>> ((16 : Int32).toInt64 &&& 63)).toInt = (lN s).toInt >>> 16 := by
          rw [show (16 : Nat) = (((16 : Int32).toInt64 &&& 63).toBitVec.smod 64).toNat by decide]
          exact BitVec.toInt_sshiftRight ..
        rw [e, Int.shiftRight_eq_div_pow, lN_toInt (by omega), lN_toInt (by omega)]
        rfl
      rw [e1, e2, lN_add]
      exact ih _ (by omega) (by omega) hK
theorem s14_sixteen {Q : Int32 → Prop} {s : Nat} (hs : s < 2147483648) (hq : Q (nI (ck s))) : w14_sixteen σ (lN s) Q := by
  refine ⟨s + 1, s14_sixteen_L s s (Nat.le_refl _) hs ?_⟩
  have h := fo_le s s (Nat.le_refl _)
  have e : (65535 : Int64) - lN (fo s s) = lN (65535 - fo s s) := lN_sub (a := 65535) h
  rw [e, lN_i]
  exact hq
def psd (a b : Int32) (n : Nat) : Nat := hi16 a + lo16 a + hi16 b + lo16 b + 6 + n
theorem psd_lt (a b : Int32) (n : Nat) : psd a b n < 262147 + n := by
  have := hi16_lt a
  have := lo16_lt a
  have := hi16_lt b
  have := lo16_lt b
  unfold psd
  omega
theorem psd_i (a b : Int32) (n : Nat) : ((((ushr a 16 + (a &&& 65535)) + ushr b 16) + (b &&& 65535)) + 6) + nI n = nI (psd a b n) := by
  rw [ushr16, ushr16, and16, and16, nI_add, nI_add, nI_add]
  show nI _ + nI 6 + nI n = _
  rw [nI_add, nI_add]
  rfl
theorem psd_l (a b : Int32) {n : Nat} (hn : n < 2147483648) : ((((ushr a 16 + (a &&& 65535)) + ushr b 16) + (b &&& 65535)).toInt64 + 6) + (nI n).toInt64 = lN (psd a b n) := by
  have := hi16_lt a
  have := lo16_lt a
  have := hi16_lt b
  have := lo16_lt b
  rw [ushr16, ushr16, and16, and16, nI_add, nI_add, nI_add, nI_l (by omega), nI_l (by omega)]
  show lN _ + lN 6 + lN n = _
  rw [lN_add, lN_add]
  rfl
end SUM
/-! the check of bytes -/
def crc8 : Nat → Int32 → Int32
  | 0, c => c
  | n + 1, c => crc8 n (if c &&& 1 = 1 then ushr c 1 ^^^ (-306674912) else ushr c 1)
def crcL (f : Nat → Int32) : Nat → Nat → Int32 → Int32
  | 0, _, c => c
  | n + 1, a, c => crcL f n (a + 1) (crc8 8 (c ^^^ (f a &&& 255)))
def crc (f : Nat → Int32) (a n : Nat) : Int32 := crcL f n a (-1) ^^^ (-1)
theorem crcL_ext {f g : Nat → Int32} : ∀ (n a b : Nat) (c : Int32), (∀ j, j < n → f (a + j) = g (b + j)) → crcL f n a c = crcL g n b c := by
  intro n
  induction n with
  | zero => intros; rfl
  | succ n ih =>
    intro a b c h
    simp only [crcL]
    have h0 := h 0 (by omega)
    rw [show f a = g b from h0]
    exact ih (a + 1) (b + 1) _ (fun j hj => by have := h (j + 1) (by omega); rwa [show a + 1 + j = a + (j + 1) by omega, show b + 1 + j = b + (j + 1) by omega])
theorem crc_ext {f g : Nat → Int32} {n a b : Nat} (h : ∀ j, j < n → f (a + j) = g (b + j)) : crc f a n = crc g b n := by
  unfold crc
  rw [crcL_ext n a b _ h]
section CRC
variable {σ : St} {a n b : Nat}
theorem s1_check_L30 {Q K : Int32 → Prop} {x1 x2 x4 : Int32} : ∀ (m j : Nat) (c : Int32), j + m = 8 → K (crc8 m c) → w1_check_L30 σ x1 x2 x4 Q K (m + 1) c (nI j) := by
  intro m
  induction m with
  | zero => intro j c hj hK; exact br_t (nI_le (a := 8) (by omega) (by omega)) hK
  | succ m ih =>
    intro j c hj hK
    refine br_f (nI_ge (b := 8) (by omega) (by decide)) ?_
    rw [nI_1]
    simp only [crc8] at hK
    by_cases h : c &&& 1 = 1
    · rw [if_pos h] at hK
      exact br_u h (ih (j + 1) _ (by omega) hK)
    · rw [if_neg h] at hK
      exact br_v h (ih (j + 1) _ (by omega) hK)
theorem s1_check_L {Q K : Int32 → Prop} (hn : n < 536870912) (ha : a < 536870912) (hl : a + n ≤ (σ 90 0 0).toNatClampNeg) : ∀ (m j : Nat) (c : Int32), j + m = n → K (crcL (σ 21 0) m (a + j) c) → w1_check_L5 σ (nI a) (nI n) Q K (m + 1) c (nI j) := by
  intro m
  induction m with
  | zero => intro j c hj hK; exact br_t (nI_le (by omega) (by omega)) hK
  | succ m ih =>
    intro j c hj hK
    refine br_f (nI_ge (by omega) (by omega)) ?_
    rw [nI_add]
    refine ⟨vin (by omega) (by omega), fun _ => ⟨9, s1_check_L30 8 0 _ rfl ?_⟩⟩
    rw [nI_1, cl (by omega)]
    exact ih (j + 1) _ (by omega) hK
theorem s1_check {Q : Int32 → Prop} (hn : n < 536870912) (ha : a < 536870912) (hl : a + n ≤ (σ 90 0 0).toNatClampNeg) (hq : Q (crc (σ 21 0) a n)) : w1_check σ (nI a) (nI n) Q :=
  ⟨n + 1, s1_check_L hn ha hl n 0 _ (by omega) hq⟩
theorem s14_check_L28 {Q K : Int32 → Prop} {x2 x4 : Int32} : ∀ (m j : Nat) (c : Int32), j + m = 8 → K (crc8 m c) → w14_check_L28 σ x2 x4 Q K (m + 1) c (nI j) := by
  intro m
  induction m with
  | zero => intro j c hj hK; exact br_t (nI_le (a := 8) (by omega) (by omega)) hK
  | succ m ih =>
    intro j c hj hK
    refine br_f (nI_ge (b := 8) (by omega) (by decide)) ?_
    rw [nI_1]
    simp only [crc8] at hK
    by_cases h : c &&& 1 = 1
    · rw [if_pos h] at hK
      exact br_u h (ih (j + 1) _ (by omega) hK)
    · rw [if_neg h] at hK
      exact br_v h (ih (j + 1) _ (by omega) hK)
theorem s14_check_L {Q K : Int32 → Prop} (hb : b ≤ 65535) : ∀ (m j : Nat) (c : Int32), j + m = b → K (crcL (σ 51 0) m j c) → w14_check_L5 σ (nI b) Q K (m + 1) c (nI j) := by
  intro m
  induction m with
  | zero => intro j c hj hK; exact br_t (nI_le (by omega) (by omega)) hK
  | succ m ih =>
    intro j c hj hK
    refine br_f (nI_ge (by omega) (by omega)) ⟨vin (by omega) (by omega), fun _ => ⟨9, s14_check_L28 8 0 _ rfl ?_⟩⟩
    rw [nI_1, cl (by omega)]
    exact ih (j + 1) _ (by omega) hK
theorem s14_check {Q : Int32 → Prop} (hb : a + n ≤ 65535) (hq : Q (crc (σ 51 0) a n)) : w14_check σ (nI a) (nI (a + n)) Q :=
  ⟨n + 1, s14_check_L hb n a _ rfl hq⟩
end CRC
