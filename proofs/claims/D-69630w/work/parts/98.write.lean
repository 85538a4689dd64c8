/-! writing an answer: the component's row of bytes, the model's head -/
set_option maxRecDepth 100000
/-- codes that are written into a row from a place on -/
def wrl : (Nat → Int32) → Nat → List Nat → Nat → Int32
  | f, _, [] => f
  | f, a, u :: l => wrl (va_up f a (nI u)) (a + 1) l
theorem wrl_app : ∀ (l l' : List Nat) (f : Nat → Int32) (a : Nat), wrl (wrl f a l) (a + l.length) l' = wrl f a (l ++ l') := by
  intro l
  induction l with
  | nil => intro l' f a; rfl
  | cons u l ih =>
    intro l' f a
    have := ih l' (va_up f a (nI u)) (a + 1)
    rw [show a + (u :: l).length = a + 1 + l.length by simp only [List.length_cons]; omega]
    exact this
theorem wrl_o : ∀ (l : List Nat) (f : Nat → Int32) (a j : Nat), j < a → wrl f a l j = f j := by
  intro l
  induction l with
  | nil => intro f a j _; rfl
  | cons u l ih =>
    intro f a j h
    show wrl (va_up f a (nI u)) (a + 1) l j = f j
    rw [ih _ _ _ (by omega), vu_g, if_neg (by omega)]
theorem wrl_in : ∀ (l : List Nat) (f g : Nat → Int32) (a j : Nat), a ≤ j → j < a + l.length → wrl f a l j = wrl g a l j := by
  intro l
  induction l with
  | nil => intro f g a j h1 h2; simp only [List.length_nil] at h2; omega
  | cons u l ih =>
    intro f g a j h1 h2
    show wrl (va_up f a (nI u)) (a + 1) l j = wrl (va_up g a (nI u)) (a + 1) l j
    by_cases c : j = a
    · rw [wrl_o _ _ _ _ (by omega), wrl_o _ _ _ _ (by omega), vu_g, vu_g, if_pos c, if_pos c]
    · exact ih _ _ _ _ (by omega) (by simp only [List.length_cons] at h2; omega)
/-- the component's state behind codes; the model's -/
def aC (σ : St) (i L : Nat) (l : List Nat) : St := up3 (row3 σ 44 i (wrl (σ 44 i) L l)) 13 i 1 (nI (L + l.length))
def aM (τ : St) (i h : Nat) (l : List Nat) : St := up3 (row3 τ 71 i (wrl (τ 71 i) h l)) 15 i 26 (nI (h + l.length))
theorem aC_44 {σ : St} {i L : Nat} {l : List Nat} : aC σ i L l 44 i = wrl (σ 44 i) L l := by unfold aC; rw [up3_r, if_neg (by omega), row3_s]
theorem aM_71 {σ : St} {i L : Nat} {l : List Nat} : aM σ i L l 71 i = wrl (σ 71 i) L l := by unfold aM; rw [up3_r, if_neg (by omega), row3_s]
theorem aC_13 {σ : St} {i L : Nat} {l : List Nat} : aC σ i L l 13 i 1 = nI (L + l.length) := by unfold aC; rw [up3_g, if_pos ⟨rfl, rfl, rfl⟩]
theorem aM_26 {σ : St} {i L : Nat} {l : List Nat} : aM σ i L l 15 i 26 = nI (L + l.length) := by unfold aM; rw [up3_g, if_pos ⟨rfl, rfl, rfl⟩]
theorem aC_o {σ : St} {i L : Nat} {l : List Nat} {k i' : Nat} (h1 : k ≠ 44) (h2 : k ≠ 13) : aC σ i L l k i' = σ k i' := by unfold aC; rw [up3_r, if_neg (fun z => h2 z.1), row3_o (fun z => h1 z.1)]
theorem aM_o {σ : St} {i L : Nat} {l : List Nat} {k i' : Nat} (h1 : k ≠ 71) (h2 : k ≠ 15) : aM σ i L l k i' = σ k i' := by unfold aM; rw [up3_r, if_neg (fun z => h2 z.1), row3_o (fun z => h1 z.1)]
theorem aM_15 {σ : St} {i L : Nat} {l : List Nat} {j : Nat} (h : j ≠ 26) : aM σ i L l 15 i j = σ 15 i j := by unfold aM; rw [up3_g, if_neg (fun z => h z.2.2), row3_o (by omega)]
theorem aC_f {σ : St} {i L : Nat} {l : List Nat} : Fr (mF [44, 13] [] [] []) σ (aC σ i L l) := by
  unfold aC
  exact (fr_r (fun _ => rfl)).up rfl
theorem aM_f {σ : St} {i L : Nat} {l : List Nat} : Fr (mF [71] [] [(15, [26])] []) σ (aM σ i L l) := by
  unfold aM
  exact (fr_r (fun _ => rfl)).up rfl
theorem aC_aC {σ : St} {i L : Nat} {l l' : List Nat} : aC (aC σ i L l) i (L + l.length) l' = aC σ i L (l ++ l') := by
  unfold aC
  rw [up3_r, if_neg (by omega), row3_s, wrl_app, List.length_append, ← Nat.add_assoc]
  funext k' i'
  by_cases c1 : k' = 13 ∧ i' = i
  · rw [up3_r, if_pos c1, row3_o (by omega), up3_r, if_pos ⟨rfl, rfl⟩, up3_r, if_pos c1, vu_vu, row3_o (by omega), row3_o (by omega)]
  · rw [up3_r, if_neg c1, up3_r, if_neg c1]
    by_cases c2 : k' = 44 ∧ i' = i
    · rw [row3_r, if_pos c2, row3_r, if_pos c2]
    · rw [row3_r, if_neg c2, row3_r, if_neg c2, up3_r, if_neg c1, row3_r, if_neg c2]
theorem aM_aM {σ : St} {i L : Nat} {l l' : List Nat} : aM (aM σ i L l) i (L + l.length) l' = aM σ i L (l ++ l') := by
  unfold aM
  rw [up3_r, if_neg (by omega), row3_s, wrl_app, List.length_append, ← Nat.add_assoc]
  funext k' i'
  by_cases c1 : k' = 15 ∧ i' = i
  · rw [up3_r, if_pos c1, row3_o (by omega), up3_r, if_pos ⟨rfl, rfl⟩, up3_r, if_pos c1, vu_vu, row3_o (by omega), row3_o (by omega)]
  · rw [up3_r, if_neg c1, up3_r, if_neg c1]
    by_cases c2 : k' = 71 ∧ i' = i
    · rw [row3_r, if_pos c2, row3_r, if_pos c2]
    · rw [row3_r, if_neg c2, row3_r, if_neg c2, up3_r, if_neg c1, row3_r, if_neg c2]
theorem aC_nil {σ : St} {i L : Nat} (h : (σ 13 i 1) = nI L) : aC σ i L [] = σ := by
  unfold aC
  show up3 (row3 σ 44 i (σ 44 i)) 13 i 1 (nI (L + 0)) = σ
  rw [row3_self, Nat.add_zero, up_self h]
theorem aM_nil {σ : St} {i L : Nat} (h : (σ 15 i 26) = nI L) : aM σ i L [] = σ := by
  unfold aM
  show up3 (row3 σ 71 i (σ 71 i)) 15 i 26 (nI (L + 0)) = σ
  rw [row3_self, Nat.add_zero, up_self h]
/-- a place to write at: how long it is, and the room -/
abbrev wC (σ : St) (i L : Nat) : Prop := (σ 13 i 1) = nI L ∧ σ 90 (i + 1) 0 = 66047
theorem wC.a {σ : St} {i L : Nat} {l : List Nat} (h : wC σ i L) : wC (aC σ i L l) i (L + l.length) := ⟨aC_13, by rw [aC_o (by decide) (by decide)]; exact h.2⟩
theorem s13_put {σ : St} {i L u : Nat} {Q : St → Prop} (h : wC σ i L) (hL : L < 66047) (hu : u < 128) (hq : Q (aC σ i L [u])) : w13_put σ i (nI u) Q := by
  unfold w13_put
  rw [h.1, h.2, cl (by omega)]
  refine ⟨vin (N := (66047 : Int32).toNatClampNeg) (by show L < 66047; omega) (by omega), fun s1 e1 s2 e2 => ?_⟩
  have hb := by_n u hu
  rw [show (nI u).toInt8.toInt32 = nI u from hb, show (nI u).toInt8.toInt32 = nI u from hb] at e1
  have v : s1 13 i 1 = nI L := by rw [e1, up3_g, if_neg (by omega)]; exact h.1
  rw [v, nI_1, e1] at e2
  rw [e2]
  exact hq
theorem s14_code {τ : St} {i L u : Nat} {Q : St → Prop} (h : (τ 15 i 26) = nI L) (hL : L < 512) (hu : u < 128) (hq : Q (aM τ i L [u])) : w14_code τ i (nI u) Q := by
  unfold w14_code
  rw [h, cl (by omega)]
  refine ⟨vin (by omega) (by omega), fun s1 e1 s2 e2 => ?_⟩
  have hb := by_n u hu
  rw [show (nI u).toInt8.toInt32 = nI u from hb, show (nI u).toInt8.toInt32 = nI u from hb] at e1
  have v : s1 15 i 26 = nI L := by rw [e1, up3_g, if_neg (by omega)]; exact h
  rw [v, nI_1, e1] at e2
  rw [e2]
  exact hq
/-- the codes of a text from a place on -/
def tlk (t : Nat) : Nat → Nat → List Nat
  | _, 0 => []
  | k, m + 1 => sc t k :: tlk t (k + 1) m
theorem tlk_len (t : Nat) : ∀ m k, (tlk t k m).length = m := by
  intro m
  induction m with
  | zero => intro k; rfl
  | succ m ih => intro k; simp only [tlk, List.length_cons, ih]
def tl (t : Nat) : List Nat := tlk t 0 (sn t)
theorem tl_len (t : Nat) : (tl t).length = sn t := tlk_len t _ _
theorem s13_say_L {i t : Nat} {Q K : St → Prop} (ht : t < 83) : ∀ (m k : Nat) (σ : St) (L : Nat), k + m = sn t → wC σ i L → L + m ≤ 66047 → K (aC σ i L (tlk t k m)) → w13_say_L2 i t Q K (m + 1) σ (nI k) := by
  intro m
  have hs := sn_le t ht
  induction m with
  | zero =>
    intro k σ L hk h hL hK
    unfold tlk at hK
    rw [aC_nil h.1] at hK
    exact sJ_length (br_t (nI_le (by omega) (by omega)) hK)
  | succ m ih =>
    intro k σ L hk h hL hK
    obtain ⟨s2, s3, s4⟩ := sc_lt t ht k (by omega)
    refine sJ_length (br_f (nI_ge (by omega) (by omega)) (sJ_charAt ht (by omega) (s13_put h (by omega) s3 ?_)))
    rw [nI_1]
    refine ih (k + 1) _ (L + 1) (by omega) h.a (by omega) ?_
    rw [show L + 1 = L + [sc t k].length from rfl, aC_aC]
    exact hK
theorem s13_say {σ : St} {i t L : Nat} {Q : St → Prop} (ht : t < 83) (h : wC σ i L) (hL : L + 40 ≤ 66047) (hq : Q (aC σ i L (tl t))) : w13_say σ i t Q :=
  ⟨sn t + 1, s13_say_L ht (sn t) 0 σ L (by omega) h (by have := sn_le t ht; omega) hq⟩
theorem s14_say_L {i t : Nat} {Q K : St → Prop} (ht : t < 83) : ∀ (m k : Nat) (τ : St) (L : Nat), k + m = sn t → (τ 15 i 26) = nI L → L + m ≤ 512 → K (aM τ i L (tlk t k m)) → w14_say_L2 i t Q K (m + 1) τ (nI k) := by
  intro m
  have hs := sn_le t ht
  induction m with
  | zero =>
    intro k τ L hk h hL hK
    unfold tlk at hK
    rw [aM_nil h] at hK
    exact sJ_length (br_t (nI_le (by omega) (by omega)) hK)
  | succ m ih =>
    intro k τ L hk h hL hK
    obtain ⟨s2, s3, s4⟩ := sc_lt t ht k (by omega)
    refine sJ_length (br_f (nI_ge (by omega) (by omega)) (sJ_charAt ht (by omega) (s14_code h (by omega) s3 ?_)))
    rw [nI_1]
    refine ih (k + 1) _ (L + 1) (by omega) aM_26 (by omega) ?_
    rw [show L + 1 = L + [sc t k].length from rfl, aM_aM]
    exact hK
theorem s14_say {τ : St} {i t L : Nat} {Q : St → Prop} (ht : t < 83) (h : (τ 15 i 26) = nI L) (hL : L + 40 ≤ 512) (hq : Q (aM τ i L (tl t))) : w14_say τ i t Q :=
  ⟨sn t + 1, s14_say_L ht (sn t) 0 τ L (by omega) h (by have := sn_le t ht; omega) hq⟩
theorem s13_line {σ : St} {i t L : Nat} {Q : St → Prop} (ht : t < 83) (h : wC σ i L) (hL : L + 50 ≤ 66047) (hq : Q (aC σ i L (tl t ++ [13, 10]))) : w13_line σ i t Q := by
  have hs := sn_le t ht
  have hl := tl_len t
  refine s13_say ht h (by omega) (s13_put (u := 13) h.a (by omega) (by omega) (s13_put (u := 10) (h.a.a) ?_ (by omega) ?_))
  · simp only [List.length_cons, List.length_nil]; omega
  · rw [aC_aC, aC_aC]
    exact hq
theorem s14_line {τ : St} {i L : Nat} {Q : St → Prop} (h : (τ 15 i 26) = nI L) (hL : L + 2 ≤ 512) (hq : Q (aM τ i L [13, 10])) : w14_line τ i Q := by
  refine s14_code (u := 13) h (by omega) (by omega) (s14_code (u := 10) (L := L + 1) aM_26 (by omega) (by omega) ?_)
  rw [show L + 1 = L + [13].length from rfl, aM_aM]
  exact hq
/-- numbers -/
def ugo (n : Nat) : Nat → Nat → Nat
  | 0, u => u
  | m + 1, u => if n / u ≤ 9 then u else ugo n m (u * 10)
def dgl (n : Nat) : Nat → Nat → List Nat
  | 0, _ => []
  | m + 1, u => if u = 0 then [] else (48 + n / u % 10) :: dgl n m (u / 10)
def dgs (n : Nat) : List Nat := dgl n 6 (ugo n 5 1)
theorem ugo_le {n : Nat} : ∀ m u, ugo n m u ≤ u * 10 ^ m := by
  intro m
  induction m with
  | zero => intro u; unfold ugo; omega
  | succ m ih =>
    intro u
    unfold ugo
    have hp : 1 ≤ 10 ^ m := Nat.one_le_pow _ _ (by decide)
    split
    · rw [Nat.pow_succ]
      exact Nat.le_mul_of_pos_right u (by omega)
    · have := ih (u * 10)
      rw [Nat.pow_succ, Nat.mul_comm (10 ^ m) 10, ← Nat.mul_assoc]
      exact this
theorem dgl_len {n : Nat} : ∀ m u, (dgl n m u).length ≤ m := by
  intro m
  induction m with
  | zero => intro u; exact Nat.le_refl _
  | succ m ih =>
    intro u
    unfold dgl
    split
    · exact Nat.zero_le _
    · have := ih (u / 10)
      simp only [List.length_cons]
      omega
theorem s13_nu_L2 {σ : St} {i n : Nat} {Q : St → Prop} {K : Int32 → Prop} (hn : n < 100000) : ∀ (m u : Nat), 0 < u → u * 10 ^ m ≤ 100000 → n < 10 * (u * 10 ^ m) → K (nI (ugo n m u)) → w13_number_L2 σ i (nI n) Q K (m + 1) (nI u) := by
  intro m
  induction m with
  | zero =>
    intro u hu h1 h2 hK
    rw [Nat.pow_zero, Nat.mul_one] at h1 h2
    have : n / u ≤ 9 := by
      have : n / u < 10 := Nat.div_lt_of_lt_mul (by omega)
      omega
    refine ⟨nI_ne0 (by omega) (by omega), br_t ?_ hK⟩
    rw [pk_div (by omega) hu (by omega)]
    exact nI_le (b := 9) this (by omega)
  | succ m ih =>
    intro u hu h1 h2 hK
    have hp : 1 ≤ 10 ^ m := Nat.one_le_pow _ _ (by decide)
    have e1 : u * 10 ^ (m + 1) = u * 10 * 10 ^ m := by rw [Nat.pow_succ, Nat.mul_comm (10 ^ m) 10, ← Nat.mul_assoc]
    have h3 : u * 10 ≤ u * 10 * 10 ^ m := Nat.le_mul_of_pos_right _ (by omega)
    refine ⟨nI_ne0 (by omega) (by omega), ?_⟩
    rw [pk_div (by omega) hu (by omega)]
    have hd : n / u ≤ n := Nat.div_le_self _ _
    unfold ugo at hK
    by_cases c : n / u ≤ 9
    · rw [if_pos c] at hK
      exact br_t (nI_le (b := 9) c (by omega)) hK
    · rw [if_neg c] at hK
      refine br_f (nI_ge (a := 9) (by omega) (by omega)) ?_
      rw [show nI u * 10 = nI (u * 10) from pk_mul u 10]
      exact ih (u * 10) (by omega) (by omega) (by omega) hK
theorem s14_nu_L2 {σ : St} {i n : Nat} {Q : St → Prop} {K : Int32 → Prop} (hn : n < 100000) : ∀ (m u : Nat), 0 < u → u * 10 ^ m ≤ 100000 → n < 10 * (u * 10 ^ m) → K (nI (ugo n m u)) → w14_sayNumber_L2 σ i (nI n) Q K (m + 1) (nI u) := by
  intro m
  induction m with
  | zero =>
    intro u hu h1 h2 hK
    rw [Nat.pow_zero, Nat.mul_one] at h1 h2
    have : n / u < 10 := Nat.div_lt_of_lt_mul (by omega)
    refine ⟨nI_ne0 (by omega) (by omega), br_t ?_ hK⟩
    rw [pk_div (by omega) hu (by omega)]
    exact nI_lt (b := 10) this (by omega)
  | succ m ih =>
    intro u hu h1 h2 hK
    have hp : 1 ≤ 10 ^ m := Nat.one_le_pow _ _ (by decide)
    have e1 : u * 10 ^ (m + 1) = u * 10 * 10 ^ m := by rw [Nat.pow_succ, Nat.mul_comm (10 ^ m) 10, ← Nat.mul_assoc]
    have h3 : u * 10 ≤ u * 10 * 10 ^ m := Nat.le_mul_of_pos_right _ (by omega)
    refine ⟨nI_ne0 (by omega) (by omega), ?_⟩
    rw [pk_div (by omega) hu (by omega)]
    have hd : n / u ≤ n := Nat.div_le_self _ _
    unfold ugo at hK
    by_cases c : n / u ≤ 9
    · rw [if_pos c] at hK
      exact br_t (nI_lt (b := 10) (by omega) (by omega)) hK
    · rw [if_neg c] at hK
      refine br_f (nI_nlt (b := 10) (by omega) (by omega)) ?_
      rw [show nI u * 10 = nI (u * 10) from pk_mul u 10]
      exact ih (u * 10) (by omega) (by omega) (by omega) hK
theorem dg_e {n u : Nat} (hn : n < 100000) (hu : 0 < u) (hu2 : u ≤ 100000) : (48 : Int32) + ((nI n / nI u) - (nI n / nI u) / 10 * 10) = nI (48 + n / u % 10) := by
  have hd : n / u ≤ n := Nat.div_le_self _ _
  rw [pk_div (by omega) hu (by omega), show nI (n / u) - nI (n / u) / 10 * 10 = nI (n / u % 10) from pk_rem (d := 10) (by omega) (by decide) (by decide)]
  exact nI_add 48 _
theorem s13_nu_L18 {i n : Nat} {Q K : St → Prop} (hn : n < 100000) : ∀ (m u : Nat) (σ : St) (L : Nat), u < 10 ^ m → u ≤ 100000 → wC σ i L → L + m ≤ 66047 → K (aC σ i L (dgl n m u)) → w13_number_L18 i (nI n) Q K (m + 1) σ (nI u) := by
  intro m
  induction m with
  | zero =>
    intro u σ L h1 h2 h hL hK
    have : u = 0 := by rw [Nat.pow_zero] at h1; omega
    subst this
    unfold dgl at hK
    rw [aC_nil h.1] at hK
    exact br_t (by decide) hK
  | succ m ih =>
    intro u σ L h1 h2 h hL hK
    unfold dgl at hK
    by_cases c : u = 0
    · rw [if_pos c, aC_nil h.1] at hK
      exact br_t (by rw [c]; decide) hK
    · rw [if_neg c] at hK
      refine br_f (nI_nle (by omega) (by omega)) ⟨nI_ne0 (by omega) (by omega), ?_⟩
      rw [dg_e hn (by omega) h2]
      have hm : n / u % 10 < 10 := Nat.mod_lt _ (by decide)
      refine s13_put h (by omega) (by omega) ?_
      rw [show nI u / 10 = nI (u / 10) from pk_div (d := 10) (by omega) (by decide) (by decide)]
      refine ih (u / 10) _ (L + 1) ?_ (by omega) h.a (by omega) ?_
      · rw [Nat.pow_succ] at h1; omega
      · rw [show L + 1 = L + [48 + n / u % 10].length from rfl, aC_aC]
        exact hK
theorem s14_nu_L21 {i n : Nat} {Q K : St → Prop} (hn : n < 100000) : ∀ (m u : Nat) (τ : St) (L : Nat), u < 10 ^ m → u ≤ 100000 → (τ 15 i 26) = nI L → L + m ≤ 512 → K (aM τ i L (dgl n m u)) → w14_sayNumber_L21 i (nI n) Q K (m + 1) τ (nI u) := by
  intro m
  induction m with
  | zero =>
    intro u τ L h1 h2 h hL hK
    have : u = 0 := by rw [Nat.pow_zero] at h1; omega
    subst this
    unfold dgl at hK
    rw [aM_nil h] at hK
    exact br_t (by decide) hK
  | succ m ih =>
    intro u τ L h1 h2 h hL hK
    unfold dgl at hK
    by_cases c : u = 0
    · rw [if_pos c, aM_nil h] at hK
      exact br_t (by rw [c]; decide) hK
    · rw [if_neg c] at hK
      refine br_f (nI_nle (by omega) (by omega)) ⟨nI_ne0 (by omega) (by omega), ?_⟩
      rw [dg_e hn (by omega) h2]
      have hm : n / u % 10 < 10 := Nat.mod_lt _ (by decide)
      refine s14_code h (by omega) (by omega) ?_
      rw [show nI u / 10 = nI (u / 10) from pk_div (d := 10) (by omega) (by decide) (by decide)]
      refine ih (u / 10) _ (L + 1) ?_ (by omega) aM_26 (by omega) ?_
      · rw [Nat.pow_succ] at h1; omega
      · rw [show L + 1 = L + [48 + n / u % 10].length from rfl, aM_aM]
        exact hK
theorem dgs_len (n : Nat) : (dgs n).length ≤ 6 := dgl_len _ _
theorem s13_number {σ : St} {i n L : Nat} {Q : St → Prop} (hn : n < 100000) (h : wC σ i L) (hL : L + 6 ≤ 66047) (hq : Q (aC σ i L (dgs n))) : w13_number σ i (nI n) Q := by
  have hu := ugo_le (n := n) 5 1
  refine ⟨6, s13_nu_L2 hn 5 1 (by decide) (by decide) (by omega) ⟨7, s13_nu_L18 hn 6 _ σ L (by omega) (by omega) h hL hq⟩⟩
theorem s14_sayNumber {τ : St} {i n L : Nat} {Q : St → Prop} (hn : n < 100000) (h : (τ 15 i 26) = nI L) (hL : L + 6 ≤ 512) (hq : Q (aM τ i L (dgs n))) : w14_sayNumber τ i (nI n) Q := by
  have hu := ugo_le (n := n) 5 1
  refine ⟨6, s14_nu_L2 hn 5 1 (by decide) (by decide) (by omega) ⟨7, s14_nu_L21 hn 6 _ τ L (by omega) (by omega) h hL hq⟩⟩
