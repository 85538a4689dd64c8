/-! marks of files -/
set_option maxRecDepth 100000
def nib (v s : Int32) : Nat := (v >>> s).toBitVec.toNat % 16
theorem nib_e (v s : Int32) : (v >>> s) &&& 15 = nI (nib v s) := pk_and _ 4 (by decide)
theorem nib_lt (v s : Int32) : nib v s < 16 := Nat.mod_lt _ (by decide)
def hxd (d : Nat) : Nat := if d < 10 then 48 + d else 87 + d
theorem hxd_0 : ∀ d, d < 16 → sc 0 d = hxd d := by decide
theorem hxd_22 : ∀ d, d < 16 → sc 22 d = hxd d := by decide
theorem hxd_lt {d : Nat} (h : d < 16) : hxd d < 128 := by unfold hxd; split <;> omega
/-- the digit k of a mark -/
def hx1 (v : Int32) (k : Nat) : Nat := hxd (nib v (nI (28 - 4 * k) &&& 31))
theorem hx1_lt (v : Int32) (k : Nat) : hx1 v k < 128 := hxd_lt (nib_lt _ _)
def hxl (v : Int32) : Nat → Nat → List Nat
  | _, 0 => []
  | k, m + 1 => hx1 v k :: hxl v (k + 1) m
theorem hxl_len (v : Int32) : ∀ m k, (hxl v k m).length = m := by
  intro m
  induction m with
  | zero => intro k; rfl
  | succ m ih => intro k; simp only [hxl, List.length_cons, ih]
theorem s14_hexDigit {τ : St} {v : Int32} {k : Nat} {Q : Int32 → Prop} (hk : k < 8) (hq : Q (nI (hx1 v k))) : w14_hexDigit τ v (nI k) Q := by
  have e1 : (28 : Int32) - 4 * nI k = nI (28 - 4 * k) := by
    rw [show (4 : Int32) * nI k = nI (4 * k) from pk_mul 4 k]
    exact pk_sub (a := 28) (by omega)
  unfold w14_hexDigit
  rw [e1, nib_e]
  have hl := nib_lt v (nI (28 - 4 * k) &&& 31)
  unfold hx1 hxd at hq
  generalize nib v (nI (28 - 4 * k) &&& 31) = d at *
  by_cases c : d < 10
  · rw [if_pos c] at hq
    refine br_f (nI_ge (b := 10) c (by omega)) ?_
    rw [show (48 : Int32) + nI d = nI (48 + d) from nI_add 48 d]
    exact hq
  · rw [if_neg c] at hq
    refine br_t (nI_le (a := 10) (by omega) (by omega)) ?_
    rw [show (97 : Int32) + nI d = nI (97 + d) from nI_add 97 d, show nI (97 + d) - 10 = nI (97 + d - 10) from pk_sub (b := 10) (by omega), show 97 + d - 10 = 87 + d by omega]
    exact hq
theorem s13_mark_L {i : Nat} {v : Int32} {Q K : St → Prop} : ∀ (m k : Nat) (σ : St) (L : Nat), k + m = 8 → wC σ i L → L + m ≤ 66047 → K (aC σ i L (hxl v k m)) → w13_mark_L9 i v Q K (m + 1) σ (nI 28 - nI (4 * k)) := by
  intro m
  induction m with
  | zero =>
    intro k σ L hk h hL hK
    have : k = 8 := by omega
    subst this
    unfold hxl at hK
    rw [aC_nil h.1] at hK
    exact br_t (by decide) hK
  | succ m ih =>
    intro k σ L hk h hL hK
    have e1 : nI 28 - nI (4 * k) = nI (28 - 4 * k) := pk_sub (by omega)
    have e2 : nI 28 - nI (4 * k) + (-4) = nI 28 - nI (4 * (k + 1)) := by
      have : nI (4 * (k + 1)) = nI (4 * k) + 4 := by rw [Nat.mul_add]; exact (nI_add (4 * k) 4).symm
      rw [this]
      grind
    refine br_f (by rw [e1]; exact nI_nlt (b := 0) (by omega) (by omega)) ?_
    rw [e2, e1, nib_e]
    have hl := nib_lt v (nI (28 - 4 * k) &&& 31)
    refine sJ_charAt (by decide) (by show _ < 16; exact hl) ?_
    rw [hxd_0 _ hl]
    refine s13_put h (by omega) (hxd_lt hl) ?_
    refine ih (k + 1) _ (L + 1) (by omega) h.a (by omega) ?_
    rw [show L + 1 = L + [hxd (nib v (nI (28 - 4 * k) &&& 31))].length from rfl, aC_aC]
    exact hK
theorem s13_mark {σ : St} {i L : Nat} {v : Int32} {Q : St → Prop} (h : wC σ i L) (hL : L + 10 ≤ 66047) (hq : Q (aC σ i L ([34] ++ hxl v 0 8 ++ [34]))) : w13_mark σ i v Q := by
  refine s13_put (u := 34) h (by omega) (by omega) ⟨9, ?_⟩
  have := s13_mark_L (i := i) (v := v) (Q := Q) (K := fun σ5 => w13_put σ5 i 34 (fun σ6 => (Q σ6))) 8 0 (aC σ i L [34]) (L + 1) (by omega) h.a (by omega) ?_
  · exact this
  · have h9 := hxl_len v 8 0
    refine s13_put (u := 34) (L := L + 1 + (hxl v 0 8).length) (wC.a (L := L + 1) h.a) (by omega) (by omega) ?_
    rw [show L + 1 = L + [34].length from rfl, aC_aC, aC_aC, ← List.append_assoc]
    exact hq
theorem s14_mk_L164 {i e : Nat} {x3 x4 : Int32} {Q K : St → Prop} (he : e < 64) (v : Int32) : ∀ (m k : Nat) (τ : St) (L : Nat), k + m = 8 → τ 55 0 e = v → (τ 15 i 26) = nI L → L + m ≤ 512 → K (aM τ i L (hxl v k m)) → w14_make_L164 i (nI e) x3 x4 Q K (m + 1) τ (nI k) := by
  intro m
  induction m with
  | zero =>
    intro k τ L hk hv h hL hK
    unfold hxl at hK
    rw [aM_nil h] at hK
    exact br_t (nI_le (a := 8) (by omega) (by omega)) hK
  | succ m ih =>
    intro k τ L hk hv h hL hK
    refine br_f (nI_ge (b := 8) (by omega) (by omega)) ?_
    rw [cl (by omega), hv]
    refine ⟨vin (by omega) (by omega), s14_hexDigit (by omega) (s14_code h (by omega) (hx1_lt v k) ?_)⟩
    rw [nI_1]
    refine ih (k + 1) _ (L + 1) (by omega) (by rw [aM_o (by decide) (by decide)]; exact hv) aM_26 (by omega) ?_
    rw [show L + 1 = L + [hx1 v k].length from rfl, aM_aM]
    exact hK
/-- whether the mark of a request is that of a file, or * -/
def mkfd (N : Nat → Nat) (a b : Nat) (v : Int32) : Prop := isW N a b 21 ∨ b - a = 10 ∧ N a = 34 ∧ N (b - 1) = 34 ∧ ∀ k, k < 8 → N (a + 1 + k) = hx1 v k
theorem isW_56 {N : Nat → Nat} {a b : Nat} : isW N a b 56 ↔ isW N a b 21 := Iff.rfl
theorem s9_im_L {σ : St} {a : Nat} {v : Int32} {Q : Int32 → Prop} {K0 K1 : Prop} (ha : a + 10 ≤ 4096) (hm : (σ 9 0 11) = nI a) : ∀ (m k : Nat), k + m = 8 → ((∀ j, k ≤ j → j < 8 → nC σ (a + 1 + j) = hx1 v j) → K1) → (¬ (∀ j, k ≤ j → j < 8 → nC σ (a + 1 + j) = hx1 v j) → K0) → w9_isMarked_L76 σ v Q K0 K1 (m + 1) (nI k) := by
  intro m
  induction m with
  | zero => intro k hk h1 h0; exact br_t (nI_le (a := 8) (by omega) (by omega)) (h1 (fun j _ _ => by omega))
  | succ m ih =>
    intro k hk h1 h0
    have e1 : (28 : Int32) - 4 * nI k = nI (28 - 4 * k) := by
      rw [show (4 : Int32) * nI k = nI (4 * k) from pk_mul 4 k]
      exact pk_sub (a := 28) (by omega)
    refine br_f (nI_ge (b := 8) (by omega) (by omega)) ?_
    rw [hm, show nI a + 1 = nI (a + 1) from nI_1 _, nI_add, cl (by omega), e1, nib_e, show nI k + 1 = nI (k + 1) from nI_1 _]
    refine ⟨vin (by omega) (by omega), fun hby => ?_⟩
    have hl := nib_lt v (nI (28 - 4 * k) &&& 31)
    refine sJ_charAt (by decide) (by show _ < 16; exact hl) ?_
    rw [hxd_22 _ hl]
    have q := by_eq hby (hxd_lt hl)
    by_cases c : ub (σ 40 0 (a + 1 + k)) = hx1 v k
    · refine br_t (q.mpr c) (ih (k + 1) (by omega) (fun z => h1 (fun j a1 a2 => ?_)) (fun z => h0 (fun z2 => z (fun j a1 a2 => z2 j (by omega) a2))))
      by_cases cj : j = k
      · rw [cj]; exact c
      · exact z j (by omega) a2
    · exact br_f (fun z => c (q.mp z)) (h0 (fun z => c (z k (Nat.le_refl _) (by omega))))
theorem s14_fi_L68 {τ : St} {a e : Nat} {v : Int32} {Q : Int32 → Prop} {K0 K1 : Prop} (ha : a + 10 ≤ 4096) (he : e < 64) (hv : τ 55 0 e = v) (hm : (τ 14 0 61) = nI a) : ∀ (m k : Nat), k + m = 8 → ((∀ j, k ≤ j → j < 8 → nM τ (a + 1 + j) = hx1 v j) → K1) → (¬ (∀ j, k ≤ j → j < 8 → nM τ (a + 1 + j) = hx1 v j) → K0) → w14_fits_L68 τ (nI e) Q K0 K1 (m + 1) (nI k) := by
  intro m
  induction m with
  | zero => intro k hk h1 h0; exact br_t (nI_le (a := 8) (by omega) (by omega)) (h1 (fun j _ _ => by omega))
  | succ m ih =>
    intro k hk h1 h0
    refine br_f (nI_ge (b := 8) (by omega) (by omega)) ?_
    rw [hm, show nI a + 1 = nI (a + 1) from nI_1 _, nI_add, cl (by omega), hv, show nI k + 1 = nI (k + 1) from nI_1 _]
    have hu := ub_lt (τ 66 0 (a + 1 + k))
    have hx := hx1_lt v k
    refine s14_headAt (by omega) ⟨vin (by omega) (by omega), s14_hexDigit (by omega) ?_⟩
    by_cases c : ub (τ 66 0 (a + 1 + k)) = hx1 v k
    · refine br_t (by rw [c]) (ih (k + 1) (by omega) (fun z => h1 (fun j a1 a2 => ?_)) (fun z => h0 (fun z2 => z (fun j a1 a2 => z2 j (by omega) a2))))
      by_cases cj : j = k
      · rw [cj]; exact c
      · exact z j (by omega) a2
    · exact br_f (fun z => c ((nI_eq (by omega) (by omega)).mp z)) (h0 (fun z => c (z k (Nat.le_refl _) (by omega))))
theorem s9_isMarked {σ : St} {a b e : Nat} {v : Int32} {Q : Int32 → Prop} (hr : rowIs σ 22) (he : e < 64) (hv : four (σ 22 0) (8 + 64 * e + 56) = v) (ha : (σ 9 0 11) = nI a) (hb : (σ 9 0 12) = nI b) (hab : a ≤ b) (hb4 : b ≤ 4096) (h1 : mkfd (nC σ) a b v → Q 1) (h0 : ¬ mkfd (nC σ) a b v → Q 0) : w9_isMarked σ (nI e) Q := by
  unfold w9_isMarked
  rw [ha, hb]
  refine s9_isExactly (by decide) hab hb4 (fun w => br_f (by decide) (h1 (Or.inl w))) (fun w => br_t rfl ?_)
  rw [pk_sub hab]
  by_cases c1 : b - a = 10
  rotate_left
  · exact br_v (fun z => c1 ((nI_eq (b := 10) (by omega) (by omega)).mp z)) (h0 (fun z => z.elim w (fun y => c1 y.1)))
  refine br_u (by rw [c1]; rfl) ?_
  rw [cl (by omega)]
  refine ⟨vin (by omega) (by omega), fun hby => ?_⟩
  have q1 := by_eq (v := 34) hby (by omega)
  by_cases c2 : ub (σ 40 0 a) = 34
  rotate_left
  · exact br_v (fun z => c2 (q1.mp z)) (h0 (fun z => z.elim w (fun y => c2 y.2.1)))
  refine br_u (q1.mpr c2) ?_
  rw [show nI b - 1 = nI (b - 1) from pk_sub (b := 1) (by omega), cl (by omega)]
  refine ⟨vin (by omega) (by omega), fun hby => ?_⟩
  have q2 := by_eq (v := 34) hby (by omega)
  by_cases c3 : ub (σ 40 0 (b - 1)) = 34
  rotate_left
  · exact br_f (fun z => c3 (q2.mp z)) (h0 (fun z => z.elim w (fun y => c3 y.2.2.1)))
  refine br_t (q2.mpr c3) (s1_mark hr (by omega) (by show _ ≤ 4104; omega) ?_)
  rw [hv]
  exact ⟨9, s9_im_L (by omega) ha 8 0 (by omega) (fun z => h1 (Or.inr ⟨c1, c2, c3, fun k hk => z k (by omega) hk⟩)) (fun z => h0 (fun y => y.elim w (fun y => z (fun j _ hj => y.2.2.2 j hj))))⟩
theorem s14_fits {τ : St} {a b e : Nat} {v : Int32} {Q : Int32 → Prop} (he : e < 64) (hv : τ 55 0 e = v) (ha : (τ 14 0 61) = nI a) (hb : (τ 14 0 62) = nI b) (hab : a ≤ b) (hb4 : b ≤ 4096) (h1 : mkfd (nM τ) a b v → Q 1) (h0 : ¬ mkfd (nM τ) a b v → Q 0) : w14_fits τ (nI e) Q := by
  unfold w14_fits
  rw [ha, hb]
  refine s14_says (by decide) hab hb4 (fun w => br_f (by decide) (h1 (Or.inl (isW_56.mp w)))) (fun w => br_t rfl ?_)
  have w : ¬ isW (nM τ) a b 21 := fun z => w (isW_56.mpr z)
  rw [pk_sub hab]
  by_cases c1 : b - a = 10
  rotate_left
  · exact br_v (fun z => c1 ((nI_eq (b := 10) (by omega) (by omega)).mp z)) (h0 (fun z => z.elim w (fun y => c1 y.1)))
  refine br_u (by rw [c1]; rfl) ?_
  rw [cl (by omega)]
  refine ⟨vin (by omega) (by omega), fun hby => ?_⟩
  have q1 := by_eq (v := 34) hby (by omega)
  by_cases c2 : ub (τ 66 0 a) = 34
  rotate_left
  · exact br_v (fun z => c2 (q1.mp z)) (h0 (fun z => z.elim w (fun y => c2 y.2.1)))
  refine br_u (q1.mpr c2) ?_
  rw [show nI b - 1 = nI (b - 1) from pk_sub (b := 1) (by omega), cl (by omega)]
  refine ⟨vin (by omega) (by omega), fun hby => ?_⟩
  have q2 := by_eq (v := 34) hby (by omega)
  by_cases c3 : ub (τ 66 0 (b - 1)) = 34
  rotate_left
  · exact br_f (fun z => c3 (q2.mp z)) (h0 (fun z => z.elim w (fun y => c3 y.2.2.1)))
  exact br_t (q2.mpr c3) ⟨9, s14_fi_L68 (by omega) he hv ha 8 0 (by omega) (fun z => h1 (Or.inr ⟨c1, c2, c3, fun k hk => z k (by omega) hk⟩)) (fun z => h0 (fun y => y.elim w (fun y => z (fun j _ hj => y.2.2.2 j hj))))⟩
