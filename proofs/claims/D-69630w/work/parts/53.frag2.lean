/-! fragments: the relation, and what goes -/
set_option maxRecDepth 100000
theorem s6_remove_L {o2 k w : Nat} {h0 : Nat → Nat} {Q K : St → Prop} (hw4 : w ≤ 4) (hh : ∀ i, i < 4 → h0 i < 4) (σ0 : St) (hK : ∀ σ', Fr (mF [37] [] [] []) σ0 σ' → (∀ i, i < 4 → frw σ' i = if k ≤ i ∧ i + 1 < w then h0 (i + 1) else h0 i) → K σ') : ∀ (m x : Nat) (σ : St), x + m + 1 = w → k ≤ x → (σ 6 0 1) = nI w → Fr (mF [37] [] [] []) σ0 σ → (∀ i, i < 4 → frw σ i = if k ≤ i ∧ i < x then h0 (i + 1) else h0 i) → w6_remove_L9 o2 Q K (m + 1) σ (nI x) := by
  intro m
  induction m with
  | zero =>
    intro x σ hx hk hw f hi
    refine br_t (by rw [hw, nI_1]; exact nI_le (by omega) (by omega)) (hK σ f (fun i h => ?_))
    rw [hi i h]
    by_cases c : k ≤ i ∧ i < x
    · rw [if_pos c, if_pos (by omega)]
    · rw [if_neg c, if_neg (by omega)]
  | succ m ih =>
    intro x σ hx hk hw f hi
    have hv : (σ 37 0 (x + 1)).toNatClampNeg = h0 (x + 1) := by
      have := hi (x + 1) (by omega)
      rw [if_neg (by omega)] at this
      exact this
    refine br_f (by rw [hw, nI_1]; exact nI_ge (by omega) (by omega)) ?_
    rw [nI_1, cl (by omega), cl (by omega), hv]
    refine ⟨vin (by omega) (by omega), hh _ (by omega), vin (by omega) (by omega), fun s3 e3 => ?_⟩
    have hh1 := hh (x + 1) (by omega)
    refine ih (x + 1) s3 (by omega) (by omega) (by rw [e3, up3_g, if_neg (by omega)]; exact hw) (by rw [e3]; exact f.up rfl) (fun i h => ?_)
    unfold frw
    rw [e3, up3_g]
    by_cases c : i = x
    · rw [if_pos ⟨rfl, rfl, c⟩, if_pos (by omega), cl (by omega), c]
    · rw [if_neg (fun z => c z.2.2)]
      show frw σ i = _
      rw [hi i h]
      by_cases c2 : k ≤ i ∧ i < x
      · rw [if_pos c2, if_pos (by omega)]
      · rw [if_neg c2, if_neg (by omega)]
theorem s6_remove {σ : St} {k w : Nat} {Q : St → Prop} (hw4 : w ≤ 4) (hk : k < w) (hw : (σ 6 0 1) = nI w) (hP : RPf σ) (hq : ∀ σ', Fr (mF [37] [] [(6, [1])] []) σ σ' → (σ' 6 0 1) = nI (w - 1) → (∀ i, i < 4 → frw σ' i = rm (frw σ) k w i) → Q σ') : w6_remove σ (nI k) Q := by
  unfold w6_remove
  rw [cl (by omega)]
  refine ⟨vin (by omega) (by omega), hP.1 k (by omega), (w - 1 - k) + 1, s6_remove_L (k := k) (w := w) (h0 := frw σ) hw4 hP.1 σ (fun s5 f5 h5 => ?_) (w - 1 - k) k σ (by omega) (Nat.le_refl _) hw Fr.rf (fun i _ => by rw [if_neg (by omega)])⟩
  intro s6 e6
  have w5 : s5 6 0 1 - 1 = nI (w - 1) := by
    rw [f5 6 0 1 rfl, hw]
    exact pk_sub (a := w) (b := 1) (by omega)
  rw [w5] at e6
  have w6 : s6 6 0 1 = nI (w - 1) := by rw [e6, up3_g, if_pos ⟨rfl, rfl, rfl⟩]
  rw [w6, cl (by omega)]
  refine ⟨vin (by omega) (by omega), fun s7 e7 => ?_⟩
  refine hq s7 ?_ (by rw [e7, up3_g, if_neg (by omega)]; exact w6) (fun i hi => ?_)
  · rw [e7, e6]
    exact ((f5.sub (mF_sub rfl sub_nil rfl sud_nil)).up rfl).up rfl
  · show (s7 37 0 i).toNatClampNeg = _
    rw [e7, up3_g]
    by_cases c : i = w - 1
    · rw [if_pos ⟨rfl, rfl, c⟩]
      have := hP.1 k (by omega)
      have e : (nI (σ 37 0 k).toNatClampNeg).toNatClampNeg = frw σ k := cl (by unfold frw at this; omega)
      rw [e]
      unfold rm
      rw [if_neg (by omega), if_pos (by omega)]
    · rw [if_neg (fun z => c z.2.2), e6, up3_g, if_neg (by omega)]
      show frw s5 i = _
      rw [h5 i hi]
      unfold rm
      by_cases c2 : k ≤ i ∧ i + 1 < w
      · rw [if_pos c2, if_pos c2]
      · rw [if_neg c2, if_neg c2, if_neg (by omega)]
theorem RPf_rm {σ σ' : St} {k w : Nat} (hP : RPf σ) (hw4 : w ≤ 4) (hk : k < w) (h : ∀ i, i < 4 → frw σ' i = rm (frw σ) k w i) : RPf σ' := by
  have hp : ∀ i, i < 4 → ∃ i', i' < 4 ∧ rm (frw σ) k w i = frw σ i' ∧ (if k ≤ i ∧ i + 1 < w then i' = i + 1 else if i + 1 = w then i' = k else i' = i) := by
    intro i hi
    unfold rm
    by_cases c : k ≤ i ∧ i + 1 < w
    · exact ⟨i + 1, by omega, by rw [if_pos c], by rw [if_pos c]⟩
    · by_cases c2 : i + 1 = w
      · exact ⟨k, by omega, by rw [if_neg c, if_pos c2], by rw [if_neg c, if_pos c2]⟩
      · exact ⟨i, by omega, by rw [if_neg c, if_neg c2], by rw [if_neg c, if_neg c2]⟩
  refine ⟨fun i hi => ?_, fun i i' hi hi' e => ?_⟩
  · obtain ⟨a, a1, a2, _⟩ := hp i hi
    rw [h i hi, a2]
    exact hP.1 a a1
  · obtain ⟨a, a1, a2, a3⟩ := hp i hi
    obtain ⟨b, b1, b2, b3⟩ := hp i' hi'
    rw [h i hi, h i' hi', a2, b2] at e
    have := hP.2 a b a1 b1 e
    split at a3 <;> split at b3 <;> (try split at a3) <;> (try split at b3) <;> omega
/-- whether a fragment contradicts what was told: as the component sees it -/
def badC (en rc : Int32) (to : Nat) (isL : Int32) : Prop := ¬ isL = 0 ∧ ¬ en < 0 ∧ ¬ en = nI to ∨ ¬ en < 0 ∧ en < nI to ∨ ¬ isL = 0 ∧ ¬ rc ≤ nI to
theorem s7_add {σ : St} {o0 k i at_ off n : Nat} {isL : Int32} {Q : Int32 → St → Prop} (hk : k ≠ 38 ∧ k ≠ 39 ∧ k ≠ 7) (hk90 : alen σ k i < 100000) (hno : off + n ≤ 4096) (hat : at_ + n ≤ alen σ k i)
    (hb : badC ((σ 7 o0 7)) ((σ 7 o0 6)) (off + n) isL → Q 0 σ)
    (hg : ¬ badC ((σ 7 o0 7)) ((σ 7 o0 6)) (off + n) isL → ∀ σ', Fr (mF [] [(38, o0), (39, o0)] [] [(7, o0, [6, 7])]) σ σ' → (σ' 7 o0 7) = (if isL = 0 then (σ 7 o0 7) else nI (off + n)) → (σ' 7 o0 6) = imax ((σ 7 o0 6)) (nI (off + n)) → (∀ a, σ' 39 o0 a = if off ≤ a ∧ a < off + n then 1 else σ 39 o0 a) → (∀ a, σ' 38 o0 a = if off ≤ a ∧ a < off + n ∧ σ 39 o0 a = 0 then σ k i (at_ + (a - off)) else σ 38 o0 a) → Q 1 σ') :
    w7_add σ o0 k i (nI at_) (nI off) (nI n) isL Q := by
  have eto : nI off + nI n = nI (off + n) := nI_add off n
  -- behind the checks
  have lp : ∀ (s : St), Fr (mF [] [] [] [(7, o0, [7])]) σ s → s 7 o0 7 = (if isL = 0 then (σ 7 o0 7) else nI (off + n)) → ¬ badC ((σ 7 o0 7)) ((σ 7 o0 6)) (off + n) isL → ∃ z, w7_add_L73 o0 k i (nI at_) (nI off) (nI n) (nI (off + n)) Q (fun σ5 => ∀ σ6, σ6 = up3 σ5 7 o0 6 (imax (σ5 7 o0 6) (nI (off + n))) → (Q 1 σ6)) z s 0 := by
    intro s f he hnb
    have ral : alen s k i = alen σ k i := by
      unfold alen
      rw [f.row (k := 90) (i := 0) (fun j => by simp [mF]), f.row (k := 90) (i := i + 1) (fun j => by simp [mF])]
    refine ⟨n + 1, s7_add_L s ⟨hk.1, hk.2.1⟩ (by rw [ral]; exact hk90) hno (by rw [ral]; exact hat) (fun s5 f5 h1 h2 s6 e6 => ?_) n 0 s (by omega) Fr.rf (fun a => by rw [if_neg (by omega)]) (fun a => by rw [if_neg (by omega)])⟩
    have r39 : s 39 o0 = σ 39 o0 := f.row (fun j => by simp [mF])
    have r38 : s 38 o0 = σ 38 o0 := f.row (fun j => by simp [mF])
    have rk : s k i = σ k i := f.row (fun j => by simp [mF, Ne.symm hk.2.2])
    rw [r39] at h1 h2
    rw [r38, rk] at h2
    refine hg hnb s6 ?_ ?_ ?_ (fun a => ?_) (fun a => ?_)
    · rw [e6]
      refine Fr.up ?_ (by simp [mF])
      refine Fr.tr (f.sub (fun k' i' j' z => ?_)) (f5.sub (fun k' i' j' z => ?_))
      · simp [mF] at z ⊢
        intro a b c
        exact (z.2 a b).2 c
      · simp [mF] at z ⊢
        exact z.1
    · rw [e6, up3_g, if_neg (by omega), f5 7 o0 7 (by simp [mF])]
      exact he
    · rw [e6, up3_g, if_pos ⟨rfl, rfl, rfl⟩, f5 7 o0 6 (by simp [mF]), f 7 o0 6 (by simp [mF])]
    · rw [e6, up3_g, if_neg (by omega)]
      exact h1 a
    · rw [e6, up3_g, if_neg (by omega)]
      exact h2 a
  have j43 : ¬ (¬ isL = 0 ∧ ¬ ((σ 7 o0 7)) < 0 ∧ ¬ ((σ 7 o0 7)) = nI (off + n) ∨ ¬ ((σ 7 o0 7)) < 0 ∧ ((σ 7 o0 7)) < nI (off + n)) → w7_add_J43 σ o0 k i (nI at_) (nI off) (nI n) isL (nI (off + n)) Q := by
    intro hn
    by_cases c : isL = 0
    · have hnb : ¬ badC ((σ 7 o0 7)) ((σ 7 o0 6)) (off + n) isL := by
        rintro (h | h | h)
        · exact h.1 c
        · exact hn (Or.inr h)
        · exact h.1 c
      exact br_t c (br_t c (lp σ Fr.rf (by rw [if_pos c]) hnb))
    · refine br_f c ?_
      by_cases c2 : (σ 7 o0 6) ≤ nI (off + n)
      · have hnb : ¬ badC ((σ 7 o0 7)) ((σ 7 o0 6)) (off + n) isL := by
          rintro (h | h | h)
          · exact hn (Or.inl h)
          · exact hn (Or.inr h)
          · exact h.2 c2
        refine br_t c2 (br_f c (fun s7 e7 => lp s7 (by rw [e7]; exact fr_u (by simp [mF])) (by rw [e7, up3_g, if_pos ⟨rfl, rfl, rfl⟩, if_neg c]) hnb))
      · exact br_f c2 (hb (Or.inr (Or.inr ⟨c, c2⟩)))
  unfold w7_add
  rw [eto]
  by_cases c : isL = 0
  · refine br_t c ?_
    by_cases c1 : (σ 7 o0 7) < 0
    · exact br_t c1 (j43 (by rintro (h | h); exact h.1 c; exact h.1 c1))
    · refine br_f c1 ?_
      by_cases c2 : (σ 7 o0 7) < nI (off + n)
      · exact br_t c2 (hb (Or.inr (Or.inl ⟨c1, c2⟩)))
      · exact br_f c2 (j43 (by rintro (h | h); exact h.1 c; exact c2 h.2))
  · refine br_f c ?_
    by_cases c1 : (σ 7 o0 7) < 0
    · exact br_t c1 (br_t c1 (j43 (by rintro (h | h); exact h.2.1 c1; exact h.1 c1)))
    · refine br_f c1 ?_
      by_cases c3 : (σ 7 o0 7) = nI (off + n)
      · refine br_u c3 (br_f c1 ?_)
        by_cases c2 : (σ 7 o0 7) < nI (off + n)
        · exact br_t c2 (hb (Or.inr (Or.inl ⟨c1, c2⟩)))
        · exact br_f c2 (j43 (by rintro (h | h); exact h.2.2 c3; exact c2 h.2))
      · exact br_v c3 (hb (Or.inl ⟨c, c1, c3⟩))
/-- all there, up to an end -/
def allT (f : Nat → Int32) (e : Nat) : Prop := ∀ a, a < e → f a ≠ 0
theorem s7_isWhole_L {σ : St} {o0 e : Nat} {Q : Int32 → Prop} {K19 K27 : Prop} (he : (σ 7 o0 7) = nI e) (he2 : e ≤ 4096) : ∀ (m j : Nat), j + m = e → (∀ a, a < j → σ 39 o0 a ≠ 0) → (allT (σ 39 o0) e → K27) → (¬ allT (σ 39 o0) e → K19) → w7_isWhole_L2 σ o0 Q K19 K27 (m + 1) (nI j) := by
  intro m
  induction m with
  | zero =>
    intro j hj h h1 h0
    exact br_t (by rw [he]; exact nI_le (by omega) (by omega)) (h1 (fun a ha => h a (by omega)))
  | succ m ih =>
    intro j hj h h1 h0
    refine br_f (by rw [he]; exact nI_ge (by omega) (by omega)) ⟨vin (by omega) (by omega), fun _ => ?_⟩
    rw [cl (by omega), nI_1]
    by_cases c : σ 39 o0 j = 0
    · exact br_u c (h0 (fun z => z j (by omega) c))
    · exact br_v c (ih (j + 1) (by omega) (fun a ha => by
        by_cases e : a = j
        · rw [e]; exact c
        · exact h a (by omega)) h1 h0)
theorem s14_fragment_L375 {σ : St} {x1 x2 : Int32} {o0 e : Nat} {Q : St → Prop} {K19 K27 : Prop} (he : (σ 18 o0 4) = nI e) (he2 : e ≤ 4096) : ∀ (m j : Nat), j + m = e → (∀ a, a < j → σ 70 o0 a ≠ 0) → (allT (σ 70 o0) e → K27) → (¬ allT (σ 70 o0) e → K19) → w14_fragment_L375 σ x1 x2 o0 Q K19 K27 (m + 1) (nI j) := by
  intro m
  induction m with
  | zero =>
    intro j hj h h1 h0
    exact br_t (by rw [he]; exact nI_le (by omega) (by omega)) (h1 (fun a ha => h a (by omega)))
  | succ m ih =>
    intro j hj h h1 h0
    refine br_f (by rw [he]; exact nI_ge (by omega) (by omega)) ⟨vin (by omega) (by omega), fun _ => ?_⟩
    rw [cl (by omega), nI_1]
    by_cases c : σ 70 o0 j = 0
    · exact br_u c (h0 (fun z => z j (by omega) c))
    · exact br_v c (ih (j + 1) (by omega) (fun a ha => by
        by_cases e : a = j
        · rw [e]; exact c
        · exact h a (by omega)) h1 h0)
theorem s14_fragment_L422 {x1 x2 : Int32} {o0 e : Nat} {Q K : St → Prop} (he2 : e ≤ 4096) : ∀ (m j : Nat) (σ : St), (σ 18 o0 4) = nI e → j + m = e → K (row3 σ 64 0 (va_cpy (σ 69 o0) (σ 64 0) j j m)) → w14_fragment_L422 x1 x2 o0 Q K (m + 1) σ (nI j) := by
  intro m
  induction m with
  | zero =>
    intro j σ hs hj hK
    rw [cpy_0, row3_self] at hK
    exact br_t (by rw [hs]; exact nI_le (by omega) (by omega)) hK
  | succ m ih =>
    intro j σ hs hj hK
    refine br_f (by rw [hs]; exact nI_ge (by omega) (by omega)) ?_
    refine ⟨vin (by omega) (by omega), fun hb => ⟨vin (by omega) (by omega), fun s1 e1 => ?_⟩⟩
    rw [cl (by omega)] at e1 hb
    rw [show (σ 69 o0 j).toInt8.toInt32 = σ 69 o0 j from hb, up3_as] at e1
    subst e1
    rw [nI_1]
    refine ih (j + 1) _ (by rw [row3_g, if_neg (by omega)]; exact hs) (by omega) ?_
    rw [row3_s, row3_row3, row3_o (k' := 69) (by omega), cpy_s]
    exact hK
/-- whether anything is there behind an end -/
theorem s14_fragment_L242 {σ : St} {x1 x2 x3 x4 x5 x6 x10 : Int32} {o0 to : Nat} {Q : St → Prop} {K : Int32 → Prop} : ∀ (m j : Nat) (x11 : Int32), bo x11 → to ≤ j → j + m = 4096 → (x11 = 0 → ∀ a, to ≤ a → a < j → σ 70 o0 a = 0) → (∀ w : Int32, bo w → (w = 0 → x11 = 0 ∧ ∀ a, to ≤ a → a < 4096 → σ 70 o0 a = 0) → (¬ w = 0 → ¬ x11 = 0 ∨ ∃ a, to ≤ a ∧ a < 4096 ∧ σ 70 o0 a ≠ 0) → K w) → w14_fragment_L242 σ x1 x2 x3 x4 x5 x6 o0 x10 Q K (m + 1) x11 (nI j) := by
  intro m
  induction m with
  | zero =>
    intro j x11 hb ht hj h hK
    exact br_t (nI_le (a := 4096) (by omega) (by omega)) (hK x11 hb (fun z => ⟨z, fun a h1 h2 => h z a h1 (by omega)⟩) (fun z => Or.inl z))
  | succ m ih =>
    intro j x11 hb ht hj h hK
    refine br_f (nI_ge (b := 4096) (by omega) (by decide)) ?_
    rw [nI_1]
    by_cases c : x11 = 0
    · refine br_u c ⟨vin (by omega) (by omega), fun _ => ?_⟩
      rw [cl (by omega)]
      by_cases c2 : σ 70 o0 j = 0
      · refine br_t c2 (ih (j + 1) 0 (Or.inl rfl) (by omega) (by omega) (fun _ a h1 h2 => ?_) (fun w hw hw0 hw1 => hK w hw (fun z => ⟨c, (hw0 z).2⟩) (fun z => (hw1 z).elim (fun q => absurd rfl q) Or.inr)))
        by_cases e : a = j
        · rw [e]; exact c2
        · exact h c a h1 (by omega)
      · exact br_f c2 (ih (j + 1) 1 (Or.inr rfl) (by omega) (by omega) (fun z => absurd z (by decide)) (fun w hw hw0 hw1 => hK w hw (fun z => absurd (hw0 z).1 (by decide)) (fun z => Or.inr ⟨j, ht, by omega, c2⟩)))
    · exact br_v c (ih (j + 1) 1 (Or.inr rfl) (by omega) (by omega) (fun z => absurd z (by decide)) (fun w hw hw0 hw1 => hK w hw (fun z => absurd (hw0 z).1 (by decide)) (fun z => Or.inl c)))
/-- as the model sees it -/
def badM (en : Int32) (f : Nat → Int32) (to : Nat) (more : Int32) : Prop := ¬ en < 0 ∧ (more = 0 ∧ ¬ nI to = en ∨ ¬ more = 0 ∧ ¬ nI to ≤ en) ∨ more = 0 ∧ ∃ a, to ≤ a ∧ a < 4096 ∧ f a ≠ 0
theorem s14_fragment_J184 {τ : St} {x1 x2 x4 more : Int32} {o0 off n : Nat} {Q : St → Prop} (hno : off + n ≤ 4096) (hb : badM ((τ 18 o0 4)) (τ 70 o0) (off + n) more → Q (up3 τ 18 o0 0 0)) (hg : ¬ badM ((τ 18 o0 4)) (τ 70 o0) (off + n) more → w14_fragment_J279 τ x1 x2 (nI off) x4 (nI n) more o0 (nI (off + n)) 0 Q) : w14_fragment_J184 τ x1 x2 (nI off) x4 (nI n) more o0 Q := by
  have bad : ∀ w : Int32, ¬ w = 0 → badM ((τ 18 o0 4)) (τ 70 o0) (off + n) more → w14_fragment_J279 τ x1 x2 (nI off) x4 (nI n) more o0 (nI (off + n)) w Q := fun w hw h => br_f hw (fun s e => by rw [e]; exact hb h)
  have loop : ∀ w0 : Int32, bo w0 → more = 0 → (¬ w0 = 0 → badM ((τ 18 o0 4)) (τ 70 o0) (off + n) more) → (w0 = 0 → (∀ a, off + n ≤ a → a < 4096 → τ 70 o0 a = 0) → ¬ badM ((τ 18 o0 4)) (τ 70 o0) (off + n) more) → ∃ z, w14_fragment_L242 τ x1 x2 (nI off) x4 (nI n) more o0 (nI (off + n)) Q (fun x11_46 => w14_fragment_J279 τ x1 x2 (nI off) x4 (nI n) more o0 (nI (off + n)) x11_46 Q) z w0 (nI (off + n)) := by
    intro w0 hw0 hm h1 h0
    refine ⟨(4096 - (off + n)) + 1, s14_fragment_L242 (to := off + n) (4096 - (off + n)) (off + n) w0 hw0 (Nat.le_refl _) (by omega) (fun _ a a1 a2 => by omega) (fun w hw k0 k1 => ?_)⟩
    by_cases c : w = 0
    · obtain ⟨z1, z2⟩ := k0 c
      rw [c]
      exact hg (h0 z1 z2)
    · refine bad w c ?_
      rcases k1 c with z | z
      · exact h1 z
      · exact Or.inr ⟨hm, z⟩
  unfold w14_fragment_J184
  rw [nI_add]
  by_cases c1 : (τ 18 o0 4) < 0
  · refine br_t c1 ?_
    by_cases c2 : more = 0
    · refine br_u c2 (loop 0 (Or.inl rfl) c2 (fun z => absurd rfl z) (fun _ hz => ?_))
      rintro (h | h)
      · exact h.1 c1
      · obtain ⟨_, a, a1, a2, a3⟩ := h
        exact a3 (hz a a1 a2)
    · refine br_v c2 (hg ?_)
      rintro (h | h)
      · exact h.1 c1
      · exact c2 h.1
  · refine br_f c1 ?_
    by_cases c2 : more = 0
    · refine br_t c2 ?_
      by_cases c3 : nI (off + n) = (τ 18 o0 4)
      · refine br_t c3 (br_u c2 (loop 0 (Or.inl rfl) c2 (fun z => absurd rfl z) (fun _ hz => ?_)))
        rintro (h | h)
        · rcases h.2 with h | h
          · exact h.2 c3
          · exact h.1 c2
        · obtain ⟨_, a, a1, a2, a3⟩ := h
          exact a3 (hz a a1 a2)
      · exact br_f c3 (br_u c2 (loop 1 (Or.inr rfl) c2 (fun _ => Or.inl ⟨c1, Or.inl ⟨c2, c3⟩⟩) (fun z => absurd z (by decide))))
    · refine br_f c2 ?_
      by_cases c3 : nI (off + n) ≤ (τ 18 o0 4)
      · refine br_t c3 (br_v c2 (hg ?_))
        rintro (h | h)
        · rcases h.2 with h | h
          · exact c2 h.1
          · exact h.2 c3
        · exact c2 h.1
      · exact br_f c3 (br_v c2 (bad 1 (by decide) (Or.inl ⟨c1, Or.inr ⟨c2, c3⟩⟩)))
