/-! data that came: the walks -/
set_option maxRecDepth 100000
/-- whether a number lies in the window -/
def inw (x nx w : Int32) : Bool := decide (0 ≤ x - nx ∧ ¬ 0 ≤ x - (nx + w))
theorem inw_k {x nx : Int32} {w : Nat} (h : inw x nx (nI w) = true) (hw : w ≤ 4096) : ∃ e : Nat, e < w ∧ x - nx = nI e := by
  unfold inw at h
  obtain ⟨h1, h2⟩ := of_decide_eq_true h
  generalize hD : x - nx = D at h1
  rw [Int32.le_iff_toInt_le] at h1
  have h1' : 0 ≤ D.toInt := h1
  have hb := Int32.toInt_lt D
  have eD : D = nI D.toInt.toNat := by
    apply Int32.toInt_inj.mp
    rw [nI_toInt (by omega)]
    omega
  generalize hy : D.toInt.toNat = y at eD
  have hy2 : y < 2147483648 := by omega
  have e2 : x - (nx + nI w) = nI y - nI w := by
    rw [← eD, ← hD]
    grind
  rw [e2, Int32.le_iff_toInt_le, sub_toInt hy2 (by omega)] at h2
  have h2' : ¬ (0 : Int) ≤ (y : Int) - (w : Int) := h2
  exact ⟨y, by omega, eD⟩
/-- rows of bytes and marks, behind bytes that were put -/
def fil (src : Nat → Int32) (sq nx w : Int32) (hd : Nat) : Nat → Nat → (Nat → Int32) → (Nat → Int32) → (Nat → Int32) × (Nat → Int32)
  | 0, _, B, T => (B, T)
  | m + 1, j, B, T => if inw (sq + nI j) nx w = true ∧ T (hd + (sq + nI j - nx).toNatClampNeg) = 0 then fil src sq nx w hd m (j + 1) (va_up B (hd + (sq + nI j - nx).toNatClampNeg) (src j)) (va_up T (hd + (sq + nI j - nx).toNatClampNeg) 1) else fil src sq nx w hd m (j + 1) B T
theorem rr {σ1 σ : St} {a b i : Nat} {X Y : Nat → Int32} (h : ∀ k' i', ¬ (k' = a ∧ i' = i) → ¬ (k' = b ∧ i' = i) → σ1 k' i' = σ k' i') : row3 (row3 σ1 a i X) b i Y = row3 (row3 σ a i X) b i Y := by
  funext k' i'
  simp only [row3_r]
  by_cases c1 : k' = b ∧ i' = i
  · rw [if_pos c1, if_pos c1]
  · rw [if_neg c1, if_neg c1]
    by_cases c2 : k' = a ∧ i' = i
    · rw [if_pos c2, if_pos c2]
    · rw [if_neg c2, if_neg c2]
      exact h k' i' c2 c1
theorem rs {σ : St} {a b i : Nat} : row3 (row3 σ a i (σ a i)) b i (σ b i) = σ := by
  rw [row3_self, row3_self]
/-- where a segment's data lie -/
def SgD (σ : St) (k3 i3 pl n : Nat) : Prop := σ 10 0 9 = nI n ∧ (σ 10 0 7).toNatClampNeg = k3 ∧ (σ 10 0 107).toNatClampNeg = i3 ∧ σ 10 0 8 = nI pl ∧ abc k3 i3 = true ∧ pl + n ≤ alen σ k3 i3 ∧ pl < 100000 ∧ n < 100000 ∧ k3 ≠ 42 ∧ k3 ≠ 43
theorem SgD.c {σ σ' : St} {k3 i3 pl n : Nat} (h : SgD σ k3 i3 pl n) (a : σ' 10 0 = σ 10 0) (b : alen σ' k3 i3 = alen σ k3 i3) : SgD σ' k3 i3 pl n := by
  unfold SgD
  rw [a, b]
  exact h
theorem s11_isIn {σ : St} {i : Nat} {x w : Int32} {Q : Int32 → Prop} (h1 : inw x ((σ 11 i 6)) w = true → Q 1) (h0 : inw x ((σ 11 i 6)) w = false → Q 0) : w11_isIn σ i x w Q := by
  by_cases c1 : 0 ≤ x - (σ 11 i 6)
  · refine br_t c1 (br_u rfl ?_)
    by_cases c2 : 0 ≤ x - ((σ 11 i 6) + w)
    · exact br_t c2 (br_t rfl (h0 (decide_eq_false (fun z => z.2 c2))))
    · exact br_f c2 (br_f (by decide) (h1 (decide_eq_true ⟨c1, c2⟩)))
  · exact br_f c1 (br_v (by decide) (h0 (decide_eq_false (fun z => c1 z.1))))
theorem s12_put {σ : St} {i hd e : Nat} {d v : Int32} {Q : St → Prop} (hh : (σ 12 i 2) = nI hd) (hd' : d = nI e) (hk : hd + e < 4096) (hv : by8 v)
    (h1 : ¬ σ 43 i (hd + e) = 0 → Q σ) (h0 : σ 43 i (hd + e) = 0 → Q (up3 (up3 σ 42 i (hd + e) v) 43 i (hd + e) 1)) : w12_put σ i d v Q := by
  unfold w12_put
  rw [hh, hd', nI_add, cl (by omega)]
  refine ⟨vin (by omega) (by omega), fun hbo => ?_⟩
  by_cases c1 : σ 43 i (hd + e) = 0
  · refine br_u c1 ⟨vin (by omega) (by omega), fun s2 e2 => ⟨vin (by omega) (by omega), fun s3 e3 => ?_⟩⟩
    rw [show v.toInt8.toInt32 = v from hv] at e2
    rw [e3, e2]
    exact h0 c1
  · refine br_v c1 ⟨vin (by omega) (by omega), fun s1 e1 => ?_⟩
    have e1' : σ 43 i (hd + e) = 1 := hbo.resolve_left c1
    rw [e1, up3_as, vu_eq e1', row3_self]
    exact h1 c1
theorem s11_takeData_L16 {Q K : St → Prop} {i hd k3 i3 pl n w : Nat} {sq nx : Int32} (hw : w = 4096 - hd) (hd4 : hd ≤ 4096) : ∀ (m j : Nat) (σ : St), j + m = n → SgD σ k3 i3 pl n → (σ 12 i 2) = nI hd → (σ 11 i 6) = nx →
    K (row3 (row3 σ 42 i (fil (fun j => σ k3 i3 (pl + j)) sq nx (nI w) hd m j (σ 42 i) (σ 43 i)).1) 43 i (fil (fun j => σ k3 i3 (pl + j)) sq nx (nI w) hd m j (σ 42 i) (σ 43 i)).2) → w11_takeData_L16 i (nI w) sq Q K (m + 1) σ (nI j) := by
  intro m
  induction m with
  | zero =>
    intro j σ hj hS h1 h2 hK
    have hSn := hS.1
    unfold fil at hK
    rw [rs] at hK
    refine br_t ?_ hK
    rw [hSn]
    have := hS.2.2.2.2.2.2.2.1
    exact nI_le (by omega) (by omega)
  | succ m ih =>
    intro j σ hj hS h1 h2 hK
    obtain ⟨a1, a2, a3, a4, a5, a6, a7, a8, a9, a10⟩ := id hS
    refine br_f ?_ (s11_isIn (fun hin => ?_) (fun hin => ?_))
    · rw [a1]; exact nI_ge (by omega) (by omega)
    · rw [h2] at hin
      obtain ⟨e, e1, e2⟩ := inw_k hin (by omega)
      refine br_f (by decide) ?_
      rw [a2, a3, a4, nI_add, cl (by omega)]
      refine ⟨a5, vin (by omega) (by omega), fun hby => ?_⟩
      unfold fil at hK
      rw [e2, cl (by omega)] at hK
      refine s12_put (hd := hd) (e := e) h1 (by rw [h2, e2]) (by omega) hby (fun c1 => ?_) (fun c1 => ?_)
      · rw [if_neg (fun z => c1 z.2)] at hK
        rw [nI_1]
        exact ih (j + 1) σ (by omega) hS h1 h2 hK
      · rw [if_pos ⟨hin, c1⟩] at hK
        rw [nI_1]
        generalize hs1 : up3 (up3 σ 42 i (hd + e) (σ k3 i3 (pl + j))) 43 i (hd + e) 1 = s1
        have o1 : ∀ k' i', ¬ (k' = 42 ∧ i' = i) → ¬ (k' = 43 ∧ i' = i) → s1 k' i' = σ k' i' := fun k' i' z1 z2 => by rw [← hs1, up3_r, if_neg z2, up3_r, if_neg z1]
        have o3 : s1 k3 i3 = σ k3 i3 := o1 _ _ (fun z => a9 z.1) (fun z => a10 z.1)
        have o42 : s1 42 i = va_up (σ 42 i) (hd + e) (σ k3 i3 (pl + j)) := by rw [← hs1, up3_r, if_neg (by omega), up3_r, if_pos ⟨rfl, rfl⟩]
        have o43 : s1 43 i = va_up (σ 43 i) (hd + e) 1 := by rw [← hs1, up3_r, if_pos ⟨rfl, rfl⟩, up3_r, if_neg (by omega)]
        have oal : alen s1 k3 i3 = alen σ k3 i3 := by
          rw [← hs1, up3_as, alen_row (by decide), up3_as, alen_row (by decide)]
        refine ih (j + 1) s1 (by omega) (hS.c (o1 _ _ (by omega) (by omega)) oal) (by rw [o1 _ _ (by omega) (by omega)]; exact h1) (by rw [o1 _ _ (by omega) (by omega)]; exact h2) ?_
        rw [rr o1, o3, o42, o43]
        exact hK
    · rw [h2] at hin
      unfold fil at hK
      rw [if_neg (fun z => by rw [hin] at z; exact absurd z.1 (by decide))] at hK
      refine br_t rfl ?_
      rw [nI_1]
      exact ih (j + 1) σ (by omega) hS h1 h2 hK
theorem s14_arrived_L41 {Q K : St → Prop} {i hd n w da : Nat} {sq nx : Int32} (hw : w = 4096 - hd) (hd4 : hd ≤ 4096) (hn : da + n ≤ 4096) : ∀ (m j : Nat) (τ : St), j + m = n → (τ 14 0 39) = nI n → (τ 14 0 38) = nI da → (τ 14 0 34) = sq → nx = (τ 15 i 35) + nI hd →
    K (row3 (row3 τ 72 i (fil (fun j => τ 64 0 (da + j)) sq nx (nI w) hd m j (τ 72 i) (τ 73 i)).1) 73 i (fil (fun j => τ 64 0 (da + j)) sq nx (nI w) hd m j (τ 72 i) (τ 73 i)).2) → w14_arrived_L41 i (nI w) nx Q K (m + 1) τ (nI j) := by
  intro m
  induction m with
  | zero =>
    intro j τ hj h1 h2 h3 h4 hK
    unfold fil at hK
    rw [rs] at hK
    refine br_t ?_ hK
    rw [h1]
    exact nI_le (by omega) (by omega)
  | succ m ih =>
    intro j τ hj h1 h2 h3 h4 hK
    have nx1 : nI j + 1 = nI (j + 1) := nI_1 _
    refine br_f ?_ ?_
    · rw [h1]; exact nI_ge (by omega) (by omega)
    rw [h3]
    unfold fil at hK
    by_cases c1 : 0 ≤ sq + nI j - nx
    rotate_left
    · refine br_f c1 (br_v (by decide) ?_)
      rw [if_neg (fun z => c1 (of_decide_eq_true z.1).1)] at hK
      rw [nx1]
      exact ih (j + 1) τ (by omega) h1 h2 h3 h4 hK
    refine br_t c1 (br_u rfl ?_)
    by_cases c2 : 0 ≤ sq + nI j - (nx + nI w)
    · refine br_t c2 (br_t rfl ?_)
      rw [if_neg (fun z => (of_decide_eq_true z.1).2 c2)] at hK
      rw [nx1]
      exact ih (j + 1) τ (by omega) h1 h2 h3 h4 hK
    refine br_f c2 (br_f (by decide) ?_)
    have hin : inw (sq + nI j) nx (nI w) = true := decide_eq_true ⟨c1, c2⟩
    obtain ⟨e, e1, e2⟩ := inw_k hin (by omega)
    rw [e2, cl (by omega)] at hK
    have eat : sq + nI j - (τ 15 i 35) = nI (hd + e) := by
      rw [← nI_add, ← e2, h4]
      grind
    rw [eat, cl (by omega)]
    refine ⟨vin (by omega) (by omega), fun _ => ?_⟩
    by_cases c3 : τ 73 i (hd + e) = 0
    rotate_left
    · refine br_v c3 ?_
      rw [if_neg (fun z => c3 z.2)] at hK
      rw [nx1]
      exact ih (j + 1) τ (by omega) h1 h2 h3 h4 hK
    rw [if_pos ⟨hin, c3⟩] at hK
    refine br_u c3 ⟨vin (by omega) (by omega), fun s5 e5 => ?_⟩
    have b38 : s5 14 0 38 = nI da := by rw [e5, up3_g, if_neg (by omega)]; exact h2
    have b64 : s5 64 0 = τ 64 0 := by rw [e5, up3_r, if_neg (by omega)]
    rw [b38, nI_add, cl (by omega), b64]
    refine ⟨vin (by omega) (by omega), fun hby => ⟨vin (by omega) (by omega), fun s6 e6 => ?_⟩⟩
    rw [show (τ 64 0 (da + j)).toInt8.toInt32 = τ 64 0 (da + j) from hby] at e6
    have o1 : ∀ k' i', ¬ (k' = 72 ∧ i' = i) → ¬ (k' = 73 ∧ i' = i) → s6 k' i' = τ k' i' := fun k' i' z1 z2 => by rw [e6, up3_r, if_neg z1, e5, up3_r, if_neg z2]
    have o64 : s6 64 0 = τ 64 0 := o1 _ _ (by omega) (by omega)
    have o72 : s6 72 i = va_up (τ 72 i) (hd + e) (τ 64 0 (da + j)) := by rw [e6, up3_r, if_pos ⟨rfl, rfl⟩, e5, up3_r, if_neg (by omega)]
    have o73 : s6 73 i = va_up (τ 73 i) (hd + e) 1 := by rw [e6, up3_r, if_neg (by omega), e5, up3_r, if_pos ⟨rfl, rfl⟩]
    rw [nx1]
    refine ih (j + 1) s6 (by omega) (by rw [o1 _ _ (by omega) (by omega)]; exact h1) (by rw [o1 _ _ (by omega) (by omega)]; exact h2) (by rw [o1 _ _ (by omega) (by omega)]; exact h3) (by rw [o1 _ _ (by omega) (by omega)]; exact h4) ?_
    rw [rr o1, o64, o72, o73]
    exact hK
/-- how far what is there reaches -/
def adv (T : Nat → Int32) : Nat → Nat → Nat
  | 0, h => h
  | m + 1, h => if T h = 0 then h else adv T m (h + 1)
theorem adv_le (T : Nat → Int32) : ∀ m h, h ≤ adv T m h ∧ adv T m h ≤ h + m := by
  intro m
  induction m with
  | zero => intro h; exact ⟨Nat.le_refl _, Nat.le_refl _⟩
  | succ m ih =>
    intro h
    unfold adv
    split
    · omega
    · have := ih (h + 1)
      omega
theorem up_up {σ : St} {k i j : Nat} {v w : Int32} : up3 (up3 σ k i j v) k i j w = up3 σ k i j w := by
  rw [up3_as, up3_r, if_pos ⟨rfl, rfl⟩, vu_vu, up3_as, row3_row3, ← up3_as]
theorem up_self {σ : St} {k i j : Nat} {v : Int32} (h : σ k i j = v) : up3 σ k i j v = σ := by
  rw [up3_as, vu_eq h, row3_self]
theorem s12_advance_L5 {i : Nat} {x : Int32} {Q : Int32 → St → Prop} {K : St → Prop} : ∀ (m h : Nat) (σ : St), h + m = 4096 → (σ 12 i 2) = nI h → K (up3 σ 12 i 2 (nI (adv (σ 43 i) m h))) → w12_advance_L5 i x Q K (m + 1) σ := by
  intro m
  induction m with
  | zero =>
    intro h σ hh e hK
    unfold adv at hK
    rw [up_self e] at hK
    exact br_t (by rw [e]; exact nI_le (a := 4096) (by omega) (by omega)) hK
  | succ m ih =>
    intro h σ hh e hK
    refine br_f (by rw [e]; exact nI_ge (b := 4096) (by omega) (by omega)) ?_
    rw [e, cl (by omega)]
    refine ⟨vin (by omega) (by omega), fun _ => ?_⟩
    unfold adv at hK
    by_cases c1 : σ 43 i h = 0
    · rw [if_pos c1, up_self e] at hK
      exact br_t c1 hK
    · rw [if_neg c1] at hK
      refine br_f c1 (fun s1 e1 => ?_)
      rw [nI_1] at e1
      refine ih (h + 1) s1 (by omega) (by rw [e1, up3_g, if_pos ⟨rfl, rfl, rfl⟩]) ?_
      rw [e1, up_up, up3_r, if_neg (by omega)]
      exact hK
theorem s12_advance {σ : St} {i h : Nat} {Q : Int32 → St → Prop} (hh : h ≤ 4096) (e : (σ 12 i 2) = nI h) (hq : Q (nI (adv (σ 43 i) (4096 - h) h - h)) (up3 σ 12 i 2 (nI (adv (σ 43 i) (4096 - h) h)))) : w12_advance σ i Q := by
  refine ⟨4096 - h + 1, s12_advance_L5 (4096 - h) h σ (by omega) e ?_⟩
  rw [up3_g, if_pos ⟨rfl, rfl, rfl⟩, e, pk_sub (adv_le (σ 43 i) (4096 - h) h).1]
  exact hq
theorem s14_arrived_L131 {i : Nat} {x2 x3 : Int32} {Q K : St → Prop} : ∀ (m h : Nat) (τ : St), h + m = 4096 → (τ 15 i 36) = (τ 15 i 35) + nI h → K (up3 τ 15 i 36 ((τ 15 i 35) + nI (adv (τ 73 i) m h))) → w14_arrived_L131 i x2 x3 Q K (m + 1) τ := by
  intro m
  induction m with
  | zero =>
    intro h τ hh e hK
    unfold adv at hK
    rw [up_self e] at hK
    refine br_t ?_ hK
    rw [e, so_2]
    exact nI_le (a := 4096) (by omega) (by omega)
  | succ m ih =>
    intro h τ hh e hK
    have e2 : (τ 15 i 36) - (τ 15 i 35) = nI h := by rw [e, so_2]
    refine br_f (by rw [e2]; exact nI_ge (b := 4096) (by omega) (by omega)) ?_
    rw [e2, cl (by omega)]
    refine ⟨vin (by omega) (by omega), fun _ => ?_⟩
    unfold adv at hK
    by_cases c1 : τ 73 i h = 0
    · rw [if_pos c1, up_self e] at hK
      exact br_t c1 hK
    · rw [if_neg c1] at hK
      refine br_f c1 (fun s1 e1 => ?_)
      rw [e, so_6] at e1
      have r35 : s1 15 i 35 = (τ 15 i 35) := by rw [e1, up3_g, if_neg (by omega)]
      refine ih (h + 1) s1 (by omega) (by rw [r35, e1, up3_g, if_pos ⟨rfl, rfl, rfl⟩]) ?_
      rw [r35, e1, up_up, up3_r, if_neg (by omega)]
      exact hK
