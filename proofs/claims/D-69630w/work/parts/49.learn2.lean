/-! the hops: learning side by side, and an ARP frame that came -/
set_option maxRecDepth 100000
theorem s3_release_L {σ : St} {x1 x2 : Int32} {w : Nat} {Q : St → Prop} {K26 : Int32 → Prop} {K74 : Prop} (hw : (σ 3 0 9) = nI w) (hw8 : w ≤ 8) (hp : ∀ k, k < 8 → hrw σ k < 8) : ∀ (m j : Nat), j + m = w → (scan (fun j => decide (σ 4 (hrw σ j) 0 ≠ x1)) m j < w → K26 (nI (scan (fun j => decide (σ 4 (hrw σ j) 0 ≠ x1)) m j))) → (scan (fun j => decide (σ 4 (hrw σ j) 0 ≠ x1)) m j = w → K74) → w3_release_L2 σ x1 x2 Q K26 K74 (m + 1) (nI j) := by
  intro m
  induction m with
  | zero =>
    intro j hj h1 h0
    exact br_t (by rw [hw]; exact nI_le (by omega) (by omega)) (h0 (by simp only [scan]; omega))
  | succ m ih =>
    intro j hj h1 h0
    refine br_f (by rw [hw]; exact nI_ge (by omega) (by omega)) ⟨vin (by omega) (by omega), ?_⟩
    rw [cl (by omega)]
    refine ⟨hp j (by omega), ?_⟩
    show (σ 4 (hrw σ j) 0 = x1 → _) ∧ (¬ σ 4 (hrw σ j) 0 = x1 → _)
    by_cases c : σ 4 (hrw σ j) 0 = x1
    · rw [scan_f _ (by simpa using c)] at h1
      exact br_t c (h1 (by omega))
    · rw [scan_t _ (by simpa using c)] at h1 h0
      refine br_f c ?_
      rw [nI_1]
      exact ih (j + 1) (by omega) h1 h0
theorem s14_remember_L151 {x2 x3 : Int32} {o5 l : Nat} {Q K : St → Prop} (hl : l ≤ 1500) : ∀ (m j : Nat) (σ : St), (σ 17 o5 2) = nI l → j + m = l → K (row3 σ 57 0 (va_cpy (σ 68 o5) (σ 57 0) j (14 + j) m)) → w14_remember_L151 x2 x3 o5 Q K (m + 1) σ (nI j) := by
  intro m
  induction m with
  | zero =>
    intro j σ hs hj hK
    rw [cpy_0, row3_self] at hK
    exact br_t (by rw [hs]; exact nI_le (by omega) (by omega)) hK
  | succ m ih =>
    intro j σ hs hj hK
    refine br_f (by rw [hs]; exact nI_ge (by omega) (by omega)) ?_
    rw [show (14 : Int32) + nI j = nI (14 + j) from nI_add 14 j]
    refine ⟨vin (by omega) (by omega), fun hb => ⟨vin (by omega) (by omega), fun s1 e1 => ?_⟩⟩
    rw [cl (by omega), cl (by omega)] at e1
    rw [cl (by omega)] at hb
    rw [show (σ 68 o5 j).toInt8.toInt32 = σ 68 o5 j from hb, up3_as] at e1
    subst e1
    rw [nI_1]
    refine ih (j + 1) _ (by rw [row3_g, if_neg (by omega)]; exact hs) (by omega) ?_
    rw [row3_s, row3_row3, row3_o (k' := 68) (by omega), ← Nat.add_assoc, cpy_s]
    exact hK
/-- behind learning -/
def LrnP (τ : St) (t s o : Nat) (σ' τ' : St) : Prop := ∃ s', RN σ' τ' t s' o ∧ s' + WS τ' ≤ s + WS τ ∧ (τ' 14 0 18) = (τ 14 0 18)
theorem j_release {σ τ : St} {t s o p : Nat} {x th tl : Int32} (ok : okS σ) (ok' : okS τ) (hN : RN σ τ t s o) (hs : s < 2147480000) (hp16 : p < 16) (hm : ∀ j, j < 6 → σ 30 0 (6 * p + j) = macb th tl j) :
    w3_release σ x (nI p) (fun σ' => w14_packet τ x (fun p15 => ((p15 = none → LrnP τ t s o σ' τ) ∧ (∀ i16, p15 = some i16 → (i16 < 8 ∧ (∀ σ17, σ17 = up3 τ 17 i16 0 0 → (∃ z19, w14_remember_L151 th tl i16 (fun τ' => LrnP τ t s o σ' τ') (fun σ20 => w14_send σ20 th tl 2048 (σ20 17 i16 2) (fun σ21 => (LrnP τ t s o σ' σ21))) z19 σ17 0))))))) := by
  obtain ⟨hM, hV, hH, hW, hA, hP⟩ := id hN
  obtain ⟨w, q, r, hX⟩ := hW.x
  obtain ⟨w1, w2, w3, w4, w5, w6, w7, w8⟩ := id hX
  obtain ⟨fa, fb⟩ := RW_find (x := x) w5 w7 w8
  refine ⟨w + 1, s3_release_L w2 w1 hP.1 w 0 (by omega) ?_ ?_⟩
  · generalize hk : scan (fun j => decide (σ 4 (hrw σ j) 0 ≠ x)) w 0 = k at fa fb
    intro hkw
    have hp8 := hP.1 k (by omega)
    refine ⟨vin (by omega) (by omega), ?_⟩
    rw [cl (by omega)]
    refine ⟨hp8, ?_⟩
    show w3_remove σ (nI k) (fun σ6 => w2_send σ6 30 0 (6 * nI p) 2048 35 (hrw σ k) (σ6 4 (hrw σ k) 4) _)
    refine s3_remove w1 hkw w2 hP (fun s6 f6 h9 hh => ?_)
    obtain ⟨b1, b2, b3, b4, b5⟩ := w5 k hkw
    obtain ⟨p1, p2, p3, p4, u, a, l, u1, a1, l1, a2, a3, l2, u2, u3, pb⟩ := id b5
    generalize ht2 : row3 (up3 τ 17 (q k) 0 0) 57 0 (va_cpy (τ 68 (q k)) (τ 57 0) 0 14 l) = t2
    have f2 : Fr (mF [57] [] [] [(17, q k, [0])]) τ t2 := by
      rw [← ht2]
      refine Fr.tr (fr_u (by simp [mF])) (fr_r (fun _ => rfl))
    have g17 : ∀ j, j ≠ q k → t2 17 j = τ 17 j := fun j hj => by
      rw [← ht2, row3_o (by omega), up3_r, if_neg (fun z => hj z.2)]
    have u17 : t2 17 (q k) 0 = 0 := by rw [← ht2, row3_g, if_neg (by omega), up3_g, if_pos ⟨rfl, rfl, rfl⟩]
    have hW2 : RW s6 t2 t o := RW_del hX hkw hh h9 (f2 14 0 25 rfl) (f6.kind fun _ _ => rfl) (f6.kind fun _ _ => rfl) g17 (f2.kind fun _ _ => rfl) u17
    have hV2 : RV s6 t2 t s := hV.c (f6 _ _ _ rfl) (f6 _ _ _ rfl) (f6.kind fun _ _ => rfl) (f6.row fun _ => rfl) (f6.row fun _ => rfl) (f2 _ _ _ rfl) (f2 _ _ _ rfl) (f2.row fun _ => rfl) (f2.row fun _ => rfl) (f2.row fun _ => rfl)
    have hM2 : RM s6 t2 := hM.c (f6 _ _ _ rfl) (f6 _ _ _ rfl) (f6 _ _ _ rfl) (f6 _ _ _ rfl) (f6 _ _ _ rfl) (f6 _ _ _ rfl) (f6.row fun _ => rfl) (f2 _ _ _ rfl) (f2 _ _ _ rfl) (f2 _ _ _ rfl) (f2 _ _ _ rfl) (f2 _ _ _ rfl)
    have hH2 : RH s6 t2 := hH.c (f6 _ _ _ rfl) (f6.row fun _ => rfl) (f6.row fun _ => rfl) (f6.row fun _ => rfl) (f2.kind fun _ _ => rfl)
    have hN2 : RN s6 t2 t s o := ⟨hM2, hV2, hH2, hW2, hA.c (f6.row fun _ => rfl) (f6.row fun _ => rfl), RPm_rm hP w1 hkw hh⟩
    have okS6 : okS s6 := by
      intro k' i' j'
      by_cases c : k' = 31 ∨ k' = 3 ∧ j' = 9
      · rcases c with rfl | ⟨rfl, rfl⟩ <;> exact okv_n rfl
      · rw [f6 k' i' j' (by
          have c1 : k' ≠ 31 := fun z => c (Or.inl z)
          by_cases c2 : k' = 3
          · subst c2
            have c3 : j' ≠ 9 := fun z => c (Or.inr ⟨rfl, z⟩)
            simp [mF, c3]
          · simp [mF, c1]; exact fun z => absurd z.symm c2)]
        exact ok k' i' j'
    have okT2 : okS t2 := by
      rw [← ht2]
      exact ok_rowb (ok_z ok' rfl (Or.inl rfl)) (tyk_a 57 2 (by decide) (by decide)) (by_cpy (fun j => ok_by ok' (tyk_a 68 2 (by decide) (by decide)) j) (fun j => ok_by ok' (tyk_a 57 2 (by decide) (by decide)) j))
    have e4 : s6 4 (hrw σ k) 4 = nI l := by rw [f6 _ _ _ rfl]; exact p4.trans l1
    have e6 : (6 : Int32) * nI p = nI (6 * p) := pk_mul 6 p
    rw [e4, e6]
    have ha35 : abc 35 (hrw σ k) = true := by
      have : hrw σ k = 0 ∨ hrw σ k = 1 ∨ hrw σ k = 2 ∨ hrw σ k = 3 ∨ hrw σ k = 4 ∨ hrw σ k = 5 ∨ hrw σ k = 6 ∨ hrw σ k = 7 := by omega
      rcases this with z | z | z | z | z | z | z | z <;> rw [z] <;> rfl
    obtain ⟨σ', τ', g1, g2, k1, k2, x1, x2, hV3, hst⟩ := R_send (k1 := 30) (i1 := 0) (k4 := 35) (i4 := hrw σ k) (a := 6 * p) (n := l) (kind := 2048) (th := th) (tl := tl) okS6 okT2 (by rfl) ha35 hV2 hs hM2.2.2.2.2.2.2.1 (by show _ ≤ 96; omega) (by omega) (by show l ≤ 1500; omega) (by omega) (by omega) (by omega) (fun j hj => by rw [f6 _ _ _ rfl]; exact hm j hj) (fun j hj => by
      rw [f6 _ _ _ rfl, ← ht2, row3_s, pk_cpy_in (by omega) (by omega), show 0 + (14 + j - 14) = j by omega]
      exact pb j hj)
    refine g1 _ (s14_packet (fun j hj hu hx => po_s rfl ⟨hj, fun t17 e17 => ?_⟩) (fun h => ?_))
    · have hjq := fa hkw j hj hu hx
      subst hjq
      have l17 : t17 17 (q k) 2 = nI l := by rw [e17, up3_g, if_neg (by omega)]; exact l1
      refine ⟨l + 1, s14_remember_L151 l2 l 0 t17 l17 (by omega) ?_⟩
      rw [e17, up3_r, if_neg (by omega), up3_r, if_neg (by omega), Nat.add_zero, ht2]
      rw [f2 17 (q k) 2 (by simp [mF]), l1]
      refine g2 _ ?_
      obtain ⟨hN3, hws⟩ := hN2.sent (fr_sub1 x1) x2 hV3
      refine ⟨s + 1, hN3, ?_, by rw [hst]; exact f2 _ _ _ rfl⟩
      have e1 := WS_at (τ := τ) (τ' := t2) (j := q k) b1 g17
      have e2 : wv t2 (q k) = 0 := by unfold wv; rw [if_pos u17]
      have e3 : 1 ≤ wv τ (q k) := by
        unfold wv
        rw [if_neg (by rw [b2]; decide), a1, cl (by omega)]
        omega
      omega
    · exfalso
      have h1 := scan_stop (fun j => decide (σ 4 (hrw σ j) 0 ≠ x)) w 0 (by omega)
      have h2 : σ 4 (hrw σ k) 0 = x := by
        rw [hk] at h1
        exact Decidable.not_not.mp (of_decide_eq_false h1)
      exact h (q k) b1 ⟨by rw [b2]; decide, by rw [← h2]; exact p1.symm⟩
  · intro hkw
    have hno := fb hkw
    exact s14_packet (fun j hj hu hx => absurd ⟨hu, hx⟩ (hno j hj)) (fun _ => po_n rfl ⟨s, hN, Nat.le_refl _, rfl⟩)

/-- the oldest: from b, over m places from j on -/
def old (f : Nat → Int32) : Nat → Nat → Nat → Nat
  | 0, b, _ => b
  | m + 1, b, j => old f m (if f b ≤ f j then b else j) (j + 1)
theorem old_lt (f : Nat → Int32) : ∀ (m b j n : Nat), b < n → j + m ≤ n → old f m b j < n := by
  intro m
  induction m with
  | zero => intro b j n h _; exact h
  | succ m ih =>
    intro b j n h h2
    simp only [old]
    refine ih _ _ n ?_ (by omega)
    split <;> omega
theorem s3_oldest_L {σ : St} {Q K : Int32 → Prop} (hz : (σ 3 0 7) = nI 16) : ∀ (m b j : Nat), j + m = 16 → b < 16 → K (nI (old (σ 29 0) m b j)) → w3_oldest_L4 σ Q K (m + 1) (nI b) (nI j) := by
  intro m
  induction m with
  | zero =>
    intro b j hj hb hK
    exact br_t (by rw [hz]; exact nI_le (by omega) (by omega)) hK
  | succ m ih =>
    intro b j hj hb hK
    refine br_f (by rw [hz]; exact nI_ge (by omega) (by omega)) ⟨vin (by omega) (by omega), vin (by omega) (by omega), ?_⟩
    rw [cl (by omega), cl (by omega), nI_1]
    simp only [old] at hK
    by_cases c : σ 29 0 b ≤ σ 29 0 j
    · rw [if_pos c] at hK
      exact br_t c (ih b (j + 1) (by omega) hb hK)
    · rw [if_neg c] at hK
      exact br_f c (ih j (j + 1) (by omega) (by omega) hK)
/-- the model's place: the first that is free -/
theorem s14_remember_free {τ : St} {x1 x2 x3 : Int32} {z : Nat} {Q : St → Prop} {K : Nat → Prop} (hz : z < 16) (hu : ∀ k, k < z → (τ 16 k 0) = 1) (hu0 : ∀ k, z ≤ k → k < 16 → (τ 16 k 0) = 0) (hK : K z) : ∀ (m j o : Nat), j + m = 16 → (j ≤ z ∧ o < z ∨ z < j ∧ o = z) → w14_remember_L23 τ x1 x2 x3 Q K (m + 1) o (nI j) := by
  intro m
  induction m with
  | zero =>
    intro j o hj h
    rcases h with h | h
    · omega
    · rw [h.2]
      exact br_t (nI_le (a := 16) (by omega) (by omega)) hK
  | succ m ih =>
    intro j o hj h
    refine br_f (nI_ge (b := 16) (by omega) (by decide)) ⟨vin (by omega) (by omega), fun _ => ?_⟩
    unfold w14_remember_J48
    rw [cl (by omega), nI_1]
    rcases h with h | h
    · have ho : ¬ (τ 16 o 0) = 0 := by rw [hu o h.2]; decide
      by_cases c : j = z
      · have hj0 : (τ 16 j 0) = 0 := hu0 j (by omega) (by omega)
        refine br_u hj0 (fun _ => br_f ho (br_v (by decide) ⟨vin (by omega) (by omega), ?_⟩))
        exact ih (j + 1) j (by omega) (Or.inr ⟨by omega, c⟩)
      · have hj1 : ¬ (τ 16 j 0) = 0 := by rw [hu j (by omega)]; decide
        refine br_v hj1 (fun _ => br_f ho (br_u rfl ⟨vin (by omega) (by omega), ?_, ?_⟩))
        · intro _
          exact ih (j + 1) o (by omega) (Or.inl ⟨by omega, h.2⟩)
        · intro _
          exact ⟨vin (by omega) (by omega), ih (j + 1) j (by omega) (Or.inl ⟨by omega, by omega⟩)⟩
    · have ho : (τ 16 o 0) = 0 := hu0 o (by omega) (by omega)
      have hj0 : (τ 16 j 0) = 0 := hu0 j (by omega) (by omega)
      refine br_u hj0 (fun _ => br_t ho ?_)
      exact ih (j + 1) o (by omega) (Or.inr ⟨by omega, h.2⟩)
/-- the model's place: the oldest, as none is free -/
theorem s14_remember_old {τ : St} {f : Nat → Int32} {x1 x2 x3 : Int32} {Q : St → Prop} {K : Nat → Prop} (hu : ∀ k, k < 16 → (τ 16 k 0) = 1) (hf : ∀ k, k < 16 → f k = (τ 16 k 4)) : ∀ (m j o : Nat), j + m = 16 → o < 16 → K (old f m o j) → w14_remember_L23 τ x1 x2 x3 Q K (m + 1) o (nI j) := by
  intro m
  induction m with
  | zero =>
    intro j o hj ho hK
    exact br_t (nI_le (a := 16) (by omega) (by omega)) hK
  | succ m ih =>
    intro j o hj ho hK
    refine br_f (nI_ge (b := 16) (by omega) (by decide)) ⟨vin (by omega) (by omega), fun _ => ?_⟩
    unfold w14_remember_J48
    rw [cl (by omega), nI_1]
    have ho1 : ¬ (τ 16 o 0) = 0 := by rw [hu o ho]; decide
    have hj1 : ¬ (τ 16 j 0) = 0 := by rw [hu j (by omega)]; decide
    simp only [old] at hK
    refine br_v hj1 (fun _ => br_f ho1 (br_u rfl ⟨vin (by omega) (by omega), ?_, ?_⟩))
    · intro c
      rw [hf o ho, hf j (by omega), if_pos c] at hK
      exact ih (j + 1) o (by omega) ho hK
    · intro c
      rw [hf o ho, hf j (by omega), if_neg c] at hK
      exact ⟨vin (by omega) (by omega), ih (j + 1) j (by omega) (by omega) hK⟩
/-- both learn at a place -/
theorem j_learn {σ τ : St} {t s o p z z' k i : Nat} {x th tl : Int32} (ok : okS σ) (ok' : okS τ) (hN : RM σ τ ∧ RV σ τ t s ∧ RW σ τ t o ∧ RA σ ∧ RPm σ) (hs : s < 2147480000) (hp : p < 16) (hk : abc k i = true) (hk2 : k ≠ 30 ∧ k ≠ 28 ∧ k ≠ 29) (hl : 28 ≤ alen σ k i) (hsz : (σ 3 0 7) = nI z') (hz' : z' ≤ 16) (hzz : z' = z ∧ p < z ∨ z' = z + 1 ∧ p = z) (z3 : ∀ k, k < z → (τ 16 k 0) = 1 ∧ (σ 28 0) k = (τ 16 k 1) ∧ (σ 29 0) k = (τ 16 k 4) ∧ ∀ j, j < 6 → (σ 30 0) (6 * k + j) = macb (τ 16 k 2) (τ 16 k 3) j) (z4 : ∀ k, z ≤ k → k < 16 → (τ 16 k 0) = 0)
    (hm : ∀ j, j < 6 → σ k i (22 + j) = macb th tl j) : w3_learn_J53 σ x k i 22 (nI p) (fun σ' => w14_remember_J96 τ x th tl p (fun τ' => LrnP τ t s o σ' τ')) := by
  obtain ⟨hM, hV, hW, hA, hP⟩ := id hN
  refine ⟨vin (by omega) (by omega), fun s2 e2 => ⟨vin (by omega) (by omega), fun s3 e3 => ?_⟩⟩
  rw [cl (by omega)] at e2 e3
  have a3 : ∀ k i, alen s3 k i = alen σ k i := fun k i => by rw [e3, e2, up3_as, up3_as, alen_row (by decide), alen_row (by decide)]
  have e6 : (6 : Int32) * nI p = nI (6 * p) := pk_mul 6 p
  rw [e6]
  refine s19_copy (a := 22) (b := 6 * p) (n := 6) (by omega) (by decide) (by omega) (by omega) (by omega) (by rw [a3]; omega) (by rw [a3]; show _ ≤ 96; omega) ?_
  generalize hs1 : row3 s3 30 0 (va_cpy (s3 k i) (s3 30 0) 22 (6 * p) 6) = s1
  generalize ht1 : up3 (up3 (up3 (up3 (up3 τ 16 p 0 1) 16 p 1 x) 16 p 2 th) 16 p 3 tl) 16 p 4 (nI t) = t1
  have f1 : Fr (mF [28, 29, 30] [] [] []) σ s1 := by
    rw [← hs1, e3, e2]
    exact Fr.tr (Fr.tr (fr_u rfl) (fr_u rfl)) (fr_r (fun _ => rfl))
  have f2 : Fr (mF [16] [] [] []) τ t1 := by
    rw [← ht1]
    exact ((((fr_u rfl).up rfl).up rfl).up rfl).up rfl
  have s28 : ∀ j, s1 28 0 j = if j = p then x else σ 28 0 j := fun j => by
    rw [← hs1, row3_g, if_neg (by omega), e3, up3_g, if_neg (by omega), e2, up3_g]
    by_cases c : j = p
    · rw [if_pos c, if_pos ⟨rfl, rfl, c⟩]
    · rw [if_neg c, if_neg (fun z => c z.2.2)]
  have s29 : ∀ j, s1 29 0 j = if j = p then nI t else σ 29 0 j := fun j => by
    rw [← hs1, row3_g, if_neg (by omega), e3, up3_g]
    by_cases c : j = p
    · rw [if_pos c, if_pos ⟨rfl, rfl, c⟩, e2, up3_g, if_neg (by omega)]
      exact hV.1
    · rw [if_neg c, if_neg (fun z => c z.2.2), e2, up3_g, if_neg (by omega)]
  have s3k : s3 k i = σ k i := by
    rw [e3, up3_r, if_neg (by omega), e2, up3_r, if_neg (by omega)]
  have s330 : s3 30 0 = σ 30 0 := by
    rw [e3, up3_r, if_neg (by omega), e2, up3_r, if_neg (by omega)]
  have s30 : ∀ j, j < 6 → s1 30 0 (6 * p + j) = macb th tl j := fun j hj => by
    rw [← hs1, row3_s, pk_cpy_in (by omega) (by omega), s3k, show 22 + (6 * p + j - 6 * p) = 22 + j by omega]
    exact hm j hj
  have s30' : ∀ q j, q ≠ p → j < 6 → s1 30 0 (6 * q + j) = σ 30 0 (6 * q + j) := fun q j hq hj => by
    rw [← hs1, row3_s, pk_cpy_out (by omega), s330]
  have t16 : ∀ q, q ≠ p → t1 16 q = τ 16 q := fun q hq => by
    rw [← ht1]
    simp only [up3_r]
    simp [hq]
  have tp : t1 16 p 0 = 1 ∧ t1 16 p 1 = x ∧ t1 16 p 2 = th ∧ t1 16 p 3 = tl ∧ t1 16 p 4 = nI t := by
    rw [← ht1]
    simp only [up3_g]
    simp
  have hH1 : RH s1 t1 := by
    refine ⟨z', hz', by rw [f1 _ _ _ rfl]; exact hsz, fun q hq => ?_, fun q h1 h2 => ?_⟩
    · by_cases c : q = p
      · subst c
        rw [s28, s29, if_pos rfl, if_pos rfl, tp.1, tp.2.1, tp.2.2.1, tp.2.2.2.1, tp.2.2.2.2]
        exact ⟨rfl, rfl, rfl, s30⟩
      · obtain ⟨y1, y2, y3, y4⟩ := z3 q (by omega)
        rw [s28, s29, if_neg c, if_neg c, t16 q c]
        exact ⟨y1, y2, y3, fun j hj => by rw [s30' q j c hj]; exact y4 j hj⟩
    · rw [t16 q (by omega)]
      exact z4 q (by omega) h2
  have hN1 : RN s1 t1 t s o := ⟨hM.c (f1 _ _ _ rfl) (f1 _ _ _ rfl) (f1 _ _ _ rfl) (f1 _ _ _ rfl) (f1 _ _ _ rfl) (f1 _ _ _ rfl) (f1.row fun _ => rfl) (f2 _ _ _ rfl) (f2 _ _ _ rfl) (f2 _ _ _ rfl) (f2 _ _ _ rfl) (f2 _ _ _ rfl), hV.c (f1 _ _ _ rfl) (f1 _ _ _ rfl) (f1.kind fun _ _ => rfl) (f1.row fun _ => rfl) (f1.row fun _ => rfl) (f2 _ _ _ rfl) (f2 _ _ _ rfl) (f2.row fun _ => rfl) (f2.row fun _ => rfl) (f2.row fun _ => rfl), hH1, hW.c (f1 _ _ _ rfl) (f1.row fun _ => rfl) (f1.kind fun _ _ => rfl) (f1.kind fun _ _ => rfl) (f2 _ _ _ rfl) (f2.kind fun _ _ => rfl) (f2.kind fun _ _ => rfl), hA.c (f1.row fun _ => rfl) (f1.row fun _ => rfl), hP.c (f1.row fun _ => rfl)⟩
  have okS1 : okS s1 := by
    rw [← hs1, e3, e2]
    refine ok_rowb (ok_n (ok_n ok rfl) rfl) (tyk_a 30 2 (by decide) (by decide)) (by_cpy ?_ ?_)
    · rw [← e2, ← e3, s3k]; exact fun j => abc_by ok hk j
    · rw [← e2, ← e3, s330]; exact fun j => ok_by ok (tyk_a 30 2 (by decide) (by decide)) j
  have okT1 : okS t1 := by
    rw [← ht1]
    exact ok_n (ok_n (ok_n (ok_n (ok_z ok' rfl (Or.inr rfl)) rfl) rfl) rfl) rfl
  have hr := j_release (x := x) okS1 okT1 hN1 hs hp s30
  obtain ⟨σ', h, k1, f3, g1⟩ := e3_release okS1 hr
  refine g1 _ ?_
  intro t10 h10 t11 h11 t12 h12 t13 h13 t14 h14
  have h13' : t13 14 0 10 = nI t := by
    rw [h13, up3_g, if_neg (by omega), h12, up3_g, if_neg (by omega), h11, up3_g, if_neg (by omega), h10, up3_g, if_neg (by omega)]
    exact hV.2.1
  have e14 : t14 = t1 := by rw [h14, h13', h13, h12, h11, h10]; exact ht1
  rw [e14]
  have hws : WS t1 = WS τ := WS_c (f2.kind fun _ _ => rfl)
  have hlp : ∀ τ', LrnP t1 t s o σ' τ' = LrnP τ t s o σ' τ' := fun τ' => by
    unfold LrnP
    rw [hws, f2 14 0 _ rfl]
  simp only [hlp] at h
  refine cast ?_ h
  simp only [← hlp]
