/-! the path of a target -/
set_option maxRecDepth 100000
theorem by_n : ∀ u, u < 128 → by8 (nI u) := by unfold by8; decide +kernel
theorem s9_isIn_n {σ : St} {v a b : Nat} {Q : Int32 → Prop} (hv : v < 100000) (ha : a < 100000) (hb : b < 100000) (h1 : a ≤ v ∧ v ≤ b → Q 1) (h0 : ¬ (a ≤ v ∧ v ≤ b) → Q 0) : w9_isIn σ (nI v) (nI a) (nI b) Q := by
  by_cases c1 : v < a
  · exact br_t (nI_lt c1 (by omega)) (h0 (by omega))
  · refine br_f (nI_nlt (by omega) (by omega)) ?_
    by_cases c2 : b < v
    · exact br_t (nI_lt c2 (by omega)) (h0 (by omega))
    · exact br_f (nI_nlt (by omega) (by omega)) (h1 (by omega))
/-- the value of a hexadecimal digit -/
def hxv (u : Nat) : Int32 := if 48 ≤ u ∧ u ≤ 57 then nI (u - 48) else if 97 ≤ u ∧ u ≤ 102 then nI (u - 87) else if 65 ≤ u ∧ u ≤ 70 then nI (u - 55) else -1
theorem hxv_c (u : Nat) : hxv u = -1 ∨ ∃ v : Nat, v < 16 ∧ hxv u = nI v := by
  unfold hxv
  by_cases c1 : 48 ≤ u ∧ u ≤ 57
  · rw [if_pos c1]; exact Or.inr ⟨_, by omega, rfl⟩
  rw [if_neg c1]
  by_cases c2 : 97 ≤ u ∧ u ≤ 102
  · rw [if_pos c2]; exact Or.inr ⟨_, by omega, rfl⟩
  rw [if_neg c2]
  by_cases c3 : 65 ≤ u ∧ u ≤ 70
  · rw [if_pos c3]; exact Or.inr ⟨_, by omega, rfl⟩
  rw [if_neg c3]; exact Or.inl rfl
theorem s9_hexadecimal {σ : St} {u : Nat} {Q : Int32 → Prop} (hu : u < 128) (hq : Q (hxv u)) : w9_hexadecimal σ (nI u) Q := by
  unfold hxv at hq
  refine s9_isIn_n (a := 48) (b := 57) (by omega) (by omega) (by omega) (fun c => br_f (by decide) ?_) (fun c => br_t rfl ?_)
  · rw [if_pos c] at hq
    rw [show nI u - 48 = nI (u - 48) from pk_sub (b := 48) c.1]
    exact hq
  rw [if_neg c] at hq
  refine s9_isIn_n (a := 97) (b := 102) (by omega) (by omega) (by omega) (fun c => br_f (by decide) ?_) (fun c => br_t rfl ?_)
  · rw [if_pos c] at hq
    rw [show nI u - 97 = nI (u - 97) from pk_sub (b := 97) c.1, show nI (u - 97) + 10 = nI (u - 97 + 10) from nI_add _ 10, show u - 97 + 10 = u - 87 by omega]
    exact hq
  rw [if_neg c] at hq
  refine s9_isIn_n (a := 65) (b := 70) (by omega) (by omega) (by omega) (fun c => br_f (by decide) ?_) (fun c => br_t rfl ?_)
  · rw [if_pos c] at hq
    rw [show nI u - 65 = nI (u - 65) from pk_sub (b := 65) c.1, show nI (u - 65) + 10 = nI (u - 65 + 10) from nI_add _ 10, show u - 65 + 10 = u - 55 by omega]
    exact hq
  rw [if_neg c] at hq
  exact hq
theorem s14_hexadecimal {σ : St} {u : Nat} {Q : Int32 → Prop} (hu : u < 128) (hq : Q (hxv u)) : w14_hexadecimal σ (nI u) Q := by
  unfold hxv at hq
  refine s14_isDigit (by omega) (fun c => br_f (by decide) ?_) (fun c => br_t rfl ?_)
  · rw [if_pos c] at hq
    rw [show nI u - 48 = nI (u - 48) from pk_sub (b := 48) c.1]
    exact hq
  rw [if_neg c] at hq
  have hs := sml_lt (u := u) (by omega)
  have es : sml u = if 65 ≤ u ∧ u ≤ 90 then u + 32 else u := rfl
  refine s14_small (by omega) ?_
  by_cases c1 : sml u < 97
  · rw [if_neg (by rw [es] at c1; split at c1 <;> omega), if_neg (by rw [es] at c1; split at c1 <;> omega)] at hq
    exact br_t (nI_lt (b := 97) c1 (by omega)) hq
  refine br_f (nI_nlt (b := 97) (by omega) (by omega)) (s14_small (by omega) ?_)
  by_cases c2 : 102 < sml u
  · rw [if_neg (by rw [es] at c2; split at c2 <;> omega), if_neg (by rw [es] at c2; split at c2 <;> omega)] at hq
    exact br_t (nI_lt (a := 102) c2 (by omega)) hq
  refine br_f (nI_nlt (a := 102) (by omega) (by omega)) (s14_small (by omega) ?_)
  rw [show nI (sml u) - 97 = nI (sml u - 97) from pk_sub (b := 97) (by omega), show nI (sml u - 97) + 10 = nI (sml u - 97 + 10) from nI_add _ 10]
  by_cases c3 : 97 ≤ u ∧ u ≤ 102
  · rw [if_pos c3] at hq
    have : sml u - 97 + 10 = u - 87 := by rw [es, if_neg (by omega)]; omega
    rw [this]
    exact hq
  · have c4 : 65 ≤ u ∧ u ≤ 70 := by
      by_cases cc : 65 ≤ u ∧ u ≤ 90
      · rw [es, if_pos cc] at c1 c2; omega
      · rw [es, if_neg cc] at c1 c2; omega
    rw [if_neg c3, if_pos c4] at hq
    have : sml u - 97 + 10 = u - 55 := by rw [es, if_pos (by omega)]; omega
    rw [this]
    exact hq
/-- the paths so far -/
def DP (σ τ : St) (N : Nat → Nat) (b pl : Nat) : Prop := ((σ 9 0 4) = nI b) ∧ ((τ 14 0 57) = nI b) ∧ (nC σ = N) ∧ (nM τ = N) ∧ ((σ 9 0 18) = nI pl) ∧ ((τ 14 0 59) = nI pl) ∧ (∀ j, j < pl → j < 48 → σ 41 0 j = τ 67 0 j) ∧ (∀ j, j < pl → τ 67 0 j ≠ 0)
theorem DP.te1 {σ τ : St} {N : Nat → Nat} {b pl : Nat} (h : DP σ τ N b pl) : (σ 9 0 4) = nI b := h.1
theorem DP.te2 {σ τ : St} {N : Nat → Nat} {b pl : Nat} (h : DP σ τ N b pl) : (τ 14 0 57) = nI b := h.2.1
theorem DP.n1 {σ τ : St} {N : Nat → Nat} {b pl : Nat} (h : DP σ τ N b pl) : nC σ = N := h.2.2.1
theorem DP.n2 {σ τ : St} {N : Nat → Nat} {b pl : Nat} (h : DP σ τ N b pl) : nM τ = N := h.2.2.2.1
theorem DP.p1 {σ τ : St} {N : Nat → Nat} {b pl : Nat} (h : DP σ τ N b pl) : (σ 9 0 18) = nI pl := h.2.2.2.2.1
theorem DP.p2 {σ τ : St} {N : Nat → Nat} {b pl : Nat} (h : DP σ τ N b pl) : (τ 14 0 59) = nI pl := h.2.2.2.2.2.1
theorem DP.pe {σ τ : St} {N : Nat → Nat} {b pl : Nat} (h : DP σ τ N b pl) : ∀ j, j < pl → j < 48 → σ 41 0 j = τ 67 0 j := h.2.2.2.2.2.2.1
theorem DP.pz {σ τ : St} {N : Nat → Nat} {b pl : Nat} (h : DP σ τ N b pl) : ∀ j, j < pl → τ 67 0 j ≠ 0 := h.2.2.2.2.2.2.2
theorem DP.mk {σ τ : St} {N : Nat → Nat} {b pl : Nat} (te1 : (σ 9 0 4) = nI b) (te2 : (τ 14 0 57) = nI b) (n1 : nC σ = N) (n2 : nM τ = N) (p1 : (σ 9 0 18) = nI pl) (p2 : (τ 14 0 59) = nI pl) (pe : ∀ j, j < pl → j < 48 → σ 41 0 j = τ 67 0 j) (pz : ∀ j, j < pl → τ 67 0 j ≠ 0) : DP σ τ N b pl := ⟨te1, te2, n1, n2, p1, p2, pe, pz⟩
def stC (σ : St) (pl u : Nat) : St := if 47 < pl then up3 σ 9 0 18 (nI (pl + 1)) else up3 (up3 σ 41 0 pl (nI u)) 9 0 18 (nI (pl + 1))
def stM (τ : St) (pl u : Nat) : St := up3 (up3 τ 67 0 pl (nI u)) 14 0 59 (nI (pl + 1))
theorem s9_step {σ : St} {pl u : Nat} {Q : St → Prop} (hp : (σ 9 0 18) = nI pl) (hpl : pl < 8000) (hu : u < 128) (hq : Q (stC σ pl u)) : w9_step σ (nI u) Q := by
  unfold stC at hq
  unfold w9_step
  rw [hp]
  by_cases c : 47 < pl
  · rw [if_pos c] at hq
    refine br_t (nI_lt (a := 47) c (by omega)) (fun s1 e1 => ?_)
    rw [nI_1] at e1
    rw [e1]
    exact hq
  · rw [if_neg c] at hq
    refine br_f (nI_nlt (a := 47) (by omega) (by omega)) ?_
    have em : imin (nI pl) 47 = nI pl := by
      rw [show imin (nI pl) 47 = nI (min pl 47) from imin_n (b := 47) (by omega) (by omega), Nat.min_eq_left (by omega)]
    rw [em, cl (by omega)]
    refine ⟨vin (by omega) (by omega), fun s2 e2 s3 e3 => ?_⟩
    have hb := by_n u hu
    rw [show (nI u).toInt8.toInt32 = nI u from hb, show (nI u).toInt8.toInt32 = nI u from hb] at e2
    have v : s2 9 0 18 = nI pl := by rw [e2, up3_g, if_neg (by omega)]; exact hp
    rw [v, nI_1, e2] at e3
    rw [e3]
    exact hq
theorem s14_J128 {τ : St} {pl u : Nat} {x1 : Int32} {Q : Int32 → St → Prop} {K : St → Int32 → Prop} (hp : (τ 14 0 59) = nI pl) (hpl : pl < 8000) (hu : u < 128) (hq : K (stM τ pl u) x1) : w14_unfolded_J128 τ x1 (nI u) Q K := by
  unfold w14_unfolded_J128
  rw [hp, cl (by omega)]
  refine ⟨vin (by omega) (by omega), fun s2 e2 s3 e3 => ?_⟩
  have hb := by_n u hu
  rw [show (nI u).toInt8.toInt32 = nI u from hb, show (nI u).toInt8.toInt32 = nI u from hb] at e2
  have v : s2 14 0 59 = nI pl := by rw [e2, up3_g, if_neg (by omega)]; exact hp
  rw [v, nI_1, e2] at e3
  rw [e3]
  exact hq
theorem DP.step {σ τ : St} {N : Nat → Nat} {b pl u : Nat} (h : DP σ τ N b pl) (hu1 : 1 ≤ u) (hu2 : u < 128) : DP (stC σ pl u) (stM τ pl u) N b (pl + 1) ∧ stM τ pl u 67 0 pl = nI u := by
  have o9 : ∀ j, j ≠ 18 → stC σ pl u 9 0 j = σ 9 0 j := fun j hj => by
    unfold stC
    split
    · rw [up3_g, if_neg (fun z => hj z.2.2)]
    · rw [up3_g, if_neg (fun z => hj z.2.2), up3_g, if_neg (by omega)]
  have o40 : stC σ pl u 40 0 = σ 40 0 := by
    unfold stC
    split
    · rw [up3_r, if_neg (by omega)]
    · rw [up3_r, if_neg (by omega), up3_r, if_neg (by omega)]
  have q67 : ∀ j, stM τ pl u 67 0 j = if j = pl then nI u else τ 67 0 j := fun j => by
    unfold stM
    rw [up3_g, if_neg (by omega), up3_g]
    by_cases c : j = pl
    · rw [if_pos ⟨rfl, rfl, c⟩, if_pos c]
    · rw [if_neg (fun z => c z.2.2), if_neg c]
  refine ⟨DP.mk ?_ ?_ ?_ ?_ ?_ ?_ ?_ ?_, by rw [q67, if_pos rfl]⟩
  · rw [o9 4 (by decide)]; exact h.te1
  · unfold stM; rw [up3_g, if_neg (by omega), up3_g, if_neg (by omega)]; exact h.te2
  · rw [← h.n1]; unfold nC; rw [o40]
  · rw [← h.n2]; unfold nM stM; rw [up3_r, if_neg (by omega), up3_r, if_neg (by omega)]
  · unfold stC
    split <;> rw [up3_g, if_pos ⟨rfl, rfl, rfl⟩]
  · unfold stM; rw [up3_g, if_pos ⟨rfl, rfl, rfl⟩]
  · intro j h1 h2
    rw [q67]
    unfold stC
    by_cases c : 47 < pl
    · rw [if_pos c, up3_g, if_neg (by omega), if_neg (by omega)]
      exact h.pe j (by omega) h2
    · rw [if_neg c, up3_g, if_neg (by omega), up3_g]
      by_cases cj : j = pl
      · rw [if_pos ⟨rfl, rfl, cj⟩, if_pos cj]
      · rw [if_neg (fun z => cj z.2.2), if_neg cj]
        exact h.pe j (by omega) h2
  · intro j h1
    rw [q67]
    by_cases cj : j = pl
    · rw [if_pos cj]; exact nI_ne0 (by omega) (by omega)
    · rw [if_neg cj]; exact h.pz j (by omega)
/-- how the two go on from a place: both say no, or both come to the end -/
def DR (σ τ : St) (N : Nat → Nat) (b k : Nat) (x2 : Int32) : Prop :=
  (∃ σ' τ', (∀ (Q : Int32 → St → Prop) (K1 K2 : St → Prop) (K3 : St → Int32 → Prop), K1 σ' → K2 σ' → ∃ z, w9_decode_L14 Q K1 K2 K3 z σ (nI k) x2) ∧ (∀ (Q : Int32 → St → Prop) (K1 K2 K3 : St → Prop), K1 τ' → K2 τ' → ∃ z, w14_unfolded_L10 Q K1 K2 K3 z τ (nI k))) ∨
  (∃ (σ' τ' : St) (x' : Int32) (pl' : Nat), (∀ (Q : Int32 → St → Prop) (K1 K2 : St → Prop) (K3 : St → Int32 → Prop), K3 σ' x' → ∃ z, w9_decode_L14 Q K1 K2 K3 z σ (nI k) x2) ∧ (∀ (Q : Int32 → St → Prop) (K1 K2 K3 : St → Prop), K3 τ' → ∃ z, w14_unfolded_L10 Q K1 K2 K3 z τ (nI k)) ∧ DP σ' τ' N b pl' ∧ 1 ≤ pl' ∧ pl' ≤ b ∧ x' = τ' 67 0 (pl' - 1))
theorem DR_l {N : Nat → Nat} {a b : Nat} (hb : b ≤ 4096) (hsl : N (a + 1) = 47) (hab : a + 1 < b) (vs : ∀ k, a < k → k < b → 33 ≤ N k ∧ N k ≤ 126) : ∀ (n k : Nat) (σ τ : St) (pl : Nat) (x2 : Int32), b - k = n → a < k → k ≤ b → DP σ τ N b pl → pl ≤ k → (pl = 0 → k = a + 1) → (1 ≤ pl → x2 = τ 67 0 (pl - 1)) → DR σ τ N b k x2 := by
  intro n
  induction n using Nat.strongRecOn with
  | _ n ih =>
    intro k σ τ pl x2 hn hak hkb h hpk hp0 hx
    by_cases c1 : b ≤ k
    · -- the end
      refine Or.inr ⟨σ, τ, x2, pl, fun Q K1 K2 K3 hk => ⟨1, br_t (by rw [h.te1]; exact nI_le c1 (by omega)) hk⟩, fun Q K1 K2 K3 hk => ⟨1, br_t (by rw [h.te2]; exact nI_le c1 (by omega)) hk⟩, h, ?_, by omega, hx ?_⟩
      · rcases Nat.eq_zero_or_pos pl with z | z
        · have := hp0 z; omega
        · exact z
      · rcases Nat.eq_zero_or_pos pl with z | z
        · have := hp0 z; omega
        · exact z
    have c1' : ¬ (σ 9 0 4) ≤ nI k := by rw [h.te1]; exact nI_ge (by omega) (by omega)
    have c1'' : ¬ (τ 14 0 57) ≤ nI k := by rw [h.te2]; exact nI_ge (by omega) (by omega)
    have vk := vs k hak (by omega)
    have eC : ∀ j, ub (σ 40 0 j) = N j := fun j => by rw [← h.n1]
    have eM : ∀ j, ub (τ 66 0 j) = N j := fun j => by rw [← h.n2]
    have bC : ∀ j, by8 (σ 40 0 j) → N j < 128 → σ 40 0 j = nI (N j) := fun j hj hu => by
      rcases by_ub hj with ⟨_, z⟩ | ⟨z, _⟩
      · rw [z, eC]
      · rw [eC] at z; omega
    by_cases c2 : N k = 63
    · have hpl : 1 ≤ pl := by
        rcases Nat.eq_zero_or_pos pl with z | z
        · have := hp0 z
          rw [this, hsl] at c2
          exact absurd c2 (by decide)
        · exact z
      refine Or.inr ⟨σ, τ, x2, pl, fun Q K1 K2 K3 hk => ⟨1, br_f c1' ?_⟩, fun Q K1 K2 K3 hk => ⟨1, br_f c1'' ?_⟩, h, hpl, by omega, hx hpl⟩
      · rw [cl (by omega)]
        exact ⟨vin (by omega) (by omega), fun hby => br_t ((by_eq (v := 63) hby (by omega)).mpr (by rw [eC]; exact c2)) hk⟩
      · rw [cl (by omega)]
        exact ⟨vin (by omega) (by omega), fun hby => br_t ((by_eq (v := 63) hby (by omega)).mpr (by rw [eM]; exact c2)) hk⟩
    -- a code
    have coC : ∀ (Q : Int32 → St → Prop) (K1 K2 : St → Prop) (K3 : St → Int32 → Prop) (z : Nat), ((¬ N k = 37 → w9_step σ (nI (N k)) (fun σ2 => w9_decode_L14 Q K1 K2 K3 z σ2 (nI (k + 1)) (nI (N k)))) ∧ (N k = 37 → (((σ 9 0 4) ≤ nI (k + 1) → (w9_decode_J70 σ (nI (k + 1)) (-1) Q (fun σz x1z x2z => w9_decode_L14 Q K1 K2 K3 z σz x1z x2z) K1 K2)) ∧ (¬ (σ 9 0 4) ≤ nI (k + 1) → w9_decode_J70 σ (nI (k + 1)) (hxv (N (k + 1))) Q (fun σz x1z x2z => w9_decode_L14 Q K1 K2 K3 z σz x1z x2z) K1 K2)))) → w9_decode_L14 Q K1 K2 K3 (z + 1) σ (nI k) x2 := by
      intro Q K1 K2 K3 z hz
      refine br_f c1' ?_
      rw [cl (by omega)]
      refine ⟨vin (by omega) (by omega), fun hby => br_f (fun y => c2 (by rw [← eC]; exact (by_eq (v := 63) hby (by omega)).mp y)) ⟨vin (by omega) (by omega), fun _ => ?_⟩⟩
      rw [bC k hby (by omega), nI_1]
      by_cases c3 : N k = 37
      · refine br_u (by rw [c3]; rfl) ?_
        have hz := hz.2 c3
        by_cases c4 : b ≤ k + 1
        · exact br_t (by rw [h.te1]; exact nI_le c4 (by omega)) (hz.1 (by rw [h.te1]; exact nI_le c4 (by omega)))
        · have c4' : ¬ (σ 9 0 4) ≤ nI (k + 1) := by rw [h.te1]; exact nI_ge (by omega) (by omega)
          refine br_f c4' ?_
          rw [cl (by omega)]
          have vk1 := vs (k + 1) (by omega) (by omega)
          refine ⟨vin (by omega) (by omega), fun hby2 => ?_⟩
          rw [bC (k + 1) hby2 (by omega)]
          exact s9_hexadecimal (by omega) (hz.2 c4')
      · exact br_v (fun y => c3 ((nI_eq (b := 37) (by omega) (by omega)).mp y)) (hz.1 c3)
    have coM : ∀ (Q : Int32 → St → Prop) (K1 K2 K3 : St → Prop) (z : Nat), ((¬ N k = 37 → w14_unfolded_J128 τ (nI (k + 1)) (nI (N k)) Q (fun σz x1z => w14_unfolded_L10 Q K1 K2 K3 z σz x1z)) ∧ (N k = 37 → (((τ 14 0 57) ≤ nI (k + 1) → (w14_unfolded_J64 τ (nI (k + 1)) (-1) Q (fun σz x1z => w14_unfolded_L10 Q K1 K2 K3 z σz x1z) K1 K2)) ∧ (¬ (τ 14 0 57) ≤ nI (k + 1) → w14_unfolded_J64 τ (nI (k + 1)) (hxv (N (k + 1))) Q (fun σz x1z => w14_unfolded_L10 Q K1 K2 K3 z σz x1z) K1 K2)))) → w14_unfolded_L10 Q K1 K2 K3 (z + 1) τ (nI k) := by
      intro Q K1 K2 K3 z hz
      refine br_f c1'' ?_
      rw [cl (by omega)]
      refine ⟨vin (by omega) (by omega), fun hby => br_f (fun y => c2 (by rw [← eM]; exact (by_eq (v := 63) hby (by omega)).mp y)) (s14_headAt (by omega) ?_)⟩
      rw [eM k, nI_1]
      by_cases c3 : N k = 37
      · refine br_u (by rw [c3]; rfl) ?_
        have hz := hz.2 c3
        by_cases c4 : b ≤ k + 1
        · exact br_t (by rw [h.te2]; exact nI_le c4 (by omega)) (hz.1 (by rw [h.te2]; exact nI_le c4 (by omega)))
        · have c4' : ¬ (τ 14 0 57) ≤ nI (k + 1) := by rw [h.te2]; exact nI_ge (by omega) (by omega)
          refine br_f c4' (s14_headAt (by omega) ?_)
          have vk1 := vs (k + 1) (by omega) (by omega)
          rw [eM (k + 1)]
          exact s14_hexadecimal (by omega) (hz.2 c4')
      · exact br_v (fun y => c3 ((nI_eq (b := 37) (by omega) (by omega)).mp y)) (hz.1 c3)
    by_cases c3 : N k = 37
    rotate_left
    · -- a code as it is
      obtain ⟨hd, hl⟩ := h.step (u := N k) (by omega) (by omega)
      have r := ih (b - (k + 1)) (by omega) (k + 1) (stC σ pl (N k)) (stM τ pl (N k)) (pl + 1) (nI (N k)) rfl (by omega) (by omega) hd (by omega) (by omega) (fun _ => by rw [Nat.add_sub_cancel]; exact hl.symm)
      rcases r with ⟨σ', τ', g1, g2⟩ | ⟨σ', τ', x', pl', g1, g2, g3⟩
      · refine Or.inl ⟨σ', τ', fun Q K1 K2 K3 k1 k2 => ?_, fun Q K1 K2 K3 k1 k2 => ?_⟩
        · obtain ⟨z, hz⟩ := g1 Q K1 K2 K3 k1 k2
          exact ⟨z + 1, coC Q K1 K2 K3 z ⟨fun _ => s9_step h.p1 (by omega) (by omega) hz, fun y => absurd y c3⟩⟩
        · obtain ⟨z, hz⟩ := g2 Q K1 K2 K3 k1 k2
          exact ⟨z + 1, coM Q K1 K2 K3 z ⟨fun _ => s14_J128 h.p2 (by omega) (by omega) hz, fun y => absurd y c3⟩⟩
      · refine Or.inr ⟨σ', τ', x', pl', fun Q K1 K2 K3 k1 => ?_, fun Q K1 K2 K3 k1 => ?_, g3⟩
        · obtain ⟨z, hz⟩ := g1 Q K1 K2 K3 k1
          exact ⟨z + 1, coC Q K1 K2 K3 z ⟨fun _ => s9_step h.p1 (by omega) (by omega) hz, fun y => absurd y c3⟩⟩
        · obtain ⟨z, hz⟩ := g2 Q K1 K2 K3 k1
          exact ⟨z + 1, coM Q K1 K2 K3 z ⟨fun _ => s14_J128 h.p2 (by omega) (by omega) hz, fun y => absurd y c3⟩⟩
    -- two digits: hi and lo, with -1 for none
    have k2 : nI (k + 1) + 1 = nI (k + 2) := nI_1 _
    have k3 : nI (k + 1) + 2 = nI (k + 3) := nI_add (k + 1) 2
    obtain ⟨hv, ehv⟩ : ∃ hv, hv = if b ≤ k + 1 then (-1 : Int32) else hxv (N (k + 1)) := ⟨_, rfl⟩
    obtain ⟨lv, elv⟩ : ∃ lv, lv = if b ≤ k + 2 then (-1 : Int32) else hxv (N (k + 2)) := ⟨_, rfl⟩
    have j70C : ∀ (Q : Int32 → St → Prop) (K1 K2 : St → Prop) (K3 : St → Int32 → Prop) (z : Nat), w9_decode_J96 σ (nI (k + 1)) hv lv Q (fun σz x1z x2z => w9_decode_L14 Q K1 K2 K3 z σz x1z x2z) K1 K2 → w9_decode_L14 Q K1 K2 K3 (z + 1) σ (nI k) x2 := by
      intro Q K1 K2 K3 z hz
      refine coC Q K1 K2 K3 z ⟨fun y => absurd c3 y, fun _ => ?_⟩
      have fin : w9_decode_J70 σ (nI (k + 1)) hv Q (fun σz x1z x2z => w9_decode_L14 Q K1 K2 K3 z σz x1z x2z) K1 K2 := by
        unfold w9_decode_J70
        rw [k2, h.te1]
        by_cases c5 : b ≤ k + 2
        · rw [if_pos c5] at elv
          rw [elv] at hz
          exact br_t (nI_le c5 (by omega)) hz
        · rw [if_neg c5] at elv
          rw [elv] at hz
          refine br_f (nI_ge (by omega) (by omega)) ?_
          rw [cl (by omega)]
          have vk2 := vs (k + 2) (by omega) (by omega)
          refine ⟨vin (by omega) (by omega), fun hby2 => ?_⟩
          rw [bC (k + 2) hby2 (by omega)]
          exact s9_hexadecimal (by omega) hz
      by_cases c4 : b ≤ k + 1
      · rw [if_pos c4] at ehv
        rw [ehv] at fin
        exact br_t (by rw [h.te1]; exact nI_le c4 (by omega)) fin
      · rw [if_neg c4] at ehv
        rw [ehv] at fin
        exact br_f (by rw [h.te1]; exact nI_ge (by omega) (by omega)) fin
    have j64M : ∀ (Q : Int32 → St → Prop) (K1 K2 K3 : St → Prop) (z : Nat), w14_unfolded_J89 τ (nI (k + 1)) hv lv Q (fun σz x1z => w14_unfolded_L10 Q K1 K2 K3 z σz x1z) K1 K2 → w14_unfolded_L10 Q K1 K2 K3 (z + 1) τ (nI k) := by
      intro Q K1 K2 K3 z hz
      refine coM Q K1 K2 K3 z ⟨fun y => absurd c3 y, fun _ => ?_⟩
      have fin : w14_unfolded_J64 τ (nI (k + 1)) hv Q (fun σz x1z => w14_unfolded_L10 Q K1 K2 K3 z σz x1z) K1 K2 := by
        unfold w14_unfolded_J64
        rw [k2, h.te2]
        by_cases c5 : b ≤ k + 2
        · rw [if_pos c5] at elv
          rw [elv] at hz
          exact br_t (nI_le c5 (by omega)) hz
        · rw [if_neg c5] at elv
          rw [elv] at hz
          refine br_f (nI_ge (by omega) (by omega)) (s14_headAt (by omega) ?_)
          have vk2 := vs (k + 2) (by omega) (by omega)
          rw [eM (k + 2)]
          exact s14_hexadecimal (by omega) hz
      by_cases c4 : b ≤ k + 1
      · rw [if_pos c4] at ehv
        rw [ehv] at fin
        exact br_t (by rw [h.te2]; exact nI_le c4 (by omega)) fin
      · rw [if_neg c4] at ehv
        rw [ehv] at fin
        exact br_f (by rw [h.te2]; exact nI_ge (by omega) (by omega)) fin
    have hvc : hv = -1 ∨ ∃ v : Nat, v < 16 ∧ hv = nI v := by
      rw [ehv]
      split
      · exact Or.inl rfl
      · exact hxv_c _
    have lvc : lv = -1 ∨ ∃ v : Nat, v < 16 ∧ lv = nI v ∧ k + 2 < b := by
      rw [elv]
      by_cases c5 : b ≤ k + 2
      · rw [if_pos c5]; exact Or.inl rfl
      · rw [if_neg c5]
        rcases hxv_c (N (k + 2)) with z | ⟨v, z1, z2⟩
        · exact Or.inl z
        · exact Or.inr ⟨v, z1, z2, by omega⟩
    rcases hvc with zh | ⟨vh, zh1, zh2⟩
    · refine Or.inl ⟨σ, τ, fun Q K1 K2 K3 k1 k2 => ⟨1, j70C Q K1 K2 K3 0 ?_⟩, fun Q K1 K2 K3 k1 k2 => ⟨1, j64M Q K1 K2 K3 0 ?_⟩⟩
      · rw [zh]; exact br_t (by decide) k1
      · rw [zh]; exact br_t (by decide) k1
    have nh : ¬ hv < 0 := by rw [zh2]; exact nI_nlt (b := 0) (by omega) (by omega)
    rcases lvc with zl | ⟨vl, zl1, zl2, zl3⟩
    · refine Or.inl ⟨σ, τ, fun Q K1 K2 K3 k1 k2 => ⟨1, j70C Q K1 K2 K3 0 ?_⟩, fun Q K1 K2 K3 k1 k2 => ⟨1, j64M Q K1 K2 K3 0 ?_⟩⟩
      · rw [zl]; exact br_f nh (br_f (by decide) k1)
      · rw [zl]; exact br_f nh (br_f (by decide) k1)
    have nl : 0 ≤ lv := by rw [zl2]; exact nI_le (a := 0) (by omega) (by omega)
    have ev : (16 : Int32) * hv + lv = nI (16 * vh + vl) := by
      rw [zh2, zl2, show (16 : Int32) * nI vh = nI (16 * vh) from pk_mul 16 vh, nI_add]
    by_cases c6 : 33 ≤ 16 * vh + vl ∧ 16 * vh + vl ≤ 126
    rotate_left
    · refine Or.inl ⟨σ, τ, fun Q K1 K2 K3 k1 k2 => ⟨1, j70C Q K1 K2 K3 0 (br_f nh (br_t nl ?_))⟩, fun Q K1 K2 K3 k1 k2 => ⟨1, j64M Q K1 K2 K3 0 (br_f nh (br_t nl ?_))⟩⟩
      · rw [ev]
        exact s9_isIn_n (a := 33) (b := 126) (by omega) (by omega) (by omega) (fun y => absurd y c6) (fun _ => br_u rfl k2)
      · rw [ev]
        by_cases c7 : 16 * vh + vl < 33
        · exact br_t (nI_lt (b := 33) c7 (by omega)) k2
        · exact br_f (nI_nlt (b := 33) (by omega) (by omega)) (br_f (nI_ge (a := 126) (by omega) (by omega)) k2)
    -- a code by its digits
    obtain ⟨hd, hl⟩ := h.step (u := 16 * vh + vl) (by omega) (by omega)
    have r := ih (b - (k + 3)) (by omega) (k + 3) (stC σ pl (16 * vh + vl)) (stM τ pl (16 * vh + vl)) (pl + 1) (nI (16 * vh + vl)) rfl (by omega) (by omega) hd (by omega) (by omega) (fun _ => by rw [Nat.add_sub_cancel]; exact hl.symm)
    have toC : ∀ (Q : Int32 → St → Prop) (K1 K2 : St → Prop) (K3 : St → Int32 → Prop) (z : Nat), w9_decode_L14 Q K1 K2 K3 z (stC σ pl (16 * vh + vl)) (nI (k + 3)) (nI (16 * vh + vl)) → w9_decode_L14 Q K1 K2 K3 (z + 1) σ (nI k) x2 := by
      intro Q K1 K2 K3 z hz
      refine j70C Q K1 K2 K3 z (br_f nh (br_t nl ?_))
      rw [ev, k3]
      exact s9_isIn_n (a := 33) (b := 126) (by omega) (by omega) (by omega) (fun _ => br_v (by decide) (s9_step h.p1 (by omega) (by omega) hz)) (fun y => absurd c6 y)
    have toM : ∀ (Q : Int32 → St → Prop) (K1 K2 K3 : St → Prop) (z : Nat), w14_unfolded_L10 Q K1 K2 K3 z (stM τ pl (16 * vh + vl)) (nI (k + 3)) → w14_unfolded_L10 Q K1 K2 K3 (z + 1) τ (nI k) := by
      intro Q K1 K2 K3 z hz
      refine j64M Q K1 K2 K3 z (br_f nh (br_t nl ?_))
      rw [ev, k3]
      exact br_f (nI_nlt (b := 33) (by omega) (by omega)) (br_t (nI_le (b := 126) (by omega) (by omega)) (s14_J128 h.p2 (by omega) (by omega) hz))
    rcases r with ⟨σ', τ', g1, g2⟩ | ⟨σ', τ', x', pl', g1, g2, g3⟩
    · refine Or.inl ⟨σ', τ', fun Q K1 K2 K3 k1 k2 => ?_, fun Q K1 K2 K3 k1 k2 => ?_⟩
      · obtain ⟨z, hz⟩ := g1 Q K1 K2 K3 k1 k2
        exact ⟨z + 1, toC Q K1 K2 K3 z hz⟩
      · obtain ⟨z, hz⟩ := g2 Q K1 K2 K3 k1 k2
        exact ⟨z + 1, toM Q K1 K2 K3 z hz⟩
    · refine Or.inr ⟨σ', τ', x', pl', fun Q K1 K2 K3 k1 => ?_, fun Q K1 K2 K3 k1 => ?_, g3⟩
      · obtain ⟨z, hz⟩ := g1 Q K1 K2 K3 k1
        exact ⟨z + 1, toC Q K1 K2 K3 z hz⟩
      · obtain ⟨z, hz⟩ := g2 Q K1 K2 K3 k1
        exact ⟨z + 1, toM Q K1 K2 K3 z hz⟩
