/-! install -/
set_option maxRecDepth 100000
def RG (σ τ : St) : Prop := ∃ n : Nat, n ≤ 65535 ∧ σ 90 0 0 = nI n ∧ (τ 14 0 3) = nI n ∧ ∀ j, j < n → (σ 21 0) j = (τ 51 0) j
theorem RG.c {σ τ σ' τ' : St} (h1 : σ' 90 0 0 = σ 90 0 0) (h2 : (σ' 21 0) = (σ 21 0)) (h3 : (τ' 14 0 3) = (τ 14 0 3)) (h4 : (τ' 51 0) = (τ 51 0)) (h : RG σ τ) : RG σ' τ' := by
  unfold RG
  rw [h1, h2, h3, h4]
  exact h
theorem s14_install_L {Q : Int32 → St → Prop} {K : St → Prop} {t : Nat} (ht : t ≤ 65535) : ∀ (m j : Nat) (σ : St), (σ 14 0 1) = nI t → j + m = t → K (row3 σ 51 0 (va_cpy (σ 50 0) (σ 51 0) j j m)) → w14_install_L13 Q K (m + 1) σ (nI j) := by
  intro m
  induction m with
  | zero =>
    intro j σ h hj hK
    rw [cpy_0, row3_self] at hK
    exact br_t (by rw [h]; exact nI_le (by omega) (by omega)) hK
  | succ m ih =>
    intro j σ h hj hK
    refine br_f (by rw [h]; exact nI_ge (by omega) (by omega)) ⟨vin (by omega) (by omega), fun hb => ⟨vin (by omega) (by omega), fun s1 e1 => ?_⟩⟩
    rw [cl (by omega)] at hb e1
    rw [show (σ 50 0 j).toInt8.toInt32 = σ 50 0 j from hb, up3_as] at e1
    subst e1
    rw [nI_1]
    refine ih (j + 1) _ (by rw [row3_g, if_neg (by decide)]; exact h) (by omega) ?_
    rw [row3_s, row3_row3, row3_o (k' := 50) (by decide), cpy_s]
    exact hK
theorem j_install {σ τ : St} (hT : RT σ τ) (hG : RG σ τ) (hf : fre σ 21) : w0_install σ (fun r σ' => w14_install τ (fun r' τ' => r = r' ∧ RT σ' τ' ∧ RG σ' τ' ∧ (r < 0 → σ' = σ ∧ τ' = τ) ∧ (¬ r < 0 → (σ' 0 0 11) = 0 ∧ (τ' 14 0 4) = 0))) := by
  obtain ⟨t, ht, h1, h2, h3⟩ := hT
  unfold w0_install w14_install
  rw [h1, h2]
  have hle : nI t ≤ 65535 ↔ t ≤ 65535 := nI_leI (b := 65535) (by omega) (by decide)
  by_cases hc : t ≤ 65535
  · refine br_t (hle.mpr hc) ⟨nI_pos (by omega), by rw [cl (by omega)]; omega, hf, fun s1 e1 => ?_⟩
    have a20 : alen s1 20 0 = 65540 := rfl
    have a21 : alen s1 21 0 = t := by
      rw [e1]
      show (nw21 σ (nI t) 90 0 0).toNatClampNeg = t
      rw [nw21, up3_g, if_pos ⟨rfl, rfl, rfl⟩, cl (by omega)]
    refine s19_copy (a := 0) (b := 0) (n := t) (by decide) (by decide) (by omega) (by omega) (by omega) (by rw [a20]; omega) (by rw [a21]; omega) ?_
    intro s3 e3 s4 e4
    refine br_t (hle.mpr hc) ⟨t + 1, s14_install_L hc t 0 τ h2 (by omega) ?_⟩
    intro s5 e5 s6 e6 s7 e7
    have q5 : row3 τ 51 0 (va_cpy (τ 50 0) (τ 51 0) 0 0 t) 14 0 1 = nI t := by rw [row3_g, if_neg (by decide)]; exact h2
    rw [q5] at e5
    have c1 : s4 20 0 = σ 20 0 := by
      rw [e4, up3_i (by decide), e3, up3_i (by decide), row3_o (by decide), e1, nw21, up3_i (by decide), row3_o (by decide)]
    have c2 : s7 50 0 = τ 50 0 := by rw [e7, up3_i (by decide), e6, up3_i (by decide), e5, up3_i (by decide), row3_o (by decide)]
    have c3 : s7 14 0 3 = nI t := by rw [e7, up3_g, if_neg (by decide), e6, up3_g, if_neg (by decide), e5, up3_g, if_pos ⟨rfl, rfl, rfl⟩]
    have c4 : s4 90 0 0 = nI t := by
      rw [e4, up3_g, if_neg (by decide), e3, up3_g, if_neg (by decide), row3_g, if_neg (by decide), e1, nw21, up3_g, if_pos ⟨rfl, rfl, rfl⟩]
    have c5 : s4 21 0 = va_cpy (σ 20 0) (fun _ => 0) 0 0 t := by
      have e20 : nw21 σ (nI t) 20 0 = σ 20 0 := by rw [nw21, up3_i (by decide), row3_o (by decide)]
      have e21 : nw21 σ (nI t) 21 0 = fun _ => 0 := by rw [nw21, up3_i (by decide), row3_s]
      rw [e4, up3_i (by decide), e3, up3_i (by decide), row3_s, e1, e20, e21]
    have c6 : s7 51 0 = va_cpy (τ 50 0) (τ 51 0) 0 0 t := by rw [e7, up3_i (by decide), e6, up3_i (by decide), e5, up3_i (by decide), row3_s]
    refine ⟨c3.symm, ⟨0, by omega, ?_, ?_, ?_⟩, ⟨t, hc, c4, c3, fun j hj => ?_⟩, fun z => absurd z (nI_pos (by omega)), fun _ => ⟨?_, ?_⟩⟩
    · rw [e4, up3_g, if_neg (by decide), e3, up3_g, if_pos ⟨rfl, rfl, rfl⟩]; rfl
    · rw [e7, up3_g, if_neg (by decide), e6, up3_g, if_pos ⟨rfl, rfl, rfl⟩]; rfl
    · rw [c1, c2]; exact h3
    · rw [c5, c6, pk_cpy_in (by omega) (by omega), pk_cpy_in (by omega) (by omega), h3]
    · rw [e4, up3_g, if_pos ⟨rfl, rfl, rfl⟩]
    · rw [e7, up3_g, if_pos ⟨rfl, rfl, rfl⟩]
  · refine br_f (fun z => hc (hle.mp z)) (br_f (fun z => hc (hle.mp z)) ⟨rfl, ⟨t, ht, h1, h2, h3⟩, hG, fun _ => ⟨rfl, rfl⟩, fun z => absurd (by decide) z⟩)
theorem R_install {σ τ : St} (ok : okS σ) (ok' : okS τ) (hT : RT σ τ) (hG : RG σ τ) (hf : fre σ 21) :
    RunI σ τ (w0_install σ) (w14_install τ) (mF [21] [(90, 0)] [(0, [1, 11])] []) (mF [51] [] [(14, [1, 3, 4])] []) (fun r σ' τ' => RT σ' τ' ∧ RG σ' τ' ∧ (r < 0 → σ' = σ ∧ τ' = τ) ∧ (¬ r < 0 → (σ' 0 0 11) = 0 ∧ (τ' 14 0 4) = 0)) := by
  obtain ⟨r, σ', h, k1, f1, g1⟩ := e0_install ok (j_install hT hG hf)
  obtain ⟨r', τ', ⟨rfl, h⟩, k2, f2, g2⟩ := e14_install ok' h
  exact ⟨r, σ', τ', g1, g2, k1, k2, f1, f2, h⟩
