/-! the path of a target: side by side -/
set_option maxRecDepth 100000
/-- texts that are put behind -/
def ixr : (Nat → Int32) → Nat → Nat → Nat → Nat → Int32
  | f, _, _, 0 => f
  | f, pl, j, m + 1 => ixr (va_up f pl (nI (sc 20 j))) (pl + 1) (j + 1) m
def stn : St → Nat → Nat → Nat → St
  | τ, _, _, 0 => τ
  | τ, pl, j, m + 1 => stn (stM τ pl (sc 20 j)) (pl + 1) (j + 1) m
theorem stn_67 : ∀ (m j pl : Nat) (τ : St), stn τ pl j m 67 0 = ixr (τ 67 0) pl j m := by
  intro m
  induction m with
  | zero => intro j pl τ; rfl
  | succ m ih =>
    intro j pl τ
    unfold stn ixr
    rw [ih]
    congr 1
theorem s14_L174 {pl : Nat} {Q : Int32 → St → Prop} {K : St → Prop} (hpl : pl < 7000) : ∀ (m j : Nat) (τ : St), j + m = 10 → (τ 14 0 59) = nI pl → K (row3 τ 67 0 (ixr (τ 67 0) (pl + j) j m)) → w14_unfolded_L174 55 Q K (m + 1) τ (nI j) := by
  intro m
  induction m with
  | zero =>
    intro j τ hj hp hK
    unfold ixr at hK
    rw [row3_self] at hK
    exact sJ_length (br_t (nI_le (a := 10) (by omega) (by omega)) hK)
  | succ m ih =>
    intro j τ hj hp hK
    obtain ⟨s2, s3, s4⟩ := sc_lt 55 (by decide) j (by show j < 10; omega)
    refine sJ_length (br_f (nI_ge (b := 10) (by omega) (by omega)) (sJ_charAt (by decide) (by show j < 10; omega) ?_))
    rw [hp, nI_add, cl (by omega), nI_1]
    refine ⟨vin (by omega) (by omega), fun s15 e15 => ?_⟩
    have hb := by_n _ s3
    rw [show (nI (sc 55 j)).toInt8.toInt32 = nI (sc 55 j) from hb, show (nI (sc 55 j)).toInt8.toInt32 = nI (sc 55 j) from hb] at e15
    refine ih (j + 1) s15 (by omega) (by rw [e15, up3_g, if_neg (by omega)]; exact hp) ?_
    unfold ixr at hK
    rw [e15, up3_as, row3_row3, row3_s]
    exact hK
theorem s9_L149 {b : Nat} {N : Nat → Nat} {Q : Int32 → St → Prop} {K : St → Prop} : ∀ (m j : Nat) (σ τ : St) (pl : Nat), j + m = 10 → DP σ τ N b pl → pl + m < 7000 → (∀ σ', DP σ' (stn τ pl j m) N b (pl + m) → K σ') → w9_decode_L149 Q K (m + 1) σ (nI j) := by
  intro m
  induction m with
  | zero =>
    intro j σ τ pl hj h hpl hK
    exact br_t (nI_le (a := 10) (by omega) (by omega)) (hK σ h)
  | succ m ih =>
    intro j σ τ pl hj h hpl hK
    obtain ⟨s2, s3, s4⟩ := sc_lt 20 (by decide) j (by show j < 10; omega)
    refine br_f (nI_ge (b := 10) (by omega) (by omega)) (sJ_charAt (by decide) (by show j < 10; omega) (s9_step h.p1 (by omega) s3 ?_))
    rw [nI_1]
    refine ih (j + 1) _ (stM τ pl (sc 20 j)) (pl + 1) (by omega) (h.step (by omega) s3).1 (by omega) (fun σ' hd => hK σ' ?_)
    rw [show pl + (m + 1) = pl + 1 + m by omega]
    exact hd
theorem R_decode {σ τ : St} {a b : Nat} {N : Nat → Nat} (ok : okS σ) (ok' : okS τ) (h1 : nC σ = N) (h2 : nM τ = N) (hb : b ≤ 4096) (hsl : N (a + 1) = 47) (hab : a + 1 < b) (vs : ∀ k, a < k → k < b → 33 ≤ N k ∧ N k ≤ 126) (e1 : (σ 9 0 3) = nI a) (e2 : (σ 9 0 4) = nI b) (e3 : (τ 14 0 56) = nI (a + 1)) (e4 : (τ 14 0 57) = nI b) :
    RunI σ τ (w9_decode σ) (w14_unfolded τ) (mF [41] [] [(9, [18])] []) (mF [67] [] [(14, [59])] []) (fun r σ' τ' => r = 0 ∨ r = 1 ∧ ∃ pl : Nat, 1 ≤ pl ∧ pl ≤ 4106 ∧ (σ' 9 0 18) = nI pl ∧ (τ' 14 0 59) = nI pl ∧ ∀ j, j < pl → j < 48 → σ' 41 0 j = τ' 67 0 j ∧ τ' 67 0 j ≠ 0) := by
  have hj : w9_decode σ (fun r σ' => w14_unfolded τ (fun r' τ' => r = r' ∧ (r = 0 ∨ r = 1 ∧ ∃ pl : Nat, 1 ≤ pl ∧ pl ≤ 4106 ∧ (σ' 9 0 18) = nI pl ∧ (τ' 14 0 59) = nI pl ∧ ∀ j, j < pl → j < 48 → σ' 41 0 j = τ' 67 0 j ∧ τ' 67 0 j ≠ 0))) := by
    intro s1 d1
    generalize ht1 : up3 τ 14 0 59 0 = t1
    have v3 : s1 9 0 3 = nI a := by rw [d1, up3_g, if_neg (by omega)]; exact e1
    have v56 : t1 14 0 56 = nI (a + 1) := by rw [← ht1, up3_g, if_neg (by omega)]; exact e3
    have hd : DP s1 t1 N b 0 := by
      refine DP.mk ?_ ?_ ?_ ?_ ?_ ?_ (fun j hj => by omega) (fun j hj => by omega)
      · rw [d1, up3_g, if_neg (by omega)]; exact e2
      · rw [← ht1, up3_g, if_neg (by omega)]; exact e4
      · rw [← h1]; unfold nC; rw [d1, up3_r, if_neg (by omega)]
      · rw [← h2]; unfold nM; rw [← ht1, up3_r, if_neg (by omega)]
      · rw [d1, up3_g, if_pos ⟨rfl, rfl, rfl⟩]; rfl
      · rw [← ht1, up3_g, if_pos ⟨rfl, rfl, rfl⟩]; rfl
    have mo : ∀ (Q : Int32 → St → Prop), (∃ z9, w14_unfolded_L10 Q (fun σ10 => Q 0 σ10) (fun σ11 => Q 0 σ11) (fun σ12 => w14_unfolded_J152 σ12 Q) z9 t1 (nI (a + 1))) → w14_unfolded τ Q := by
      intro Q hq u1 x1
      rw [ht1] at x1
      rw [x1, v56]
      exact hq
    rw [v3, nI_1]
    have r := DR_l hb hsl hab vs (b - (a + 1)) (a + 1) s1 t1 0 0 rfl (by omega) (by omega) hd (by omega) (fun _ => rfl) (fun z => by omega)
    rcases r with ⟨σ', τ', g1, g2⟩ | ⟨σ', τ', x', pl, g1, g2, hd', p1, p2, hx⟩
    · refine g1 _ _ _ _ ?_ ?_
      · exact mo _ (g2 _ _ _ _ ⟨rfl, Or.inl rfl⟩ ⟨rfl, Or.inl rfl⟩)
      · exact mo _ (g2 _ _ _ _ ⟨rfl, Or.inl rfl⟩ ⟨rfl, Or.inl rfl⟩)
    refine g1 _ _ _ _ ?_
    have jm : ∀ (Q : Int32 → St → Prop), ((¬ τ' 67 0 (pl - 1) = 47 → Q 1 τ') ∧ (τ' 67 0 (pl - 1) = 47 → (∃ z16, w14_unfolded_L174 55 Q (fun σ17 => wJ1_length 55 (fun r18 => (∀ σ19, σ19 = up3 σ17 14 0 59 ((σ17 14 0 59) + r18) → (Q 1 σ19)))) z16 τ' 0))) → w14_unfolded τ Q := by
      intro Q hq
      refine mo Q (g2 _ _ _ _ ?_)
      unfold w14_unfolded_J152
      rw [hd'.p2, show nI pl - 1 = nI (pl - 1) from pk_sub (b := 1) p1, cl (by omega)]
      exact ⟨vin (by omega) (by omega), fun _ => hq⟩
    by_cases c : x' = 47
    rotate_left
    · exact br_v c (jm _ (br_v (by rw [← hx]; exact c) ⟨rfl, Or.inr ⟨rfl, pl, p1, by omega, hd'.p1, hd'.p2, fun j z1 z2 => ⟨hd'.pe j z1 z2, hd'.pz j z1⟩⟩⟩))
    refine br_u c ⟨11, s9_L149 10 0 σ' τ' pl (by omega) hd' (by omega) (fun σ2 hd2 => ?_)⟩
    refine jm _ (br_u (by rw [← hx]; exact c) ⟨11, s14_L174 (pl := pl) (by omega) 10 0 τ' (by omega) hd'.p2 ?_⟩)
    refine sJ_length (fun s19 e19 => ⟨rfl, Or.inr ⟨rfl, pl + 10, by omega, by omega, hd2.p1, ?_, ?_⟩⟩)
    · rw [e19, up3_g, if_pos ⟨rfl, rfl, rfl⟩, row3_o (by omega), hd'.p2, show sn 55 = 10 from rfl, nI_add]
    · intro j z1 z2
      have ee : s19 67 0 j = stn τ' pl 0 10 67 0 j := by
        rw [e19, up3_g, if_neg (by omega), row3_s, stn_67]
        rfl
      rw [ee]
      exact ⟨hd2.pe j z1 z2, hd2.pz j z1⟩
  obtain ⟨r, σ', h, k1, f1, g1⟩ := e9_decode ok hj
  obtain ⟨r', τ', h, k2, f2, g2⟩ := e14_unfolded ok' h
  obtain ⟨h1, h2⟩ := h
  subst h1
  exact ⟨r, σ', τ', g1, g2, k1, k2, f1, f2, h2⟩
