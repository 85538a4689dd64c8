/-! asking, telling; what waits -/
set_option maxRecDepth 100000
theorem mac_all : ∀ j, j < 6 → macb 65535 (-1) j = -1 := by decide +kernel
theorem mac_none : ∀ j, j < 6 → macb 0 0 j = 0 := by decide +kernel
def RA (σ : St) : Prop := (∀ j, j < 6 → (σ 33 0) j = -1) ∧ ∀ j, j < 6 → (σ 34 0) j = 0
theorem frm_eq {to own data to' own' data' : Nat → Int32} {kind : Int32} {n : Nat} (h1 : ∀ j, j < 6 → to j = to' j) (h2 : ∀ j, j < 6 → own j = own' j) (h3 : ∀ j, j < n → data j = data' j) (j : Nat) : frm to own data kind n j = frm to' own' data' kind n j := by
  unfold frm
  split
  · exact h1 j (by omega)
  · split
    · exact h2 _ (by omega)
    · split
      · rfl
      · split
        · rfl
        · split
          · exact h3 _ (by omega)
          · rfl
theorem put2_o {f : Nat → Int32} {a j : Nat} {v : Int32} (h : j < a ∨ a + 2 ≤ j) : put2 f a v j = f j := by
  unfold put2
  rw [vu_g, if_neg (by omega), vu_g, if_neg (by omega)]
theorem put2_in {f g : Nat → Int32} {a j : Nat} {v : Int32} (h1 : a ≤ j) (h2 : j < a + 2) : put2 f a v j = put2 g a v j := by
  unfold put2
  simp only [vu_g]
  split
  · rfl
  · rw [if_pos (by omega), if_pos (by omega)]
theorem put4_o {f : Nat → Int32} {a j : Nat} {v : Int32} (h : j < a ∨ a + 4 ≤ j) : put4 f a v j = f j := by
  unfold put4
  rw [put2_o (by omega), put2_o (by omega)]
theorem put4_in {f g : Nat → Int32} {a j : Nat} {v : Int32} (h1 : a ≤ j) (h2 : j < a + 4) : put4 f a v j = put4 g a v j := by
  unfold put4
  by_cases c : a + 2 ≤ j
  · exact put2_in c (by omega)
  · exact (put2_o (by omega)).trans ((put2_in h1 (by omega)).trans (put2_o (by omega)).symm)
theorem arpb_eq {what ip num : Int32} {own tgt own' tgt' : Nat → Int32} (h1 : ∀ j, j < 6 → own j = own' j) (h2 : ∀ j, j < 6 → tgt j = tgt' j) (j : Nat) : arpb what own tgt ip num j = arpb what own' tgt' ip num j := by
  unfold arpb
  by_cases c1 : 24 ≤ j ∧ j < 28
  · exact put4_in c1.1 (by omega)
  · rw [put4_o (by omega), put4_o (by omega)]
    by_cases c2 : 18 ≤ j ∧ j < 24
    · rw [pk_cpy_in (by omega) (by omega), pk_cpy_in (by omega) (by omega), h2 _ (by omega)]
    · rw [pk_cpy_out (by omega), pk_cpy_out (by omega)]
      by_cases c3 : 14 ≤ j ∧ j < 18
      · exact put4_in c3.1 (by omega)
      · rw [put4_o (by omega), put4_o (by omega)]
        by_cases c4 : 8 ≤ j ∧ j < 14
        · rw [pk_cpy_in (by omega) (by omega), pk_cpy_in (by omega) (by omega), h1 _ (by omega)]
        · rw [pk_cpy_out (by omega), pk_cpy_out (by omega)]
/-- both sides send an ARP packet: kt, it, at is where the component has the address it goes to; whatever state the model is in -/
theorem j_arpU {σ : St} {t s k2 i2 a kt it at_ : Nat} {what x : Int32} (hse : (σ 2 0 3) = nI s) (hs : s < 2147480000) (hw : (what = 1 ∧ kt = 33 ∧ it = 0 ∧ at_ = 0) ∨ (¬ what = 1 ∧ kt = k2 ∧ it = i2 ∧ at_ = a)) (h2 : ¬ what = 1 → a + 6 ≤ alen σ k2 i2 ∧ k2 ≠ 32) (ha : a < 100000) (hkt : kt ≠ 23 ∧ kt ≠ 32 ∧ at_ + 6 ≤ alen σ kt it) :
    w3_tell σ what k2 i2 (nI a) x (fun σ' => ∀ (τ : St) (th tl gh gl : Int32), RM σ τ → RV σ τ t s → (∀ j, j < 6 → σ kt it (at_ + j) = macb th tl j) → (∀ j, j < 6 → (if what = 1 then (σ 34 0) j else σ k2 i2 (a + j)) = macb gh gl j) → w14_arpFrame τ what th tl gh gl x (fun τ' => RV σ' τ' t (s + 1) ∧ (τ' 14 0 18) = (τ 14 0 18))) := by
  have hat : at_ < 100000 := by rcases hw with ⟨_, _, _, h⟩ | ⟨_, _, _, h⟩ <;> omega
  refine s3_tell hw h2 ha (fun f hf => ?_)
  refine s2_send (n := 28) (s := s) (by rw [row3_g, if_neg (by decide)]; exact hse) hs (by rw [alen_row (by decide)]; exact hkt.2.2) hat (by rw [alen_row (by decide)]; show _ ≤ 28; omega) (by omega) hkt.1 (by decide) (fun f2 hf2 => ?_)
  intro τ th tl gh gl hM hV ht hg
  obtain ⟨m1, m2, m3, m4, m5, m6, m7, m8⟩ := hM
  have hV1 : RV (row3 σ 32 0 f) τ t s := hV.c (by rw [row3_g, if_neg (by decide)]) (by rw [row3_g, if_neg (by decide)]) (funext fun i => row3_o (by omega)) (row3_o (by decide)) (row3_o (by decide)) rfl rfl rfl rfl rfl
  refine s14_arpFrame (fun g hg1 => ?_)
  have hV2 : RV (row3 σ 32 0 f) (row3 τ 57 0 g) t s := hV1.c rfl rfl rfl rfl rfl (by rw [row3_g, if_neg (by decide)]) (by rw [row3_g, if_neg (by decide)]) (row3_o (by decide)) (row3_o (by decide)) (row3_o (by decide))
  refine s14_send (n := 28) (s := s) hV2.2.2.2.1 hs (by omega) (fun g2 hg2 => ⟨RV_send hV2 (by omega) hs (fun j hj => ?_), by simp [up3_g, row3_g]⟩)
  rw [hf2 j hj, hg2 j hj]
  refine frm_eq (fun j hj => ?_) (fun j hj => ?_) (fun j hj => ?_) j
  · show row3 σ 32 0 f kt it (at_ + j) = _
    rw [row3_o (by omega)]
    exact ht j hj
  · rw [row3_o (by decide), row3_g, if_neg (by decide), row3_g, if_neg (by decide)]
    exact m7 j hj
  · show row3 σ 32 0 f 32 0 j = row3 τ 57 0 g 57 0 (14 + j)
    rw [row3_s, row3_s, hf j hj, hg1 j hj, m2]
    exact arpb_eq m7 hg j
/-- the same, the component's run taken out: it asks for a hop -/
theorem U_ask {σ : St} {t s : Nat} {x : Int32} (ok : okS σ) (hA : RA σ) (hse : (σ 2 0 3) = nI s) (hs : s < 2147480000) : ∃ σ', (∀ Q, Q σ' → w3_tell σ 1 34 0 0 x Q) ∧ okS σ' ∧ Fr (mF [23, 25, 26, 32] [] [(2, [3])] []) σ σ' ∧ ∀ τ, okS τ → RM σ τ → RV σ τ t s → ∃ τ', (∀ Q, Q τ' → w14_ask τ x Q) ∧ okS τ' ∧ Fr (mF [57, 58, 59, 60] [] [(14, [18, 23])] []) τ τ' ∧ RV σ' τ' t (s + 1) ∧ (τ' 14 0 18) = (τ 14 0 18) := by
  have hj := j_arpU (t := t) (k2 := 34) (i2 := 0) (a := 0) (kt := 33) (it := 0) (at_ := 0) (what := 1) (x := x) hse hs (Or.inl ⟨rfl, rfl, rfl, rfl⟩) (fun z => absurd rfl z) (by omega) ⟨by decide, by decide, by show _ ≤ 6; omega⟩
  obtain ⟨σ', h, k1, f1, g1⟩ := e3_tell (by decide) ok hj
  refine ⟨σ', g1, k1, f1, fun τ ok' hM hV => ?_⟩
  obtain ⟨τ', h, k2, f2, g2⟩ := e14_ask (x1 := x) ok' (h τ 65535 (-1) 0 0 hM hV (fun j hj => by rw [Nat.zero_add, hA.1 j hj, mac_all j hj]) (fun j hj => by rw [if_pos rfl, hA.2 j hj, mac_none j hj]))
  exact ⟨τ', g2, k2, f2, h⟩
theorem R_ask {σ τ : St} {t s : Nat} {x : Int32} (ok : okS σ) (ok' : okS τ) (hM : RM σ τ) (hV : RV σ τ t s) (hA : RA σ) (hs : s < 2147480000) :
    RunV σ τ (w3_tell σ 1 34 0 0 x) (w14_ask τ x) (mF [23, 25, 26, 32] [] [(2, [3])] []) (mF [57, 58, 59, 60] [] [(14, [18, 23])] []) (fun σ' τ' => RV σ' τ' t (s + 1) ∧ (τ' 14 0 18) = (τ 14 0 18)) := by
  obtain ⟨σ', g1, k1, f1, h⟩ := U_ask (t := t) (x := x) ok hA hV.2.2.1 hs
  obtain ⟨τ', g2, k2, f2, h⟩ := h τ ok' hM hV
  exact ⟨σ', τ', g1, g2, k1, k2, f1, f2, h⟩
theorem R_tell {σ τ : St} {t s k1 i1 : Nat} {x th tl : Int32} (ok : okS σ) (ok' : okS τ) (hk : abc k1 i1 = true) (hk2 : k1 ≠ 23 ∧ k1 ≠ 32) (hl : 28 ≤ alen σ k1 i1) (hM : RM σ τ) (hV : RV σ τ t s) (hs : s < 2147480000) (ht : ∀ j, j < 6 → σ k1 i1 (22 + j) = macb th tl j) :
    RunV σ τ (w3_tell σ 2 k1 i1 22 x) (w14_arpFrame τ 2 th tl th tl x) (mF [23, 25, 26, 32] [] [(2, [3])] []) (mF [57, 58, 59, 60] [] [(14, [18, 23])] []) (fun σ' τ' => RV σ' τ' t (s + 1) ∧ (τ' 14 0 18) = (τ 14 0 18)) := by
  have hj := j_arpU (t := t) (k2 := k1) (i2 := i1) (a := 22) (kt := k1) (it := i1) (at_ := 22) (what := 2) (x := x) hV.2.2.1 hs (Or.inr ⟨by decide, rfl, rfl, rfl⟩) (fun _ => ⟨by omega, hk2.2⟩) (by omega) ⟨hk2.1, hk2.2, by omega⟩
  obtain ⟨σ', h, k1, f1, g1⟩ := e3_tell hk ok hj
  have h := h τ th tl th tl hM hV ht (fun j hj => by rw [if_neg (by decide)]; exact ht j hj)
  obtain ⟨τ', h, k2, f2, g2⟩ := e14_arpFrame ok' h
  exact ⟨σ', τ', g1, g2, k1, k2, f1, f2, h⟩
theorem ok_rowb {σ : St} {k i : Nat} {f : Nat → Int32} (ok : okS σ) (h2 : ∀ j, tyk k j = 2) (hf : ∀ j, by8 (f j)) : okS (row3 σ k i f) := by
  intro k' i' j'
  rw [row3_g]
  split
  · rename_i h
    rw [h.1, h2]
    exact ⟨fun h => absurd h (by decide), fun _ => hf j'⟩
  · exact ok k' i' j'
theorem by_cpy {f g : Nat → Int32} {a b n : Nat} (hf : ∀ j, by8 (f j)) (hg : ∀ j, by8 (g j)) (j : Nat) : by8 (va_cpy f g a b n j) := by
  unfold va_cpy
  split
  · exact hf _
  · exact hg _
/-! what waits for a hop -/
def cnt (f : Nat → Int32) : Nat → Nat
  | 0 => 0
  | n + 1 => cnt f n + (if f n = 0 then 0 else 1)
theorem cnt_le (f : Nat → Int32) (n : Nat) : cnt f n ≤ n := by
  induction n with
  | zero => exact Nat.le_refl _
  | succ n ih => simp only [cnt]; split <;> omega
theorem cnt_ext {f g : Nat → Int32} {n : Nat} (h : ∀ j, j < n → (f j = 0 ↔ g j = 0)) : cnt f n = cnt g n := by
  induction n with
  | zero => rfl
  | succ n ih =>
    simp only [cnt]
    rw [ih (fun j hj => h j (by omega))]
    congr 1
    have := h n (by omega)
    by_cases c : f n = 0
    · rw [if_pos c, if_pos (this.mp c)]
    · rw [if_neg c, if_neg (fun z => c (this.mpr z))]
theorem cnt_all {f : Nat → Int32} {n : Nat} (h : cnt f n = n) : ∀ j, j < n → f j ≠ 0 := by
  induction n with
  | zero => intro j hj; omega
  | succ n ih =>
    intro j hj
    simp only [cnt] at h
    have := cnt_le f n
    by_cases c : f n = 0
    · rw [if_pos c] at h; omega
    · by_cases e : j = n
      · rw [e]; exact c
      · exact ih (by rw [if_neg c] at h; omega) j (by omega)
theorem cnt_up {f g : Nat → Int32} {n k : Nat} (hk : k < n) (h0 : f k = 0) (h1 : g k ≠ 0) (h : ∀ j, j < n → j ≠ k → (f j = 0 ↔ g j = 0)) : cnt g n = cnt f n + 1 := by
  induction n with
  | zero => omega
  | succ n ih =>
    simp only [cnt]
    by_cases e : k = n
    · subst e
      rw [if_pos h0, if_neg h1, cnt_ext (f := g) (g := f) (fun j hj => (h j (by omega) (by omega)).symm)]
    · rw [ih (by omega) (fun j hj hj2 => h j (by omega) hj2)]
      have := h n (by omega) (fun z => e z.symm)
      by_cases c : f n = 0
      · rw [if_pos c, if_pos (this.mp c)]
      · rw [if_neg c, if_neg (fun z => c (this.mpr z))]
theorem cnt_none {f : Nat → Int32} {n : Nat} (h : ∀ j, j < n → f j = 0) : cnt f n = 0 := by
  induction n with
  | zero => rfl
  | succ n ih => simp only [cnt]; rw [ih (fun j hj => h j (by omega)), if_pos (h n (by omega))]
/-- the component's p and the model's j wait for the same -/
def wpair (σ τ : St) (t p j : Nat) : Prop := (σ 4 p 0) = (τ 17 j 1) ∧ (σ 4 p 1) = (τ 17 j 3) ∧ (σ 4 p 2) = (τ 17 j 4) ∧ (σ 4 p 4) = (τ 17 j 2) ∧ ∃ u a l : Nat, (τ 17 j 3) = nI u ∧ (τ 17 j 4) = nI a ∧ (τ 17 j 2) = nI l ∧ 1 ≤ a ∧ a ≤ 3 ∧ l ≤ 1500 ∧ u ≤ t ∧ t ≤ u + 1000 * a ∧ ∀ i, i < l → (σ 35 p) i = (τ 68 j) i
theorem wpair.c {σ τ σ' τ' : St} {t p j : Nat} (h1 : σ' 4 p = σ 4 p) (h2 : σ' 35 p = σ 35 p) (g1 : τ' 17 j = τ 17 j) (g2 : τ' 68 j = τ 68 j) (h : wpair σ τ t p j) : wpair σ' τ' t p j := by
  unfold wpair
  rw [h1, h2, g1, g2]
  exact h
def hrw (σ : St) (k : Nat) : Nat := ((σ 31 0) k).toNatClampNeg
/-- which of the component's stand in the row: each once -/
def RPm (σ : St) : Prop := (∀ k, k < 8 → hrw σ k < 8) ∧ ∀ k k', k < 8 → k' < 8 → hrw σ k = hrw σ k' → k = k'
def RW (σ τ : St) (t o : Nat) : Prop := ∃ w : Nat, w ≤ 8 ∧ (σ 3 0 9) = nI w ∧ (τ 14 0 25) = nI o ∧ cnt (fun j => (τ 17 j 0)) 8 = w ∧ ∃ (q r : Nat → Nat), (∀ k, k < w → q k < 8 ∧ (τ 17 (q k) 0) = 1 ∧ (τ 17 (q k) 5) = nI (r k) ∧ r k ≤ o ∧ wpair σ τ t (hrw σ k) (q k)) ∧ (∀ k k', k < k' → k' < w → r k < r k') ∧ (∀ j, j < 8 → (τ 17 j 0) ≠ 0 → ∃ k, k < w ∧ q k = j) ∧ ∀ k k', k < w → k' < w → k ≠ k' → (τ 17 (q k) 1) ≠ (τ 17 (q k') 1)
theorem RW.c {σ τ σ' τ' : St} {t o : Nat} (h1 : (σ' 3 0 9) = (σ 3 0 9)) (h2 : (σ' 31 0) = (σ 31 0)) (h3 : σ' 4 = σ 4) (h4 : σ' 35 = σ 35) (g1 : (τ' 14 0 25) = (τ 14 0 25)) (g2 : τ' 17 = τ 17) (g3 : τ' 68 = τ 68) (h : RW σ τ t o) : RW σ' τ' t o := by
  unfold RW wpair hrw
  rw [h1, h2, h3, h4, g1, g2, g3]
  exact h
