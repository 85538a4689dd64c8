/-! requests of a connection: side by side -/
set_option maxRecDepth 100000
def CF (σ τ : St) (i : Nat) (c : CK) : Prop := ((σ 11 i 2) = nI (c 0)) ∧ ((σ 11 i 26) = (τ 15 i 3) + nI (c 1)) ∧ ((σ 11 i 27) = nI (c 17)) ∧ ((σ 11 i 10) = (τ 15 i 3) + nI (c 3)) ∧ ((σ 11 i 9) = (τ 15 i 3) + nI (c 2)) ∧ ((σ 13 i 1) = nI (c 5)) ∧ ((σ 12 i 2) = nI (c 14)) ∧ ((σ 12 i 3) = nI (c 16)) ∧ (σ 42 i = τ 72 i)
theorem CF.e2 {σ τ : St} {i : Nat} {c : CK} (h : CF σ τ i c) : (σ 11 i 2) = nI (c 0) := h.1
theorem CF.e26 {σ τ : St} {i : Nat} {c : CK} (h : CF σ τ i c) : (σ 11 i 26) = (τ 15 i 3) + nI (c 1) := h.2.1
theorem CF.e27 {σ τ : St} {i : Nat} {c : CK} (h : CF σ τ i c) : (σ 11 i 27) = nI (c 17) := h.2.2.1
theorem CF.e10 {σ τ : St} {i : Nat} {c : CK} (h : CF σ τ i c) : (σ 11 i 10) = (τ 15 i 3) + nI (c 3) := h.2.2.2.1
theorem CF.e9 {σ τ : St} {i : Nat} {c : CK} (h : CF σ τ i c) : (σ 11 i 9) = (τ 15 i 3) + nI (c 2) := h.2.2.2.2.1
theorem CF.e131 {σ τ : St} {i : Nat} {c : CK} (h : CF σ τ i c) : (σ 13 i 1) = nI (c 5) := h.2.2.2.2.2.1
theorem CF.eh {σ τ : St} {i : Nat} {c : CK} (h : CF σ τ i c) : (σ 12 i 2) = nI (c 14) := h.2.2.2.2.2.2.1
theorem CF.es {σ τ : St} {i : Nat} {c : CK} (h : CF σ τ i c) : (σ 12 i 3) = nI (c 16) := h.2.2.2.2.2.2.2.1
theorem CF.er {σ τ : St} {i : Nat} {c : CK} (h : CF σ τ i c) : σ 42 i = τ 72 i := h.2.2.2.2.2.2.2.2
theorem CF.mk {σ τ : St} {i : Nat} {c : CK} (e2 : (σ 11 i 2) = nI (c 0)) (e26 : (σ 11 i 26) = (τ 15 i 3) + nI (c 1)) (e27 : (σ 11 i 27) = nI (c 17)) (e10 : (σ 11 i 10) = (τ 15 i 3) + nI (c 3)) (e9 : (σ 11 i 9) = (τ 15 i 3) + nI (c 2)) (e131 : (σ 13 i 1) = nI (c 5)) (eh : (σ 12 i 2) = nI (c 14)) (es : (σ 12 i 3) = nI (c 16)) (er : σ 42 i = τ 72 i) : CF σ τ i c := ⟨e2, e26, e27, e10, e9, e131, eh, es, er⟩
theorem RCq.cf {σ τ : St} {t i : Nat} {c : CK} (h : RCq σ τ t i c) : CF σ τ i c := by
  obtain ⟨hR, _⟩ := h
  refine CF.mk ?_ ?_ ?_ ?_ ?_ ?_ ?_ ?_ ?_
  · have := hR.est; rwa [up3_g, if_neg (by omega)] at this
  · have := hR.eba; rwa [up3_g, if_neg (by omega)] at this
  · have := hR.ed; rwa [up3_g, if_neg (by omega)] at this
  · have := hR.eat; rwa [up3_g, if_neg (by omega)] at this
  · have := hR.eun; rwa [up3_g, if_neg (by omega)] at this
  · have := hR.eL; rwa [up3_g, if_neg (by omega)] at this
  · have := hR.ehd; rwa [up3_g, if_neg (by omega)] at this
  · have := hR.esk; rwa [up3_g, if_neg (by omega)] at this
  · have := hR.erow; rwa [up3_r, if_neg (by omega)] at this
theorem s11_leftq {σ τ : St} {t i : Nat} {c : CK} {Q : Int32 → Prop} (h : RCq σ τ t i c) (hst : 2 ≤ (c 0)) (hq : Q (nI ((c 1) + (c 5) + (c 17) - (c 3)))) : w11_left σ i Q := by
  have hF := h.cf
  have hR := h.1
  have q1 := hR.ax
  have q2 := hR.xe
  have q3 := hR.f1
  have q4 := hR.d1
  have q5 := hR.s8
  unfold w11_left
  rw [hF.e2]
  refine br_t (nI_le (a := 2) hst (by omega)) (fun hb => ?_)
  rw [hF.e26, hF.e131, hF.e10, hF.e27]
  by_cases c1 : (c 17) = 0
  · refine br_t (by rw [c1]; rfl) ?_
    rw [so_5, show ∀ x : Int32, x + 0 = x from fun x => by grind, so_4 _ _ _ (by omega)]
    rw [c1, Nat.add_zero] at hq
    exact hq
  · have c2 : (c 17) = 1 := by omega
    refine br_f (by rw [c2]; decide) ?_
    rw [so_5, so_6, so_4 _ _ _ (by omega)]
    rw [c2] at hq
    exact hq
theorem s12_leave0 {σ τ : St} {t i : Nat} {c : CK} {Q : St → Prop} (h : RCq σ τ t i c) (hs : (c 16) = 0 ∨ (c 14) = 0) (hq : Q σ) : w12_leaveOut σ i Q := by
  have hF := h.cf
  have q1 := h.1.hd4
  have q2 := h.1.sk6
  have emin : imin ((σ 12 i 3)) ((σ 12 i 2)) = 0 := by rw [hF.es, hF.eh, imin_n (by omega) (by omega), show min (c 16) (c 14) = 0 by omega]; rfl
  unfold w12_leaveOut
  rw [emin]
  refine br_t (by decide) (fun s1 e1 => ?_)
  have : s1 = σ := by rw [e1]; exact up_self (by rw [Int32.sub_zero])
  rw [this]
  exact hq
/-- other rows may change -/
theorem RCq.c {σ τ σ' τ' : St} {t i : Nat} {c : CK} (h : RCq σ τ t i c) (a1 : σ' 11 i = σ 11 i) (a2 : σ' 12 i = σ 12 i) (a3 : σ' 13 i = σ 13 i) (a4 : σ' 42 i = σ 42 i) (a5 : σ' 43 i = σ 43 i) (a6 : σ' 44 i = σ 44 i) (a7 : σ' 90 (i + 1) 0 = σ 90 (i + 1) 0) (b1 : τ' 15 i = τ 15 i) (b2 : τ' 71 i = τ 71 i) (b3 : τ' 72 i = τ 72 i) (b4 : τ' 73 i = τ 73 i) (b5 : τ' 51 0 = τ 51 0) : RCq σ' τ' t i c := by
  obtain ⟨hR, hO⟩ := h
  refine ⟨hR.c ?_ ?_ ?_ ?_ ?_ ?_ ?_ b1 b2 b3 b4 b5, ?_⟩
  · rw [up3_r, if_pos ⟨rfl, rfl⟩, up3_r, if_pos ⟨rfl, rfl⟩, a1, b1]
  · rw [up3_r, if_neg (by omega), up3_r, if_neg (by omega)]; exact a2
  · rw [up3_r, if_neg (by omega), up3_r, if_neg (by omega)]; exact a3
  · rw [up3_r, if_neg (by omega), up3_r, if_neg (by omega)]; exact a4
  · rw [up3_r, if_neg (by omega), up3_r, if_neg (by omega)]; exact a5
  · rw [up3_r, if_neg (by omega), up3_r, if_neg (by omega)]; exact a6
  · rw [up3_g, if_neg (by omega), up3_g, if_neg (by omega)]; exact a7
  · rw [b1, a1]; exact hO
theorem HL_x {N N' : Nat → Nat} {n : Nat} (h : ∀ k, k < n → N k = N' k) (g : HL N n) : HL N' n := by
  intro x h1 h2
  have h1' : x = 0 ∨ N (x - 1) = 10 := h1.imp id (fun z => by rw [h _ (by omega)]; exact z)
  obtain ⟨e, a1, a2, a3, a4, a5⟩ := g x h1' h2
  refine ⟨e, a1, a2, by rw [← h _ a2]; exact a3, fun j b1 b2 => by rw [← h _ (by omega)]; exact a4 j b1 b2, ?_⟩
  have : emp N' x e ↔ emp N x e := by
    constructor
    · rintro (z | z)
      · exact Or.inl z
      · exact Or.inr ⟨z.1, by rw [h _ h2]; exact z.2⟩
    · rintro (z | z)
      · exact Or.inl z
      · exact Or.inr ⟨z.1, by rw [← h _ h2]; exact z.2⟩
  rw [this]
  exact a5
theorem s14_an_L7 {i n : Nat} {Q K : St → Prop} (hn : n ≤ 4096) : ∀ (m j : Nat) (τ : St), j + m = n → K (row3 τ 66 0 (va_cpy (τ 72 i) (τ 66 0) j j m)) → w14_answer_L7 i (nI n) Q K (m + 1) τ (nI j) := by
  intro m
  induction m with
  | zero =>
    intro j τ hj hK
    rw [cpy_0, row3_self] at hK
    exact br_t (nI_le (by omega) (by omega)) hK
  | succ m ih =>
    intro j τ hj hK
    refine br_f (nI_ge (by omega) (by omega)) ?_
    rw [cl (by omega), nI_1]
    refine ⟨vin (by omega) (by omega), fun hby => ⟨vin (by omega) (by omega), fun s2 e2 => ?_⟩⟩
    rw [show (τ 72 i j).toInt8.toInt32 = τ 72 i j from hby] at e2
    refine ih (j + 1) s2 (by omega) ?_
    rw [e2, up3_as, row3_row3, row3_s, row3_o (by omega), cpy_s]
    exact hK
/-- behind a look at requests -/
def LkP (t i : Nat) (c : CK) (σ' τ' : St) : Prop := RK σ' τ' ∧ σ' 40 0 = τ' 66 0 ∧ (σ' 90 (i + 1) 0 = 0 ∨ σ' 90 (i + 1) 0 = 66047) ∧ ∃ c' : CK, RCq σ' τ' t i c' ∧ (c' 0) = (c 0) ∧ (c' 2) = (c 2) ∧ (c' 3) = (c 3) ∧ (c' 4) = (c 4) ∧ (c' 18) = (c 18) ∧ (c' 15) = (c 15) ∧ (c' 14) ≤ (c 14) ∧ ((c' 17) = (c 17) ∧ (c' 1) = (c 1) ∧ (c' 5) = (c 5) ∨ (c' 1) = (c 3) ∧ (0 < (c' 5) ∨ (c' 17) = 1) ∧ (c' 5) ≤ 66047)
/-- what both need to look at requests -/
def LkI (σ τ : St) (i : Nat) : Prop := (RK σ τ) ∧ (σ 40 0 = τ 66 0) ∧ (RSt σ τ) ∧ (σ 90 (i + 1) 0 = 0 ∨ σ 90 (i + 1) 0 = 66047) ∧ ((σ 10 0 7).toNatClampNeg ≠ 44)
theorem LkI.rk {σ τ : St} {i : Nat} (h : LkI σ τ i) : RK σ τ := h.1
theorem LkI.hd {σ τ : St} {i : Nat} (h : LkI σ τ i) : σ 40 0 = τ 66 0 := h.2.1
theorem LkI.st {σ τ : St} {i : Nat} (h : LkI σ τ i) : RSt σ τ := h.2.2.1
theorem LkI.rm {σ τ : St} {i : Nat} (h : LkI σ τ i) : σ 90 (i + 1) 0 = 0 ∨ σ 90 (i + 1) 0 = 66047 := h.2.2.2.1
theorem LkI.fr {σ τ : St} {i : Nat} (h : LkI σ τ i) : (σ 10 0 7).toNatClampNeg ≠ 44 := h.2.2.2.2
theorem LkI.mk {σ τ : St} {i : Nat} (rk : RK σ τ) (hd : σ 40 0 = τ 66 0) (st : RSt σ τ) (rm : σ 90 (i + 1) 0 = 0 ∨ σ 90 (i + 1) 0 = 66047) (fr : (σ 10 0 7).toNatClampNeg ≠ 44) : LkI σ τ i := ⟨rk, hd, st, rm, fr⟩
theorem RK.an {σ τ σ' τ' : St} (h : RK σ τ) (a0 : (σ' 0 0 13) = (σ 0 0 13)) (a1 : (σ' 6 0 2) = (σ 6 0 2)) (a8 : ∀ j, j ≠ 5 → σ' 8 0 j = σ 8 0 j) (e5 : σ' 8 0 5 = σ 8 0 5 + 1) (b8 : ∀ j, j ≠ 4 → τ' 56 0 j = τ 56 0 j) (e4 : τ' 56 0 4 = τ 56 0 4 + 1) : RK σ' τ' := by
  obtain ⟨h0, h1, h2, h3, h4, h5, h6, h7⟩ := h
  unfold RK
  rw [a0, a1, e5, e4, a8 3 (by decide), a8 4 (by decide), a8 6 (by decide), a8 7 (by decide), a8 8 (by decide), b8 0 (by decide), b8 1 (by decide), b8 2 (by decide), b8 3 (by decide), b8 5 (by decide), b8 6 (by decide), b8 7 (by decide), h4]
  exact ⟨h0, h1, h2, h3, rfl, h5, h6, h7⟩
theorem vu3 {f : Nat → Int32} {a b k : Nat} {x y z : Int32} (h1 : a ≠ k) (h2 : b ≠ k) : va_up (va_up (va_up f a x) b y) k z = va_up (va_up (va_up f k z) a x) b y := by
  rw [vu_comm h2, vu_comm (f := f) h1]
/-- the answer's relation, out of what is said of it -/
theorem RCq.ans {σ τ σ' τ' : St} {t i L' h' p' d' s' : Nat} {c : CK} (h : RCq σ τ t i c) (hst : (c 0) = 2 ∨ (c 0) = 7) (hd0 : (c 17) = 0) (hle : (c 3) = (c 1) + (c 5)) (hfl : (c 3) = (c 2))
    (hC : σ' 11 i = (va_up (va_up (σ 11 i) 26 ((σ 11 i 10))) 27 (nI d'))) (hM : τ' 15 i = (va_up (va_up (va_up (va_up (va_up (va_up (τ 15 i) 29 ((τ 15 i 5))) 26 (nI h')) 30 (nI d')) 27 (nI p')) 28 (nI (L' - h'))) 38 (nI s')))
    (h12 : σ' 12 i = (va_up (σ 12 i) 3 (nI s'))) (h13 : σ' 13 i = (va_up (σ 13 i) 1 (nI L'))) (h42 : σ' 42 i = σ 42 i) (h43 : σ' 43 i = σ 43 i) (k90 : σ' 90 (i + 1) 0 = 66047) (g72 : τ' 72 i = τ 72 i) (g73 : τ' 73 i = τ 73 i)
    (keab : ∀ j, j < L' → σ' 44 i j = if j < h' then τ' 71 i j else τ' 51 0 (p' + (j - h'))) (kb : 1 ≤ h' ∧ h' ≤ L' ∧ h' ≤ 512 ∧ p' + (L' - h') ≤ 65535 ∧ L' ≤ 66047) (hbb : (c 3) + L' + 2 < 1000000000) (hs6 : s' ≤ 65536) (hd1 : d' ≤ 1) : RCq σ' τ' t i (cup (cup (cup (cup (cup (cup (cup (cup c 1 (c 3)) 5 L') 6 h') 7 p') 17 d') 16 s') 19 (c 3)) 20 L') := by
  obtain ⟨hR, hO⟩ := h
  have o39 : (τ' 15 i 39) = (τ 15 i 39) := by rw [hM]; simp only [vu_g, Nat.reduceEqDiff, reduceIte]
  refine ⟨?_, ?_⟩
  · rw [o39]
    refine hR.ans hst hd0 hle hfl ?_ hM ?_ ?_ ?_ ?_ ?_ g72 g73 (fun j hj => ?_) kb hbb hs6 hd1
    · rw [up3_r, if_pos ⟨rfl, rfl⟩, up3_r, if_pos ⟨rfl, rfl⟩, hC, vu3 (by decide) (by decide), vu_g, if_neg (by decide)]
    · rw [up3_r, if_neg (by omega), up3_r, if_neg (by omega)]; exact h12
    · rw [up3_r, if_neg (by omega), up3_r, if_neg (by omega)]; exact h13
    · rw [up3_r, if_neg (by omega), up3_r, if_neg (by omega)]; exact h42
    · rw [up3_r, if_neg (by omega), up3_r, if_neg (by omega)]; exact h43
    · rw [up3_g, if_neg (by omega)]; exact k90
    · rw [up3_g, if_neg (by omega)]; exact keab j hj
  · have o22 : (σ' 11 i 22) = (σ 11 i 22) := by rw [hC]; simp only [vu_g, Nat.reduceEqDiff, reduceIte]
    rw [o39, o22, hO]
    simp only [cup_g, Nat.reduceEqDiff, reduceIte]
theorem RCq.clo {σ τ σ' τ' : St} {t i : Nat} {c : CK} (h : RCq σ τ t i c) (hst : (c 0) = 2 ∨ (c 0) = 7) (hd0 : (c 17) = 0) (hle : (c 3) = (c 1) + (c 5)) (hfl : (c 3) = (c 2))
    (hC : σ' 11 i = (va_up (va_up (σ 11 i) 26 ((σ 11 i 10))) 27 1)) (hM : τ' 15 i = (va_up (τ 15 i) 30 1))
    (h12 : σ' 12 i = σ 12 i) (h13 : σ' 13 i = (va_up (σ 13 i) 1 0)) (h42 : σ' 42 i = σ 42 i) (h43 : σ' 43 i = σ 43 i) (hr' : mrows τ τ' i) : RCq σ' τ' t i (cup (cup (cup c 1 (c 3)) 5 0) 17 1) := by
  obtain ⟨hR, hO⟩ := h
  have o39 : (τ' 15 i 39) = (τ 15 i 39) := by rw [hM]; simp only [vu_g, Nat.reduceEqDiff, reduceIte]
  refine ⟨?_, ?_⟩
  · rw [o39]
    refine hR.clo hst hd0 hle hfl ?_ hM ?_ ?_ ?_ ?_ hr'
    · rw [up3_r, if_pos ⟨rfl, rfl⟩, up3_r, if_pos ⟨rfl, rfl⟩, hC, vu3 (by decide) (by decide), vu_g, if_neg (by decide)]
    · rw [up3_r, if_neg (by omega), up3_r, if_neg (by omega)]; exact h12
    · rw [up3_r, if_neg (by omega), up3_r, if_neg (by omega)]; exact h13
    · rw [up3_r, if_neg (by omega), up3_r, if_neg (by omega)]; exact h42
    · rw [up3_r, if_neg (by omega), up3_r, if_neg (by omega)]; exact h43
  · have o22 : (σ' 11 i 22) = (σ 11 i 22) := by rw [hC]; simp only [vu_g, Nat.reduceEqDiff, reduceIte]
    rw [o39, o22, hO]
    simp only [cup_g, Nat.reduceEqDiff, reduceIte]
