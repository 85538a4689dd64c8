/-! the net, with a bound for what is sent; resets and echoes -/
set_option maxRecDepth 100000
theorem RN.f {σ τ σ' τ' : St} {A B : Nat → Nat → Nat → Bool} {t s o : Nat} (h : RN σ τ t s o) (f1 : Fr A σ σ') (f2 : Fr B τ τ')
    (a1 : A 0 0 12 = false := by rfl) (a2 : A 3 0 1 = false := by rfl) (a3 : A 5 0 1 = false := by rfl) (a4 : A 8 0 2 = false := by rfl) (a5 : A 3 0 3 = false := by rfl) (a6 : A 3 0 2 = false := by rfl) (a7 : ∀ j, A 27 0 j = false := by intro _; rfl)
    (b1 : B 14 0 5 = false := by rfl) (b2 : B 14 0 7 = false := by rfl) (b3 : B 14 0 6 = false := by rfl) (b4 : B 14 0 8 = false := by rfl) (b5 : B 14 0 9 = false := by rfl)
    (c1 : A 2 0 4 = false := by rfl) (c2 : A 2 0 3 = false := by rfl) (c3 : ∀ i j, A 23 i j = false := by intro _ _; rfl) (c4 : ∀ j, A 25 0 j = false := by intro _; rfl) (c5 : ∀ j, A 26 0 j = false := by intro _; rfl)
    (d1 : B 14 0 10 = false := by rfl) (d2 : B 14 0 23 = false := by rfl) (d3 : ∀ j, B 58 0 j = false := by intro _; rfl) (d4 : ∀ j, B 59 0 j = false := by intro _; rfl) (d5 : ∀ j, B 60 0 j = false := by intro _; rfl)
    (e1 : A 3 0 7 = false := by rfl) (e2 : ∀ j, A 28 0 j = false := by intro _; rfl) (e3 : ∀ j, A 29 0 j = false := by intro _; rfl) (e4 : ∀ j, A 30 0 j = false := by intro _; rfl) (e5 : ∀ i j, B 16 i j = false := by intro _ _; rfl)
    (g1 : A 3 0 9 = false := by rfl) (g2 : ∀ j, A 31 0 j = false := by intro _; rfl) (g3 : ∀ i j, A 4 i j = false := by intro _ _; rfl) (g4 : ∀ i j, A 35 i j = false := by intro _ _; rfl) (g5 : B 14 0 25 = false := by rfl) (g6 : ∀ i j, B 17 i j = false := by intro _ _; rfl) (g7 : ∀ i j, B 68 i j = false := by intro _ _; rfl)
    (k1 : ∀ j, A 33 0 j = false := by intro _; rfl) (k2 : ∀ j, A 34 0 j = false := by intro _; rfl) : RN σ' τ' t s o := by
  obtain ⟨hM, hV, hH, hW, hA, hP⟩ := h
  exact ⟨hM.c (f1 _ _ _ a1) (f1 _ _ _ a2) (f1 _ _ _ a3) (f1 _ _ _ a4) (f1 _ _ _ a5) (f1 _ _ _ a6) (f1.row a7) (f2 _ _ _ b1) (f2 _ _ _ b2) (f2 _ _ _ b3) (f2 _ _ _ b4) (f2 _ _ _ b5), hV.c (f1 _ _ _ c1) (f1 _ _ _ c2) (f1.kind c3) (f1.row c4) (f1.row c5) (f2 _ _ _ d1) (f2 _ _ _ d2) (f2.row d3) (f2.row d4) (f2.row d5), hH.c (f1 _ _ _ e1) (f1.row e2) (f1.row e3) (f1.row e4) (f2.kind e5), hW.c (f1 _ _ _ g1) (f1.row g2) (f1.kind g3) (f1.kind g4) (f2 _ _ _ g5) (f2.kind g6) (f2.kind g7), hA.c (f1.row k1) (f1.row k2), hP.c (f1.row g2)⟩
/-- the net at a time; what was sent, and what may still be asked, is below a bound -/
def NB (σ τ : St) (t l b : Nat) : Prop := ∃ s o : Nat, RN σ τ t s o ∧ (σ 5 0 2) = (τ 14 0 24) ∧ s + WS τ ≤ b ∧ l ≤ o ∧ o ≤ b ∧ (τ 14 0 18) = 0 ∧ t ≤ 2000000000
theorem NB.up {σ τ : St} {t l b b' : Nat} (h : NB σ τ t l b) (hb : b ≤ b') : NB σ τ t l b' := by
  obtain ⟨s, o, h1, h2, h3, hl, h4, h5⟩ := h
  exact ⟨s, o, h1, h2, by omega, hl, by omega, h5⟩
theorem NB.dn {σ τ : St} {t l l' b : Nat} (h : NB σ τ t l b) (hb : l' ≤ l) : NB σ τ t l' b := by
  obtain ⟨s, o, h1, h2, h3, hl, h4, h5⟩ := h
  exact ⟨s, o, h1, h2, h3, by omega, h4, h5⟩
theorem HopP.nb {τ σ' τ' : St} {t s o l b : Nat} (h : HopP τ t s o σ' τ') (hi : (σ' 5 0 2) = (τ' 14 0 24)) (hb : s + WS τ ≤ b) (hlo : l ≤ o) (ho : o ≤ b) (hs : (τ 14 0 18) = 0) (ht : t ≤ 2000000000) : NB σ' τ' t l (b + 4) := by
  obtain ⟨s', o', h1, h2, h3, h4, h5, h6⟩ := h
  exact ⟨s', o', h1, hi, by omega, by omega, by omega, h6.trans hs, ht⟩
theorem NB.f {σ τ σ' τ' : St} {A B : Nat → Nat → Nat → Bool} {t l b : Nat} (h : NB σ τ t l b) (f1 : Fr A σ σ') (f2 : Fr B τ τ')
    (a1 : A 0 0 12 = false := by rfl) (a2 : A 3 0 1 = false := by rfl) (a3 : A 5 0 1 = false := by rfl) (a4 : A 8 0 2 = false := by rfl) (a5 : A 3 0 3 = false := by rfl) (a6 : A 3 0 2 = false := by rfl) (a7 : ∀ j, A 27 0 j = false := by intro _; rfl)
    (b1 : B 14 0 5 = false := by rfl) (b2 : B 14 0 7 = false := by rfl) (b3 : B 14 0 6 = false := by rfl) (b4 : B 14 0 8 = false := by rfl) (b5 : B 14 0 9 = false := by rfl)
    (c1 : A 2 0 4 = false := by rfl) (c2 : A 2 0 3 = false := by rfl) (c3 : ∀ i j, A 23 i j = false := by intro _ _; rfl) (c4 : ∀ j, A 25 0 j = false := by intro _; rfl) (c5 : ∀ j, A 26 0 j = false := by intro _; rfl)
    (d1 : B 14 0 10 = false := by rfl) (d2 : B 14 0 23 = false := by rfl) (d3 : ∀ j, B 58 0 j = false := by intro _; rfl) (d4 : ∀ j, B 59 0 j = false := by intro _; rfl) (d5 : ∀ j, B 60 0 j = false := by intro _; rfl)
    (e1 : A 3 0 7 = false := by rfl) (e2 : ∀ j, A 28 0 j = false := by intro _; rfl) (e3 : ∀ j, A 29 0 j = false := by intro _; rfl) (e4 : ∀ j, A 30 0 j = false := by intro _; rfl) (e5 : ∀ i j, B 16 i j = false := by intro _ _; rfl)
    (g1 : A 3 0 9 = false := by rfl) (g2 : ∀ j, A 31 0 j = false := by intro _; rfl) (g3 : ∀ i j, A 4 i j = false := by intro _ _; rfl) (g4 : ∀ i j, A 35 i j = false := by intro _ _; rfl) (g5 : B 14 0 25 = false := by rfl) (g6 : ∀ i j, B 17 i j = false := by intro _ _; rfl) (g7 : ∀ i j, B 68 i j = false := by intro _ _; rfl)
    (k1 : ∀ j, A 33 0 j = false := by intro _; rfl) (k2 : ∀ j, A 34 0 j = false := by intro _; rfl) (k3 : A 5 0 2 = false := by rfl) (k4 : B 14 0 24 = false := by rfl) (k5 : B 14 0 18 = false := by rfl) : NB σ' τ' t l b := by
  obtain ⟨s, o, h1, h2, h3, hl, h4, h5, h6⟩ := h
  exact ⟨s, o, h1.f f1 f2 a1 a2 a3 a4 a5 a6 a7 b1 b2 b3 b4 b5 c1 c2 c3 c4 c5 d1 d2 d3 d4 d5 e1 e2 e3 e4 e5 g1 g2 g3 g4 g5 g6 g7 k1 k2, by rw [f1 _ _ _ k3, f2 _ _ _ k4]; exact h2, by rw [WS_c (f2.kind g6)]; exact h3, hl, h4, by rw [f2 _ _ _ k5]; exact h5, h6⟩
theorem fr_u {M : Nat → Nat → Nat → Bool} {σ : St} {k i j : Nat} {v : Int32} (hm : M k i j = true) : Fr M σ (up3 σ k i j v) := Fr.up Fr.rf hm
theorem fr_r {M : Nat → Nat → Nat → Bool} {σ : St} {k i : Nat} {f : Nat → Int32} (hm : ∀ j, M k i j = true) : Fr M σ (row3 σ k i f) := fun k' i' j' z => by
  rw [row3_g]
  by_cases c : k' = k ∧ i' = i
  · rw [c.1, c.2, hm] at z
    exact absurd z (by decide)
  · rw [if_neg c]
abbrev segF : Nat → Nat → Nat → Bool := mF [23, 25, 26, 32, 35, 36] [] [(2, [3]), (3, [9]), (4, [0, 1, 2, 4]), (5, [2])] []
abbrev segG : Nat → Nat → Nat → Bool := mF [57, 58, 59, 60, 68] [] [(14, [18, 23, 24, 25]), (17, [0, 1, 2, 3, 4, 5])] []
theorem N_seg {σ τ : St} {t l b k i at_ n : Nat} {to port own seq ack fl wd opt : Int32} {sy : Bool} (ok : okS σ) (ok' : okS τ) (hN : NB σ τ t l b) (hb : b < 2147480000) (hsy : (fl &&& 2) = 0 ↔ sy = false) (hopt : opt = if sy then 4 else 0) (hn : sy = true → n = 0) (hn2 : n ≤ 1460) (hk : 0 < n → abc k i = true ∧ k ≠ 36 ∧ at_ + n ≤ alen σ k i ∧ at_ < 100000) (hd : ∀ j, j < n → σ k i (at_ + j) = τ 57 0 (54 + j)) :
    RunV σ τ (w8_send σ to port own seq ack fl wd k i (nI at_) (nI n)) (w14_segmentOut τ to own port seq ack fl wd opt (nI n)) segF segG (fun σ' τ' => NB σ' τ' t l (b + 4)) := by
  obtain ⟨s, o, h1, h2, h3, hl, h4, h5, h6⟩ := hN
  obtain ⟨σ', τ', g1, g2, k1, k2, f1, f2, g, gi⟩ := R_seg (to := to) (port := port) (own := own) (seq := seq) (ack := ack) (wd := wd) ok ok' h1 h2 (by omega) (by omega) (by omega) hsy hopt hn hn2 hk hd
  exact ⟨σ', τ', g1, g2, k1, k2, f1, f2, g.nb gi h3 hl h4 h5 h6⟩
/-- a segment without data -/
theorem N_seg0 {σ τ : St} {t l b k i : Nat} {to port own seq ack fl wd pl : Int32} (ok : okS σ) (ok' : okS τ) (hN : NB σ τ t l b) (hb : b < 2147480000) (hpl : pl = 0) (hfl : (fl &&& 2) = 0) :
    RunV σ τ (w8_send σ to port own seq ack fl wd k i pl 0) (w14_segmentOut τ to own port seq ack fl wd 0 0) segF segG (fun σ' τ' => NB σ' τ' t l (b + 4)) := by
  subst hpl
  exact N_seg (at_ := 0) (n := 0) (sy := false) ok ok' hN hb ⟨fun _ => rfl, fun _ => hfl⟩ rfl (fun h => absurd h (by decide)) (by omega) (fun h => absurd h (by omega)) (fun j h => absurd h (by omega))
/-- the segment at hand: the same numbers -/
def RS (σ τ : St) : Prop := (σ 10 0 0) = (τ 14 0 30) ∧ (σ 10 0 1) = (τ 14 0 32) ∧ (σ 10 0 2) = (τ 14 0 33) ∧ (σ 10 0 3) = (τ 14 0 34) ∧ (σ 10 0 4) = (τ 14 0 35) ∧ (σ 10 0 5) = (τ 14 0 36) ∧ (σ 10 0 6) = (τ 14 0 37) ∧ (σ 10 0 9) = (τ 14 0 39)
theorem RS.f {σ τ σ' τ' : St} {A B : Nat → Nat → Nat → Bool} (h : RS σ τ) (f1 : Fr A σ σ') (f2 : Fr B τ τ') (a : ∀ j, A 10 0 j = false := by intro _; rfl) (b0 : B 14 0 30 = false := by rfl) (b1 : B 14 0 32 = false := by rfl) (b2 : B 14 0 33 = false := by rfl) (b3 : B 14 0 34 = false := by rfl) (b4 : B 14 0 35 = false := by rfl) (b5 : B 14 0 36 = false := by rfl) (b6 : B 14 0 37 = false := by rfl) (b7 : B 14 0 39 = false := by rfl) : RS σ' τ' := by
  unfold RS
  rw [f1.row a, f2 _ _ _ b0, f2 _ _ _ b1, f2 _ _ _ b2, f2 _ _ _ b3, f2 _ _ _ b4, f2 _ _ _ b5, f2 _ _ _ b6, f2 _ _ _ b7]
  exact h
/-- what is counted -/
def RK (σ τ : St) : Prop := (σ 0 0 13) = τ 56 0 0 ∧ (σ 6 0 2) = τ 56 0 1 ∧ (σ 8 0 3) = τ 56 0 2 ∧ (σ 8 0 4) = τ 56 0 3 ∧ (σ 8 0 5) = τ 56 0 4 ∧ (σ 8 0 6) = τ 56 0 5 ∧ (σ 8 0 7) = τ 56 0 6 ∧ (σ 8 0 8) = τ 56 0 7
theorem RK.f {σ τ σ' τ' : St} {A B : Nat → Nat → Nat → Bool} (h : RK σ τ) (f1 : Fr A σ σ') (f2 : Fr B τ τ') (a0 : A 0 0 13 = false := by rfl) (a1 : A 6 0 2 = false := by rfl) (a2 : A 8 0 3 = false := by rfl) (a3 : A 8 0 4 = false := by rfl) (a4 : A 8 0 5 = false := by rfl) (a5 : A 8 0 6 = false := by rfl) (a6 : A 8 0 7 = false := by rfl) (a7 : A 8 0 8 = false := by rfl) (b : ∀ j, B 56 0 j = false := by intro _; rfl) : RK σ' τ' := by
  unfold RK
  rw [f2.row b, f1 _ _ _ a0, f1 _ _ _ a1, f1 _ _ _ a2, f1 _ _ _ a3, f1 _ _ _ a4, f1 _ _ _ a5, f1 _ _ _ a6, f1 _ _ _ a7]
  exact h
/-- the span of a segment -/
def spn (fl n : Int32) : Int32 := n + (if (fl &&& 2) = 0 then 0 else 1) + (if (fl &&& 1) = 0 then 0 else 1)
theorem s10_has {σ : St} {x : Int32} {Q : Int32 → Prop} (h0 : ((σ 10 0 5) &&& x) = 0 → Q 0) (h1 : ¬ ((σ 10 0 5) &&& x) = 0 → Q 1) : w10_has σ x Q := ⟨h0, h1⟩
theorem s14_is {σ : St} {x : Int32} {Q : Int32 → Prop} (h0 : ((σ 14 0 36) &&& x) = 0 → Q 0) (h1 : ¬ ((σ 14 0 36) &&& x) = 0 → Q 1) : w14_is σ x Q := ⟨h0, h1⟩
theorem s10_span {σ : St} {Q : Int32 → Prop} (h : Q (spn ((σ 10 0 5)) ((σ 10 0 9)))) : w10_span σ Q := by
  unfold spn at h
  refine s10_has (fun c => ?_) (fun c => ?_)
  · rw [if_pos c] at h
    refine br_t rfl (s10_has (fun c => ?_) (fun c => ?_))
    · rw [if_pos c] at h; exact br_t rfl h
    · rw [if_neg c] at h; exact br_f (by decide) h
  · rw [if_neg c] at h
    refine br_f (by decide) (s10_has (fun c => ?_) (fun c => ?_))
    · rw [if_pos c] at h; exact br_t rfl h
    · rw [if_neg c] at h; exact br_f (by decide) h
theorem s14_extent {σ : St} {Q : Int32 → Prop} (h : Q (spn ((σ 14 0 36)) ((σ 14 0 39)))) : w14_extent σ Q := by
  unfold spn at h
  refine s14_is (fun c => ?_) (fun c => ?_)
  · rw [if_pos c] at h
    refine br_t rfl (s14_is (fun c => ?_) (fun c => ?_))
    · rw [if_pos c] at h; exact br_t rfl h
    · rw [if_neg c] at h; exact br_f (by decide) h
  · rw [if_neg c] at h
    refine br_f (by decide) (s14_is (fun c => ?_) (fun c => ?_))
    · rw [if_pos c] at h; exact br_t rfl h
    · rw [if_neg c] at h; exact br_f (by decide) h
theorem RK.r {σ τ : St} (h : RK σ τ) : RK (up3 σ 8 0 3 ((σ 8 0 3) + 1)) (up3 τ 56 0 2 (τ 56 0 2 + 1)) := by
  obtain ⟨h0, h1, h2, h3, h4, h5, h6, h7⟩ := h
  unfold RK
  simp only [up3_g]
  simp [h0, h1, h2, h3, h4, h5, h6, h7]
theorem R_reset {σ τ : St} {t l b : Nat} (ok : okS σ) (ok' : okS τ) (hN : NB σ τ t l b) (hb : b < 2147480000) (hS : RS σ τ) (hK : RK σ τ) :
    RunV σ τ (w8_reset σ) (w14_reset τ) (mF [23, 25, 26, 32, 35, 36] [] [(2, [3]), (3, [9]), (4, [0, 1, 2, 4]), (5, [2]), (8, [3])] []) (mF [56, 57, 58, 59, 60, 68] [] [(14, [18, 23, 24, 25]), (17, [0, 1, 2, 3, 4, 5])] []) (fun σ' τ' => NB σ' τ' t l (b + 4) ∧ RK σ' τ') := by
  have hj : w8_reset σ (fun σ' => w14_reset τ (fun τ' => NB σ' τ' t l (b + 4) ∧ RK σ' τ')) := by
    intro s1 e1
    have f1 : Fr (mF [] [] [(8, [3])] []) σ s1 := by rw [e1]; exact fr_u rfl
    generalize et1 : up3 τ 56 0 2 (τ 56 0 2 + 1) = t1
    have f2 : Fr (mF [56] [] [] []) τ t1 := by rw [← et1]; exact fr_u rfl
    have okS1 : okS s1 := by rw [e1]; exact ok_n ok rfl
    have okT1 : okS t1 := by rw [← et1]; exact ok_n ok' rfl
    have hK1 : RK s1 t1 := by rw [e1, ← et1]; exact hK.r
    have hN1 : NB s1 t1 t l b := hN.f f1 f2
    have hS1 : RS s1 t1 := hS.f f1 f2
    obtain ⟨r0, r1, r2, r3, r4, r5, r6, r7⟩ := hS1
    refine s10_has (fun c => ?_) (fun c => ?_)
    · refine br_t rfl (s10_span ?_)
      obtain ⟨σ', τ', g1, g2, k1, k2, x1, x2, g⟩ := N_seg0 (k := 0) (i := 0) (to := (s1 10 0 0)) (port := (s1 10 0 1)) (own := (s1 10 0 2)) (seq := 0) (ack := (s1 10 0 3) + spn ((s1 10 0 5)) ((s1 10 0 9))) (fl := 20) (wd := 0) okS1 okT1 hN1 hb rfl (by decide)
      refine g1 _ ⟨vin (n := 2) (by omega) (by omega), vin (n := 2) (by omega) (by omega), fun t2 e2 => ?_⟩
      rw [show (2 : Int32).toNatClampNeg = 2 by decide, et1] at e2
      subst e2
      rw [r5] at c
      refine s14_is (fun _ => ?_) (fun c2 => absurd c c2)
      refine br_t rfl (s14_extent ?_)
      rw [← r0, ← r1, ← r2, ← r3, ← r5, ← r7]
      exact g2 _ ⟨g, hK1.f x1 x2⟩
    · refine br_f (by decide) ?_
      obtain ⟨σ', τ', g1, g2, k1, k2, x1, x2, g⟩ := N_seg0 (k := 0) (i := 0) (to := (s1 10 0 0)) (port := (s1 10 0 1)) (own := (s1 10 0 2)) (seq := (s1 10 0 4)) (ack := 0) (fl := 4) (wd := 0) okS1 okT1 hN1 hb rfl (by decide)
      refine g1 _ ⟨vin (n := 2) (by omega) (by omega), vin (n := 2) (by omega) (by omega), fun t2 e2 => ?_⟩
      rw [show (2 : Int32).toNatClampNeg = 2 by decide, et1] at e2
      subst e2
      rw [r5] at c
      refine s14_is (fun c2 => absurd c2 c) (fun _ => ?_)
      refine br_f (by decide) ?_
      rw [← r0, ← r1, ← r2, ← r4]
      exact g2 _ ⟨g, hK1.f x1 x2⟩
  obtain ⟨σ', h, k1, f1, g1⟩ := e8_reset ok hj
  obtain ⟨τ', h, k2, f2, g2⟩ := e14_reset ok' h
  exact ⟨σ', τ', g1, g2, k1, k2, f1, f2, h⟩
theorem s14_echo_L52 {x1 : Int32} {n : Nat} {Q K : St → Prop} (hx : x1 = nI n) (hn : n ≤ 1480) : ∀ (m j : Nat) (σ : St), j + m = n → K (row3 σ 57 0 (va_cpy (σ 64 0) (σ 57 0) j (34 + j) m)) → w14_echo_L52 x1 Q K (m + 1) σ (nI j) := by
  subst hx
  intro m
  induction m with
  | zero =>
    intro j σ hj hK
    rw [cpy_0, row3_self] at hK
    exact br_t (nI_le (by omega) (by omega)) hK
  | succ m ih =>
    intro j σ hj hK
    refine br_f (nI_ge (by omega) (by omega)) ?_
    rw [show (34 : Int32) + nI j = nI (34 + j) from nI_add 34 j]
    refine ⟨vin (by omega) (by omega), fun hb => ⟨vin (by omega) (by omega), fun s1 e1 => ?_⟩⟩
    rw [cl (by omega), cl (by omega)] at e1
    rw [cl (by omega)] at hb
    rw [show (σ 64 0 j).toInt8.toInt32 = σ 64 0 j from hb, up3_as] at e1
    subst e1
    rw [nI_1]
    refine ih (j + 1) _ (by omega) ?_
    rw [row3_s, row3_row3, row3_o (k' := 64) (by omega), ← Nat.add_assoc, cpy_s]
    exact hK
theorem R_echo {σ τ : St} {t l b k i at_ n : Nat} {from_ : Int32} (ok : okS σ) (ok' : okS τ) (hN : NB σ τ t l b) (hb : b < 2147480000) (hk : abc k i = true) (hk2 : k ≠ 36) (ha : at_ < 100000) (hn : n < 16384) (hl : at_ + n ≤ alen σ k i) (hf : from_ = (τ 14 0 30)) (hd : ∀ j, j < n → σ k i (at_ + j) = τ 64 0 j) :
    RunV σ τ (w0_echo σ k i (nI at_) (nI n) from_) (w14_echo τ (nI n)) segF segG (fun σ' τ' => NB σ' τ' t l (b + 4)) := by
  subst hf
  have hj : w0_echo σ k i (nI at_) (nI n) ((τ 14 0 30)) (fun σ' => w14_echo τ (nI n) (fun τ' => NB σ' τ' t l (b + 4))) := by
    by_cases c1 : n < 8
    · exact br_t (nI_lt (b := 8) (by omega) (by omega)) (br_t (nI_lt (b := 8) (by omega) (by omega)) (hN.up (by omega)))
    refine br_f (nI_nlt (b := 8) (by omega) (by omega)) ?_
    by_cases c2 : 1480 < n
    · exact br_t (nI_lt (a := 1480) (by omega) (by omega)) (br_f (nI_nlt (b := 8) (by omega) (by omega)) (br_t (nI_lt (a := 1480) (by omega) (by omega)) (hN.up (by omega))))
    refine br_f (nI_nlt (a := 1480) (by omega) (by omega)) ?_
    have esum : sB (σ k i) at_ n = sB (τ 64 0) 0 n := sB_ext (fun j hj => by rw [hd j hj, Nat.zero_add])
    have hbd := sB_le (τ 64 0) 0 n
    have d0 := hd 0 (by omega)
    have d1 := hd 1 (by omega)
    rw [Nat.add_zero] at d0
    -- the model's way, up to where it answers or leaves it
    have mo : ∀ (Q : St → Prop), (ck (sB (τ 64 0) 0 n) = 0 → τ 64 0 0 = 8 → τ 64 0 1 = 0 → ∃ z, w14_echo_L52 (nI n) Q (fun σ5 => w14_put σ5 34 1 0 (fun σ6 => (w14_put σ6 36 2 0 (fun σ7 => (w14_added σ7 57 0 34 (nI n) 0 (fun r8 => (w14_sixteen σ7 r8 (fun r9 => (w14_put σ7 36 2 r9 (fun σ10 => (w14_ipOut σ10 (σ10 14 0 30) 1 (nI n) (fun σ11 => (Q σ11))))))))))))) z τ 0) → (¬ (ck (sB (τ 64 0) 0 n) = 0 ∧ τ 64 0 0 = 8 ∧ τ 64 0 1 = 0) → Q τ) → w14_echo τ (nI n) Q := by
      intro Q h1 h0
      refine br_f (nI_nlt (b := 8) (by omega) (by omega)) (br_f (nI_nlt (a := 1480) (by omega) (by omega)) ?_)
      refine s14_added (k := 64) (i := 0) (a := 0) (s := 0) (by omega) (by omega) (by omega) (by show _ ≤ 4096; omega) ?_
      refine s14_sixteen (by omega) ?_
      by_cases c3 : ck (sB (τ 64 0) 0 n) = 0
      · refine br_u (by rw [Nat.zero_add, c3]; rfl) ⟨vin (n := 0) (by omega) (by omega), fun _ => ?_⟩
        by_cases c4 : τ 64 0 0 = 8
        · refine br_u c4 ⟨vin (n := 1) (by omega) (by omega), fun _ => ?_⟩
          by_cases c5 : τ 64 0 1 = 0
          · exact br_t c5 (h1 c3 c4 c5)
          · exact br_f c5 (h0 (fun z => c5 z.2.2))
        · exact br_v c4 (h0 (fun z => c4 z.2.1))
      · refine br_v ?_ (h0 (fun z => c3 z.1))
        rw [Nat.zero_add]
        have := ck_lt (sB (τ 64 0) 0 n)
        exact nI_ne0 (by omega) (by omega)
    rw [nI_1]
    refine ⟨vin (by omega) (by omega), fun _ => ?_⟩
    rw [cl (by omega), cl (by omega), d0, d1]
    by_cases c4 : τ 64 0 0 = 8
    · refine br_u c4 ⟨vin (by omega) (by omega), fun _ => ?_⟩
      by_cases c5 : τ 64 0 1 = 0
      · refine br_u c5 ?_
        refine s19_added (s := 0) (by omega) (by omega) (by omega) hl ?_
        rw [esum, Nat.zero_add]
        refine s19_folded (by omega) ?_
        by_cases c3 : ck (sB (τ 64 0) 0 n) = 0
        · refine br_t (by rw [c3]; rfl) ?_
          refine s19_copy (b := 20) (by omega) (by decide) (by omega) (by omega) (by omega) hl (by show _ ≤ 1500; omega) ?_
          refine ⟨vin (n := 20) (by omega) (by omega), fun s1 e1 => ?_⟩
          rw [row3_up] at e1
          subst e1
          refine s19_putTwo (a := 22) (by show _ ≤ 1500; omega) (by omega) (by decide) ?_
          rw [row3_s, row3_row3]
          generalize hg : put2 (va_up (va_cpy (σ k i) (σ 36 0) at_ 20 n) (20 : Int32).toNatClampNeg (0 : Int32).toInt8.toInt32) 22 0 = g
          have hbg := sB_le g 20 n
          refine s19_added (s := 0) (a := 20) (by omega) (by omega) (by omega) (by show _ ≤ 1500; omega) ?_
          rw [row3_s, Nat.zero_add]
          refine s19_folded (by omega) ?_
          refine s19_putTwo (a := 22) (by show _ ≤ 1500; omega) (by omega) (by decide) ?_
          rw [row3_s, row3_row3]
          generalize hgm : put2 (va_up (va_cpy (τ 64 0) (τ 57 0) 0 34 n) 34 (b8 0)) 36 0 = gm
          have hbm := sB_le gm 34 n
          have eg : ∀ j, j < n → g (20 + j) = gm (34 + j) := by
            intro j hj
            rw [← hg, ← hgm]
            by_cases e : j < 4
            · have e4 : j = 0 ∨ j = 1 ∨ j = 2 ∨ j = 3 := by omega
              have i1 : va_cpy (σ k i) (σ 36 0) at_ 20 n (20 + 1) = va_cpy (τ 64 0) (τ 57 0) 0 34 n (34 + 1) := by
                rw [pk_cpy_in (by omega) (by omega), pk_cpy_in (by omega) (by omega)]
                rw [show at_ + (20 + 1 - 20) = at_ + 1 by omega, d1]
              rcases e4 with rfl | rfl | rfl | rfl
              · simp [put2, vu_g, show (20 : Int32).toNatClampNeg = 20 by decide]; decide
              · rw [put2_o (by omega), put2_o (by omega), vu_g, vu_g, if_neg (by decide), if_neg (by decide)]; exact i1
              · simp [put2, vu_g]
              · simp [put2, vu_g]
            · rw [put2_o (by omega), put2_o (by omega), vu_g, vu_g, show (20 : Int32).toNatClampNeg = 20 by decide, if_neg (by omega), if_neg (by omega), pk_cpy_in (by omega) (by omega), pk_cpy_in (by omega) (by omega)]
              rw [show at_ + (20 + j - 20) = at_ + j by omega, show 0 + (34 + j - 34) = j by omega]
              exact hd j hj
          have es : sB g 20 n = sB gm 34 n := sB_ext eg
          rw [es]
          generalize hs1 : row3 σ 36 0 (put2 g 22 (nI (ck (sB gm 34 n)))) = s1
          generalize ht1 : row3 τ 57 0 (put2 gm 36 (nI (ck (sB gm 34 n)))) = t1
          have f1 : Fr (mF [36] [] [] []) σ s1 := by rw [← hs1]; exact fr_r (fun _ => rfl)
          have f2 : Fr (mF [57] [] [] []) τ t1 := by rw [← ht1]; exact fr_r (fun _ => rfl)
          have okS1 : okS s1 := by
            rw [← hs1, ← hg]
            refine ok_rowb ok (tyk_a 36 2 (by decide) (by decide)) (by_put2 (by_put2 (by_vu (by_cpy (fun j => abc_by ok hk j) (fun j => ok_by ok (tyk_a 36 2 (by decide) (by decide)) j)) (by_b8 _))))
          have okT1 : okS t1 := by
            rw [← ht1, ← hgm]
            refine ok_rowb ok' (tyk_a 57 2 (by decide) (by decide)) (by_put2 (by_put2 (by_vu (by_cpy (fun j => ok_by ok' (tyk_a 64 2 (by decide) (by decide)) j) (fun j => ok_by ok' (tyk_a 57 2 (by decide) (by decide)) j)) (by_b8 _))))
          obtain ⟨s, o, n1, n2, n3, nl, n4, n5, n6⟩ := hN
          have hd1 : ∀ j, j < n → s1 36 0 (20 + j) = t1 57 0 (34 + j) := by
            intro j hj
            rw [← hs1, ← ht1, row3_s, row3_s]
            by_cases e : j = 2 ∨ j = 3
            · rcases e with rfl | rfl <;> simp [put2, vu_g]
            · rw [put2_o (by omega), put2_o (by omega)]
              exact eg j hj
          obtain ⟨σ', τ', g1, g2, k1, k2, x1, x2, gg, gi⟩ := R_out (to := (τ 14 0 30)) (pr := 1) okS1 okT1 (n1.f f1 f2) (by rw [f1 _ _ _ rfl, f2 _ _ _ rfl]; exact n2) (by omega) (by omega) (by omega) (c := n) (by omega) (Or.inl rfl) hd1
          refine g1 _ (mo _ (fun _ _ _ => ⟨n + 1, s14_echo_L52 rfl (by omega) n 0 τ (by omega) ?_⟩) (fun z => absurd ⟨c3, c4, c5⟩ z))
          refine s14_put1 (a := 34) (by omega) ?_
          refine s14_put2 (a := 36) (by omega) ?_
          rw [row3_s, row3_row3, row3_s, row3_row3, hgm]
          refine s14_added (k := 57) (i := 0) (a := 34) (s := 0) (by omega) (by omega) (by omega) (by show _ ≤ 1514; omega) ?_
          rw [row3_s, Nat.zero_add]
          refine s14_sixteen (by omega) ?_
          refine s14_put2 (a := 36) (by omega) ?_
          rw [row3_s, row3_row3, ht1, f2 14 0 30 rfl]
          exact g2 _ (gg.nb gi (by rw [WS_c (f2.kind fun _ _ => rfl)]; exact n3) nl n4 (by rw [f2 _ _ _ rfl]; exact n5) n6)
        · have := ck_lt (sB (τ 64 0) 0 n)
          exact br_f (nI_ne0 (by omega) (by omega)) (mo _ (fun z => absurd z c3) (fun _ => hN.up (by omega)))
      · exact br_v c5 (mo _ (fun _ _ z => absurd z c5) (fun _ => hN.up (by omega)))
    · exact br_v c4 (mo _ (fun _ z => absurd z c4) (fun _ => hN.up (by omega)))
  obtain ⟨σ', h, k1, f1, g1⟩ := e0_echo hk ok hj
  obtain ⟨τ', h, k2, f2, g2⟩ := e14_echo ok' h
  exact ⟨σ', τ', g1, g2, k1, k2, f1, f2, h⟩
