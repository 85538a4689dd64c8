/-! sending a part of the answer: the walks -/
set_option maxRecDepth 100000
/-- timing and the timer, behind something that was sent: again or not, at a number and a time -/
abbrev tgv (g tim : Int32) : Int32 := if g = 0 then 1 else 0
def keepv (g tim old new : Int32) : Int32 := if g = 0 ∧ tim = 0 then new else old
def offv (on old new : Int32) : Int32 := if on = 0 then new else old
theorem vu_self {f : Nat → Int32} {k : Nat} : va_up f k (f k) = f := by
  funext j
  rw [vu_g]
  by_cases c : j = k
  · rw [if_pos c, c]
  · rw [if_neg c]
theorem vu_eq {f : Nat → Int32} {k : Nat} {v : Int32} (h : f k = v) : va_up f k v = f := by rw [← h]; exact vu_self
theorem s11_startTimer {σ : St} {i : Nat} {Q : St → Prop} (hq : ∀ σ', Fr (mF [] [] [] [(11, i, [29, 30])]) σ σ' → okS σ' → σ' 11 i = (va_up (va_up (σ 11 i) 29 1) 30 (offv ((σ 11 i 29)) ((σ 11 i 30)) ((σ 2 0 4) + (σ 11 i 16)))) → Q σ') (ok : okS σ) : w11_startTimer σ i Q := by
  intro hb
  by_cases c : (σ 11 i 29) = 0
  · refine br_t c (fun s1 e1 => ?_)
    intro s3 e3
    refine hq s3 ?_ ?_ ?_
    · rw [e3, e1]; exact (fr_u (by simp [mF])).up (by simp [mF])
    · rw [e3, e1]; exact ok_n (ok_z ok rfl (Or.inr rfl)) rfl
    · have e16 : s1 11 i 16 = (σ 11 i 16) := by rw [e1, up3_g, if_neg (by omega)]
      have e24 : s1 2 0 4 = (σ 2 0 4) := by rw [e1, up3_g, if_neg (by omega)]
      rw [e16, e24] at e3
      rw [e3, up3_r, if_pos ⟨rfl, rfl⟩, e1, up3_r, if_pos ⟨rfl, rfl⟩]
      unfold offv
      rw [if_pos c]
  · have c1 : (σ 11 i 29) = 1 := by
      rcases hb with z | z
      · exact absurd z c
      · exact z
    refine br_f c (hq σ Fr.rf ok ?_)
    unfold offv
    rw [if_neg c, vu_eq c1, vu_self]
theorem s14_timerSet {τ : St} {i : Nat} {Q : St → Prop} (ok' : okS τ) (hq : ∀ τ', Fr (mF [] [] [] [(15, i, [21, 22])]) τ τ' → okS τ' → τ' 15 i = (va_up (va_up (τ 15 i) 21 1) 22 ((τ 14 0 10) + (τ 15 i 13))) → Q τ') : w14_timerSet τ i Q := by
  intro s1 e1 s2 e2
  refine hq s2 ?_ ?_ ?_
  · rw [e2, e1]; exact (fr_u (by simp [mF])).up (by simp [mF])
  · rw [e2, e1]; exact ok_n (ok_z ok' rfl (Or.inr rfl)) rfl
  · have e16 : s1 15 i 13 = (τ 15 i 13) := by rw [e1, up3_g, if_neg (by omega)]
    have e24 : s1 14 0 10 = (τ 14 0 10) := by rw [e1, up3_g, if_neg (by omega)]
    rw [e16, e24] at e2
    rw [e2, up3_r, if_pos ⟨rfl, rfl⟩, e1, up3_r, if_pos ⟨rfl, rfl⟩]
theorem s14_noted {τ : St} {i : Nat} {x g : Int32} {Q : St → Prop} (ok' : okS τ) (hg : g = 0 ↔ 0 ≤ x - (τ 15 i 6)) (hq : ∀ τ', Fr (mF [] [] [(56, [3])] [(15, i, [17, 19, 20, 21, 22])]) τ τ' → okS τ' → τ' 56 0 3 = (if g = 0 then τ 56 0 3 else τ 56 0 3 + 1) → τ' 15 i = (va_up (va_up (va_up (va_up (va_up (τ 15 i) 17 (tgv g ((τ 15 i 17)))) 19 (keepv g ((τ 15 i 17)) ((τ 15 i 19)) x)) 20 (keepv g ((τ 15 i 17)) ((τ 15 i 20)) ((τ 14 0 10)))) 21 1) 22 (offv ((τ 15 i 21)) ((τ 15 i 22)) ((τ 14 0 10) + (τ 15 i 13)))) → Q τ') : w14_noted τ i x Q := by
  -- the timer, behind all else
  have tmr : ∀ (s : St), okS s → Fr (mF [] [] [(56, [3])] [(15, i, [17, 19, 20])]) τ s → s 56 0 3 = (if g = 0 then τ 56 0 3 else τ 56 0 3 + 1) → s 15 i = (va_up (va_up (va_up (τ 15 i) 17 (tgv g ((τ 15 i 17)))) 19 (keepv g ((τ 15 i 17)) ((τ 15 i 19)) x)) 20 (keepv g ((τ 15 i 17)) ((τ 15 i 20)) ((τ 14 0 10)))) → bo (s 15 i 21) → ((¬ (s 15 i 21) = 0 → Q s) ∧ ((s 15 i 21) = 0 → (w14_timerSet s i (fun σ2 => (Q σ2))))) := by
    intro s oks f h56 hrow hb
    have r21 : s 15 i 21 = (τ 15 i 21) := f _ _ _ (by simp [mF])
    have r22 : s 15 i 22 = (τ 15 i 22) := f _ _ _ (by simp [mF])
    have r13 : s 15 i 13 = (τ 15 i 13) := f _ _ _ (by simp [mF])
    have r10 : s 14 0 10 = (τ 14 0 10) := f _ _ _ (by simp [mF])
    have fs : Fr (mF [] [] [(56, [3])] [(15, i, [17, 19, 20, 21, 22])]) τ s := f.sub (mF_sub rfl sub_nil rfl (sud_c (Or.inr ⟨_, List.mem_of_getElem? (i := 0) rfl, rfl⟩) sud_nil))
    by_cases c : s 15 i 21 = 0
    · refine br_u c (s14_timerSet oks (fun s' f' oks' hr => ?_))
      refine hq s' (fs.tr (f'.sub (mF_sub rfl sub_nil rfl (sud_c (Or.inr ⟨_, List.mem_of_getElem? (i := 0) rfl, rfl⟩) sud_nil)))) oks' (by rw [f' _ _ _ (by simp [mF])]; exact h56) ?_
      rw [r10, r13] at hr
      rw [hr, hrow]
      unfold offv
      rw [← r21, if_pos c]
    · refine br_v c (hq s fs oks h56 ?_)
      have c1 : s 15 i 21 = 1 := by
        rcases hb with z | z
        · exact absurd z c
        · exact z
      rw [hrow] at c1 r22
      rw [hrow]
      unfold offv
      rw [if_neg (by rw [← r21]; exact c), vu_eq c1, ← r22, vu_self]
  by_cases c : 0 ≤ x - (τ 15 i 6)
  · have g0 := hg.mpr c
    refine br_t c (br_t rfl (fun hb => ?_))
    by_cases c2 : (τ 15 i 17) = 0
    · refine br_u c2 (fun s3 e3 s4 e4 s5 e5 => ?_)
      have e4' : s4 14 0 10 = (τ 14 0 10) := by rw [e4, up3_g, if_neg (by omega), e3, up3_g, if_neg (by omega)]
      refine tmr s5 ?_ ?_ ?_ ?_
      · rw [e5, e4, e3]; exact ok_n (ok_n (ok_z ok' rfl (Or.inr rfl)) rfl) rfl
      · rw [e5, e4, e3]; exact ((fr_u (by simp [mF])).up (by simp [mF])).up (by simp [mF])
      · rw [if_pos g0, e5, up3_g, if_neg (by omega), e4, up3_g, if_neg (by omega), e3, up3_g, if_neg (by omega)]
      · rw [e5, up3_r, if_pos ⟨rfl, rfl⟩, e4', e4, up3_r, if_pos ⟨rfl, rfl⟩, e3, up3_r, if_pos ⟨rfl, rfl⟩]
        unfold keepv tgv
        rw [if_pos g0, if_pos ⟨g0, c2⟩, if_pos ⟨g0, c2⟩]
    · have c3 : (τ 15 i 17) = 1 := by
        rcases hb with z | z
        · exact absurd z c2
        · exact z
      refine br_v c2 (tmr τ ok' Fr.rf (by rw [if_pos g0]) ?_)
      unfold keepv tgv
      rw [if_pos g0, if_neg (fun z => c2 z.2), if_neg (fun z => c2 z.2), vu_eq c3, vu_self, vu_self]
  · have g1 : ¬ g = 0 := fun z => c (hg.mp z)
    refine br_f c (br_f (by decide) ⟨vin (n := 3) (by omega) (by omega), vin (n := 3) (by omega) (by omega), fun s7 e7 s8 e8 => ?_⟩)
    rw [show (3 : Int32).toNatClampNeg = 3 by decide] at e7
    refine tmr s8 ?_ ?_ ?_ ?_
    · rw [e8, e7]; exact ok_z (ok_n ok' rfl) rfl (Or.inl rfl)
    · rw [e8, e7]; exact (fr_u (by simp [mF])).up (by simp [mF])
    · rw [if_neg g1, e8, up3_g, if_neg (by omega), e7, up3_g, if_pos ⟨rfl, rfl, rfl⟩]
    · rw [e8, up3_r, if_pos ⟨rfl, rfl⟩, e7, up3_r, if_neg (by omega)]
      unfold keepv tgv
      rw [if_neg g1, if_neg (fun z => g1 z.1), if_neg (fun z => g1 z.1)]
      have h19 : va_up (τ 15 i) 17 0 19 = τ 15 i 19 := by rw [vu_g, if_neg (by decide)]
      have h20 : va_up (τ 15 i) 17 0 20 = τ 15 i 20 := by rw [vu_g, if_neg (by decide)]
      rw [vu_eq h19, vu_eq h20]
