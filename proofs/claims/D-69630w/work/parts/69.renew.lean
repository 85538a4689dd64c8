/-! a new acknowledgement: the walks -/
set_option maxRecDepth 100000
def gmv (g : Bool) (new old : Int32) : Int32 := if g then new else old
/-- whether a time is measured by an acknowledgement -/
def gms (tim x tn : Int32) : Bool := decide (tim ≠ 0 ∧ 0 < x - tn)
abbrev msC (C : Nat → Int32) (g : Bool) (t ts sr sp : Nat) : Nat → Int32 := (va_up (va_up (va_up (va_up (va_up C 34 (gmv g 0 (C 34))) 35 (gmv g 1 (C 35))) 38 (gmv g (nI (mSR (C 35) sr (t - ts))) (C 38))) 39 (gmv g (nI (mSP (C 35) sr sp (t - ts))) (C 39))) 16 (gmv g (nI (mRT (mSR (C 35) sr (t - ts)) (mSP (C 35) sr sp (t - ts)))) (C 16)))
abbrev msM (M : Nat → Int32) (g : Bool) (t ts sr sp : Nat) : Nat → Int32 := (va_up (va_up (va_up (va_up (va_up M 17 (gmv g 0 (M 17))) 16 (gmv g 1 (M 16))) 14 (gmv g (nI (mSR (M 16) sr (t - ts))) (M 14))) 15 (gmv g (nI (mSP (M 16) sr sp (t - ts))) (M 15))) 13 (gmv g (nI (mRT (mSR (M 16) sr (t - ts)) (mSP (M 16) sr sp (t - ts)))) (M 13)))
theorem s11_measure2 {σ : St} {i t ts sr sp : Nat} {x : Int32} {Q : St → Prop} (ok : okS σ) (ht : t ≤ 100000000) (hnow : (σ 2 0 4) = nI t) (hts : (σ 11 i 37) = nI ts) (hts2 : ts ≤ t) (hm : (σ 11 i 35) ≠ 0 → (σ 11 i 38) = nI sr ∧ (σ 11 i 39) = nI sp ∧ sr ≤ t ∧ sp ≤ t)
    (hq : ∀ σ', okS σ' → Fr (mF [] [] [] [(11, i, [16, 34, 35, 38, 39])]) σ σ' → σ' 11 i = msC (σ 11 i) (gms ((σ 11 i 34)) x ((σ 11 i 36))) t ts sr sp → Q σ') : w11_measure σ i x Q := by
  refine s11_measure ok ht hnow hts hts2 hm (fun a b σ' ok' f hr => hq σ' ok' f ?_) (fun hn => hq σ ok Fr.rf ?_)
  · have : gms ((σ 11 i 34)) x ((σ 11 i 36)) = true := decide_eq_true ⟨a, b⟩
    rw [this, hr]
    rfl
  · have : gms ((σ 11 i 34)) x ((σ 11 i 36)) = false := decide_eq_false hn
    rw [this]
    unfold msC gmv
    simp only [Bool.false_eq_true, if_false]
    rw [vu_self, vu_self, vu_self, vu_self, vu_self]
/-- how much the window grows -/
def cwN (rc : Int32) (cw ss ms y : Nat) : Nat := if rc = 0 then min (cw + (if ss ≤ cw then max 1 (ms * ms / cw) else min y ms)) 65535 else ss
theorem cwN_le {rc : Int32} {cw ss ms y : Nat} (h1 : ms ≤ cw) (h2 : 2 * ms ≤ ss) (h3 : ss ≤ 65535) (h4 : ms ≤ 65535) : ms ≤ cwN rc cw ss ms y ∧ cwN rc cw ss ms y ≤ 65535 := by
  unfold cwN
  split
  · omega
  · omega
abbrev rnF (i : Nat) : Nat → Nat → Nat → Bool := mF [] [] [(8, [7, 8])] [(11, i, [9, 10, 14, 16, 17, 18, 19, 29, 30, 32, 34, 35, 38, 39])]
/-- the component's row behind a new acknowledgement -/
abbrev rnC (C : Nat → Int32) (I : Int32) (g : Bool) (c : CK) (y t ts sr sp rt' : Nat) : Nat → Int32 := (va_up (va_up (va_up (va_up (msC (va_up (va_up (va_up (va_up (va_up C 9 (I + nI ((c 2) + y))) 10 (I + nI (max (c 3) ((c 2) + y)))) 17 0) 18 0) 32 (nI t)) g t ts sr sp) 19 0) 14 (nI (cwN (C 19) (c 10) (c 11) (c 9) y))) 29 (if (c 4) = (c 2) + y then 0 else 1)) 30 (if (c 4) = (c 2) + y then C 30 else nI (t + rt')))
theorem s11_renew {σ : St} {i t ts sr sp y : Nat} {c : CK} {I : Int32} {Q : St → Prop} (ok : okS σ) (ht : t ≤ 100000000) (hnow : (σ 2 0 4) = nI t) (hts : (σ 11 i 37) = nI ts) (hts2 : ts ≤ t) (hm : (σ 11 i 35) ≠ 0 → (σ 11 i 38) = nI sr ∧ (σ 11 i 39) = nI sp ∧ sr ≤ t ∧ sp ≤ t)
    (eat : (σ 11 i 10) = I + nI (c 3)) (emx : (σ 11 i 11) = I + nI (c 4)) (ems : (σ 11 i 13) = nI (c 9)) (ecw : (σ 11 i 14) = nI (c 10)) (ess : (σ 11 i 15) = nI (c 11)) (ert : (σ 11 i 16) = nI (c 12)) (hy1 : 1 ≤ y) (hyx : (c 2) + y ≤ (c 4)) (hax : (c 3) ≤ (c 4)) (hxx : (c 4) < 1000000000) (hy6 : y ≤ 66048) (hms : 64 ≤ (c 9) ∧ (c 9) ≤ 1460) (hcw : (c 9) ≤ (c 10) ∧ (c 10) ≤ 65535) (hss : (c 11) ≤ 65535) (hrt : (c 12) ≤ 60000)
    (hq : ∀ σ', okS σ' → Fr (rnF i) σ σ' → σ' 8 0 7 = (σ 8 0 7) + 1 → σ' 8 0 8 = (σ 8 0 8) + nI y → σ' 11 i = rnC (σ 11 i) I (gms ((σ 11 i 34)) (I + nI ((c 2) + y)) ((σ 11 i 36))) c y t ts sr sp (if gms ((σ 11 i 34)) (I + nI ((c 2) + y)) ((σ 11 i 36)) then mRT (mSR ((σ 11 i 35)) sr (t - ts)) (mSP ((σ 11 i 35)) sr sp (t - ts)) else (c 12)) → Q σ') : w11_renew σ i (I + nI ((c 2) + y)) (nI y) Q := by
  generalize hgg : gms ((σ 11 i 34)) (I + nI ((c 2) + y)) ((σ 11 i 36)) = g at hq
  generalize hrt' : (if g then mRT (mSR ((σ 11 i 35)) sr (t - ts)) (mSP ((σ 11 i 35)) sr sp (t - ts)) else (c 12)) = rt' at hq
  have hrt6 : rt' ≤ 60000 := by
    rw [← hrt']
    split
    · exact (mRT_le _ _).2
    · exact hrt
  -- the row as it is handed on
  have t27 : ∀ s : St, okS s → Fr (mF [] [] [] [(11, i, [9, 10])]) σ s → s 11 i = (va_up (va_up (σ 11 i) 9 (I + nI ((c 2) + y))) 10 (I + nI (max (c 3) ((c 2) + y)))) → w11_renew_J27 s i (I + nI ((c 2) + y)) (nI y) Q := by
    intro s oks f hr s3 e3 s4 e4 s6 e6 s7 e7 s8 e8
    have n4 : s4 2 0 4 = nI t := by rw [e4, up3_g, if_neg (by omega), e3, up3_g, if_neg (by omega), f _ _ _ (by simp [mF])]; exact hnow
    rw [n4] at e6
    have ok8 : okS s8 := by rw [e8, e7, e6, e4, e3]; exact ok_n (ok_n (ok_n (ok_n (ok_n oks rfl) rfl) rfl) rfl) rfl
    have f8 : Fr (mF [] [] [(8, [7, 8])] [(11, i, [9, 10, 17, 18, 32])]) σ s8 := by
      rw [e8, e7, e6, e4, e3]
      refine Fr.up (Fr.up (Fr.up (Fr.up (Fr.up (f.sub (mF_sub rfl sub_nil rfl (sud_c (Or.inr ⟨_, List.mem_of_getElem? (i := 0) rfl, rfl⟩) sud_nil))) (by simp [mF])) (by simp [mF])) (by simp [mF])) (by simp [mF])) (by simp [mF])
    have hr8 : s8 11 i = (va_up (va_up (va_up (va_up (va_up (σ 11 i) 9 (I + nI ((c 2) + y))) 10 (I + nI (max (c 3) ((c 2) + y)))) 17 0) 18 0) 32 (nI t)) := by
      rw [e8, up3_r, if_neg (by omega), e7, up3_r, if_neg (by omega), e6, up3_r, if_pos ⟨rfl, rfl⟩, e4, up3_r, if_pos ⟨rfl, rfl⟩, e3, up3_r, if_pos ⟨rfl, rfl⟩, hr]
    have c87 : s8 8 0 7 = (σ 8 0 7) + 1 := by
      rw [e8, up3_g, if_neg (by omega), e7, up3_g, if_pos ⟨rfl, rfl, rfl⟩, e6, up3_g, if_neg (by omega), e4, up3_g, if_neg (by omega), e3, up3_g, if_neg (by omega), f _ _ _ (by simp [mF])]
    have c88 : s8 8 0 8 = (σ 8 0 8) + nI y := by
      rw [e8, up3_g, if_pos ⟨rfl, rfl, rfl⟩, e7, up3_g, if_neg (by omega), e6, up3_g, if_neg (by omega), e4, up3_g, if_neg (by omega), e3, up3_g, if_neg (by omega), f _ _ _ (by simp [mF])]
    have g34 : s8 11 i 34 = (σ 11 i 34) := f8 _ _ _ (by simp [mF])
    have g36 : s8 11 i 36 = (σ 11 i 36) := f8 _ _ _ (by simp [mF])
    have g35 : s8 11 i 35 = (σ 11 i 35) := f8 _ _ _ (by simp [mF])
    have g37 : s8 11 i 37 = (σ 11 i 37) := f8 _ _ _ (by simp [mF])
    have g38 : s8 11 i 38 = (σ 11 i 38) := f8 _ _ _ (by simp [mF])
    have g39 : s8 11 i 39 = (σ 11 i 39) := f8 _ _ _ (by simp [mF])
    refine s11_measure2 (t := t) (ts := ts) (sr := sr) (sp := sp) ok8 ht (by rw [f8 _ _ _ (by simp [mF])]; exact hnow) (by rw [g37]; exact hts) hts2 (by rw [g35, g38, g39]; exact hm) (fun s9 ok9 f9 hr9 => ?_)
    rw [g34, g36, hgg] at hr9
    have hr9' : s9 11 i = msC (va_up (va_up (va_up (va_up (va_up (σ 11 i) 9 (I + nI ((c 2) + y))) 10 (I + nI (max (c 3) ((c 2) + y)))) 17 0) 18 0) 32 (nI t)) g t ts sr sp := by rw [hr9, hr8]
    have r9 : ∀ j, j ≠ 9 → j ≠ 10 → j ≠ 17 → j ≠ 18 → j ≠ 32 → j ≠ 16 → j ≠ 34 → j ≠ 35 → j ≠ 38 → j ≠ 39 → s9 11 i j = σ 11 i j := fun j a1 a2 a3 a4 a5 a6 a7 a8 a9 a10 => by
      rw [f9 _ _ _ (by simp [mF, a6, a7, a8, a9, a10]), f8 _ _ _ (by simp [mF, a1, a2, a3, a4, a5])]
    have q19 : s9 11 i 19 = (σ 11 i 19) := r9 19 (by decide) (by decide) (by decide) (by decide) (by decide) (by decide) (by decide) (by decide) (by decide) (by decide)
    have q14 : s9 11 i 14 = nI (c 10) := (r9 14 (by decide) (by decide) (by decide) (by decide) (by decide) (by decide) (by decide) (by decide) (by decide) (by decide)).trans ecw
    have q15 : s9 11 i 15 = nI (c 11) := (r9 15 (by decide) (by decide) (by decide) (by decide) (by decide) (by decide) (by decide) (by decide) (by decide) (by decide)).trans ess
    have q13 : s9 11 i 13 = nI (c 9) := (r9 13 (by decide) (by decide) (by decide) (by decide) (by decide) (by decide) (by decide) (by decide) (by decide) (by decide)).trans ems
    have q11 : s9 11 i 11 = I + nI (c 4) := (r9 11 (by decide) (by decide) (by decide) (by decide) (by decide) (by decide) (by decide) (by decide) (by decide) (by decide)).trans emx
    have q29 : s9 11 i 30 = (σ 11 i 30) := r9 30 (by decide) (by decide) (by decide) (by decide) (by decide) (by decide) (by decide) (by decide) (by decide) (by decide)
    have q9 : s9 11 i 9 = I + nI ((c 2) + y) := by rw [hr9']; simp only [vu_g, Nat.reduceEqDiff, reduceIte]
    have q16 : s9 11 i 16 = nI rt' := by
      rw [hr9', ← hrt']
      simp only [vu_g, Nat.reduceEqDiff, reduceIte]
      unfold gmv
      split
      · rfl
      · exact ert
    have q204 : s9 2 0 4 = nI t := by rw [f9 _ _ _ (by simp [mF]), f8 _ _ _ (by simp [mF])]; exact hnow
    have F9 : Fr (mF [] [] [(8, [7, 8])] [(11, i, [9, 10, 14, 16, 17, 18, 19, 29, 30, 32, 34, 35, 38, 39])]) σ s9 := (f8.sub (mF_sub rfl sub_nil rfl (sud_c (Or.inr ⟨_, List.mem_of_getElem? (i := 0) rfl, rfl⟩) sud_nil))).tr (f9.sub (mF_sub rfl sub_nil rfl (sud_c (Or.inr ⟨_, List.mem_of_getElem? (i := 0) rfl, rfl⟩) sud_nil)))
    -- the timer, at the end
    have t146 : ∀ s10 : St, okS s10 → Fr (mF [] [] [] [(11, i, [14, 19])]) s9 s10 → s10 11 i = (va_up (va_up (s9 11 i) 19 0) 14 (nI (cwN ((σ 11 i 19)) (c 10) (c 11) (c 9) y))) → w11_renew_J146 s10 i Q := by
      intro s10 ok10 f10 hr10
      have F10 : Fr (rnF i) σ s10 := F9.tr (f10.sub (mF_sub rfl sub_nil rfl (sud_c (Or.inr ⟨_, List.mem_of_getElem? (i := 0) rfl, rfl⟩) sud_nil)))
      have d87 : s10 8 0 7 = (σ 8 0 7) + 1 := by rw [f10 _ _ _ (by simp [mF]), f9 _ _ _ (by simp [mF])]; exact c87
      have d88 : s10 8 0 8 = (σ 8 0 8) + nI y := by rw [f10 _ _ _ (by simp [mF]), f9 _ _ _ (by simp [mF])]; exact c88
      have p11 : s10 11 i 11 = I + nI (c 4) := by rw [f10 _ _ _ (by simp [mF])]; exact q11
      have p9 : s10 11 i 9 = I + nI ((c 2) + y) := by rw [f10 _ _ _ (by simp [mF])]; exact q9
      have p16 : s10 11 i 16 = nI rt' := by rw [f10 _ _ _ (by simp [mF])]; exact q16
      have p30 : s10 11 i 30 = (σ 11 i 30) := by rw [f10 _ _ _ (by simp [mF])]; exact q29
      have p24 : s10 2 0 4 = nI t := by rw [f10 _ _ _ (by simp [mF])]; exact q204
      unfold w11_renew_J146
      rw [p11, p9]
      have e9 := so_9 I (a := (c 4)) (b := (c 2) + y) (by omega) (by omega)
      by_cases c5 : (c 4) = (c 2) + y
      · refine br_t (e9.mpr c5) (fun s11 e11 => hq s11 (by rw [e11]; exact ok_z ok10 rfl (Or.inl rfl)) (by rw [e11]; exact F10.up (by simp [mF])) (by rw [e11, up3_g, if_neg (by omega)]; exact d87) (by rw [e11, up3_g, if_neg (by omega)]; exact d88) ?_)
        unfold rnC
        rw [e11, up3_r, if_pos ⟨rfl, rfl⟩, if_pos c5, if_pos c5]
        have e30 : va_up (s10 11 i) 29 0 30 = (σ 11 i 30) := by rw [vu_g, if_neg (by decide)]; exact p30
        rw [hr10, hr9'] at e30 ⊢
        rw [vu_eq e30]
      · refine br_f (fun z => c5 (e9.mp z)) (fun s11 e11 => ?_)
        refine s11_startTimer (fun s12 f12 ok12 hr12 => ?_) (by rw [e11]; exact ok_z ok10 rfl (Or.inl rfl))
        have u29 : s11 11 i 29 = 0 := by rw [e11, up3_g, if_pos ⟨rfl, rfl, rfl⟩]
        have u16 : s11 11 i 16 = nI rt' := by rw [e11, up3_g, if_neg (by omega)]; exact p16
        have u24 : s11 2 0 4 = nI t := by rw [e11, up3_g, if_neg (by omega)]; exact p24
        rw [u29, u16, u24, nI_add] at hr12
        refine hq s12 ok12 ?_ ?_ ?_ ?_
        · refine Fr.tr (Fr.up F10 (k := 11) (i := i) (j := 29) (v := 0) (by simp [mF])) ?_
          rw [← e11]
          exact f12.sub (mF_sub rfl sub_nil rfl (sud_c (Or.inr ⟨_, List.mem_of_getElem? (i := 0) rfl, rfl⟩) sud_nil))
        · rw [f12 _ _ _ (by simp [mF]), e11, up3_g, if_neg (by omega)]; exact d87
        · rw [f12 _ _ _ (by simp [mF]), e11, up3_g, if_neg (by omega)]; exact d88
        · unfold rnC
          rw [hr12, e11, up3_r, if_pos ⟨rfl, rfl⟩, if_neg c5, if_neg c5, hr10, hr9']
          have vv : ∀ (f : Nat → Int32) (k : Nat) (v w : Int32), va_up (va_up f k v) k w = va_up f k w := fun f k v w => by
            funext j
            simp only [vu_g]
            by_cases e : j = k
            · rw [if_pos e, if_pos e]
            · rw [if_neg e, if_neg e, if_neg e]
          rw [vv]
          rfl
    show bo (s9 11 i 19) → _
    intro _
    rw [q19, q14, q15, q13]
    by_cases c6 : (σ 11 i 19) = 0
    · refine br_t c6 ?_
      have e19 : s9 11 i 19 = 0 := q19.trans c6
      have grow : ∀ v : Nat, v ≤ 66048 → min ((c 10) + v) 65535 = cwN ((σ 11 i 19)) (c 10) (c 11) (c 9) y → w11_grow s9 i (nI v) (fun σ10 => w11_renew_J146 σ10 i Q) := by
        intro v hv hcwn s10 e10
        rw [q14, nI_add, show imin (nI ((c 10) + v)) 65535 = nI (min ((c 10) + v) 65535) from imin_n (b := 65535) (by omega) (by omega), hcwn] at e10
        refine t146 s10 (by rw [e10]; exact ok_n ok9 rfl) (by rw [e10]; exact fr_u (by simp [mF])) ?_
        rw [e10, up3_r, if_pos ⟨rfl, rfl⟩, vu_eq e19]
      by_cases c7 : (c 11) ≤ (c 10)
      · refine br_t (nI_le c7 (by omega)) ⟨nI_ne0 (by omega) (by omega), ?_⟩
        have hmm : (c 9) * (c 9) ≤ 1460 * 1460 := Nat.mul_le_mul hms.2 hms.2
        have hdv : (c 9) * (c 9) / (c 10) ≤ (c 9) * (c 9) := Nat.div_le_self _ _
        have hdv2 : (c 9) * (c 9) / (c 10) ≤ (c 9) := by
          apply Nat.div_le_of_le_mul
          exact Nat.mul_le_mul_right _ hcw.1
        rw [pk_mul, pk_div (by omega) (by omega) (by omega), show imax 1 (nI ((c 9) * (c 9) / (c 10))) = nI (max 1 ((c 9) * (c 9) / (c 10))) from imax_n (a := 1) (by omega) (by omega)]
        refine grow _ (by omega) ?_
        unfold cwN
        rw [if_pos c6, if_pos c7]
      · refine br_f (nI_ge (by omega) (by omega)) ?_
        rw [imin_n (by omega) (by omega)]
        refine grow _ (by omega) ?_
        unfold cwN
        rw [if_pos c6, if_neg c7]
    · refine br_f c6 (fun s14 e14 s15 e15 => ?_)
      have w15 : s14 11 i 15 = nI (c 11) := by rw [e14, up3_g, if_neg (by omega)]; exact q15
      rw [w15] at e15
      refine t146 s15 (by rw [e15, e14]; exact ok_n (ok_z ok9 rfl (Or.inl rfl)) rfl) (by rw [e15, e14]; exact (fr_u (by simp [mF])).up (by simp [mF])) ?_
      rw [e15, up3_r, if_pos ⟨rfl, rfl⟩, e14, up3_r, if_pos ⟨rfl, rfl⟩]
      unfold cwN
      rw [if_neg c6]
  intro s1 e1
  have r10 : s1 11 i 10 = I + nI (c 3) := by rw [e1, up3_g, if_neg (by omega)]; exact eat
  have r9 : s1 11 i 9 = I + nI ((c 2) + y) := by rw [e1, up3_g, if_pos ⟨rfl, rfl, rfl⟩]
  rw [r10, r9]
  have ecmp : 0 ≤ (I + nI (c 3)) - (I + nI ((c 2) + y)) ↔ ¬ (c 3) < (c 2) + y := by
    rw [← Int32.not_lt, so_7 _ (by omega) (by omega)]
  have ok1 : okS s1 := by rw [e1]; exact ok_n ok rfl
  by_cases c1 : (c 3) < (c 2) + y
  · refine br_f (fun z => (ecmp.mp z) c1) (br_f (by decide) (fun s16 e16 => t27 s16 (by rw [e16]; exact ok_n ok1 rfl) (by rw [e16, e1]; exact (fr_u (by simp [mF])).up (by simp [mF])) ?_))
    rw [e16, up3_r, if_pos ⟨rfl, rfl⟩, e1, up3_r, if_pos ⟨rfl, rfl⟩, Nat.max_eq_right (by omega)]
  · refine br_t (ecmp.mpr c1) (br_t rfl (t27 s1 ok1 (by rw [e1]; exact fr_u (by simp [mF])) ?_))
    have e2 : s1 11 i = va_up (σ 11 i) 9 (I + nI ((c 2) + y)) := by rw [e1, up3_r, if_pos ⟨rfl, rfl⟩]
    rw [Nat.max_eq_left (by omega), ← e2, vu_eq r10]
