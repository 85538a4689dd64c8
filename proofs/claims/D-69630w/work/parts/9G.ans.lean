/-! answers: side by side -/
set_option maxRecDepth 100000
abbrev anG : Nat → Nat → Nat → Bool := mF [56, 67, 71] [] [(14, [43, 44, 45, 46, 47, 48, 49, 50, 51, 52, 53, 54, 55, 56, 57, 59, 60, 61, 62]), (15, [26, 27, 28, 29, 30, 38])] []
/-- behind an answer: what it is of both -/
def AnP (τ : St) (i : Nat) (r : Int32) (σ' τ' : St) : Prop := ∃ L h p d sk : Nat, r = nI (d + 1) ∧ d ≤ 1 ∧ (σ' 13 i 1) = nI L ∧ σ' 90 (i + 1) 0 = 66047 ∧ (σ' 12 i 3) = nI sk ∧ sk ≤ 65536 ∧ (τ' 15 i 38) = nI sk ∧ (τ' 15 i 29) = (τ 15 i 5) ∧ (τ' 15 i 26) = nI h ∧ (τ' 15 i 30) = nI d ∧ (τ' 15 i 27) = nI p ∧ (τ' 15 i 28) = nI (L - h) ∧ (1 ≤ h ∧ h ≤ L ∧ h ≤ 512 ∧ p + (L - h) ≤ 65535 ∧ L ≤ 66047) ∧ (∀ j, j < L → σ' 44 i j = if j < h then τ' 71 i j else τ' 51 0 (p + (j - h))) ∧ τ' 56 0 4 = τ 56 0 4 + 1 ∧ (∀ j, j ≠ 4 → τ' 56 0 j = τ 56 0 j) ∧ Fr anG τ τ' ∧ okS τ'
/-- the model's state where it makes an answer -/
def MkS (τ t4 : St) (i s sk : Nat) (hd : Bool) : Prop := ((t4 14 0 43) = nI s) ∧ ((t4 14 0 44) = if hd then 1 else 0) ∧ ((t4 15 i 38) = nI sk) ∧ (sk ≤ 65536) ∧ ((t4 15 i 5) = (τ 15 i 5)) ∧ (t4 56 0 = τ 56 0) ∧ (Fr anG τ t4) ∧ (okS t4)
theorem MkS.st {τ t4 : St} {i s sk : Nat} {hd : Bool} (h : MkS τ t4 i s sk hd) : (t4 14 0 43) = nI s := h.1
theorem MkS.hh {τ t4 : St} {i s sk : Nat} {hd : Bool} (h : MkS τ t4 i s sk hd) : (t4 14 0 44) = if hd then 1 else 0 := h.2.1
theorem MkS.lv {τ t4 : St} {i s sk : Nat} {hd : Bool} (h : MkS τ t4 i s sk hd) : (t4 15 i 38) = nI sk := h.2.2.1
theorem MkS.k6 {τ t4 : St} {i s sk : Nat} {hd : Bool} (h : MkS τ t4 i s sk hd) : sk ≤ 65536 := h.2.2.2.1
theorem MkS.at2 {τ t4 : St} {i s sk : Nat} {hd : Bool} (h : MkS τ t4 i s sk hd) : (t4 15 i 5) = (τ 15 i 5) := h.2.2.2.2.1
theorem MkS.ct {τ t4 : St} {i s sk : Nat} {hd : Bool} (h : MkS τ t4 i s sk hd) : t4 56 0 = τ 56 0 := h.2.2.2.2.2.1
theorem MkS.fr {τ t4 : St} {i s sk : Nat} {hd : Bool} (h : MkS τ t4 i s sk hd) : Fr anG τ t4 := h.2.2.2.2.2.2.1
theorem MkS.okm {τ t4 : St} {i s sk : Nat} {hd : Bool} (h : MkS τ t4 i s sk hd) : okS t4 := h.2.2.2.2.2.2.2
theorem MkS.mk {τ t4 : St} {i s sk : Nat} {hd : Bool} (st : (t4 14 0 43) = nI s) (hh : (t4 14 0 44) = if hd then 1 else 0) (lv : (t4 15 i 38) = nI sk) (k6 : sk ≤ 65536) (at2 : (t4 15 i 5) = (τ 15 i 5)) (ct : t4 56 0 = τ 56 0) (fr : Fr anG τ t4) (okm : okS t4) : MkS τ t4 i s sk hd := ⟨st, hh, lv, k6, at2, ct, fr, okm⟩
/-- the component's -/
def CkS (σ4 : St) (i sk : Nat) (hd : Bool) : Prop := (σ4 90 (i + 1) 0 = 0 ∨ σ4 90 (i + 1) 0 = 66047) ∧ (fre σ4 44) ∧ ((σ4 9 0 5) = if hd then 1 else 0) ∧ ((σ4 12 i 3) = nI sk)
theorem CkS.rm {σ4 : St} {i sk : Nat} {hd : Bool} (h : CkS σ4 i sk hd) : σ4 90 (i + 1) 0 = 0 ∨ σ4 90 (i + 1) 0 = 66047 := h.1
theorem CkS.fr4 {σ4 : St} {i sk : Nat} {hd : Bool} (h : CkS σ4 i sk hd) : fre σ4 44 := h.2.1
theorem CkS.hh {σ4 : St} {i sk : Nat} {hd : Bool} (h : CkS σ4 i sk hd) : (σ4 9 0 5) = if hd then 1 else 0 := h.2.2.1
theorem CkS.sk4 {σ4 : St} {i sk : Nat} {hd : Bool} (h : CkS σ4 i sk hd) : (σ4 12 i 3) = nI sk := h.2.2.2
theorem CkS.mk {σ4 : St} {i sk : Nat} {hd : Bool} (rm : σ4 90 (i + 1) 0 = 0 ∨ σ4 90 (i + 1) 0 = 66047) (fr4 : fre σ4 44) (hh : (σ4 9 0 5) = if hd then 1 else 0) (sk4 : (σ4 12 i 3) = nI sk) : CkS σ4 i sk hd := ⟨rm, fr4, hh, sk4⟩
theorem BG_pos (n t : Nat) : 1 ≤ (BG n t).length := by
  unfold BG
  simp only [List.length_append, List.length_cons, List.length_nil]
  omega
theorem an_mk {τ t4 : St} {s0 : St} {i s sk p bl d : Nat} {hd : Bool} {l : List Nat} {x3 : Int32} {σ' : St} {L : Nat} (hM : MkS τ t4 i s sk hd) (hx : x3 = nI d) (hd1 : d ≤ 1) (hl1 : 1 ≤ l.length) (hl4 : l.length ≤ 400) (hp : p + bl ≤ 65535) (hL : L = l.length + bl) (h13 : (σ' 13 i 1) = nI L) (h90 : σ' 90 (i + 1) 0 = 66047) (hsk : (σ' 12 i 3) = nI sk) (h44 : ∀ j, j < L → σ' 44 i j = if j < l.length then wrl (s0 44 i) 0 l j else t4 51 0 (p + (j - l.length))) (hok : okS (aM (up3 (up3 (mk0 t4 i x3) 15 i 27 (nI p)) 15 i 28 (nI bl)) i 0 l)) :
    AnP τ i (nI (d + 1)) σ' (aM (up3 (up3 (mk0 t4 i x3) 15 i 27 (nI p)) 15 i 28 (nI bl)) i 0 l) := by
  generalize ht1 : up3 (up3 (mk0 t4 i x3) 15 i 27 (nI p)) 15 i 28 (nI bl) = t1 at hok ⊢
  have G1 : Fr (mF [] [] [(56, [4]), (15, [26, 27, 28, 29, 30])] []) t4 t1 := by
    rw [← ht1]
    exact ((mk0_f.sub (mF_sub rfl sub_nil rfl sud_nil)).up rfl).up rfl
  have G2 : Fr (mF [56] [] [(15, [26, 27, 28, 29, 30])] []) t4 t1 := by
    rw [← ht1]
    unfold mk0
    exact (((((fr_u rfl).up rfl).up rfl).up rfl).up rfl).up rfl
  have r15 : t1 15 i = (va_up (va_up (va_up (va_up (va_up (t4 15 i) 29 ((t4 15 i 5))) 26 0) 30 x3) 27 (nI p)) 28 (nI bl)) := by
    rw [← ht1, up3_r, if_pos ⟨rfl, rfl⟩, up3_r, if_pos ⟨rfl, rfl⟩, mk0_15]
  have c56 : t1 56 0 4 = t4 56 0 4 + 1 := by rw [← ht1, up3_g, if_neg (by omega), up3_g, if_neg (by omega)]; exact mk0_56
  refine ⟨L, l.length, p, d, sk, rfl, hd1, h13, h90, hsk, hM.k6, ?_, ?_, aM_l, ?_, ?_, ?_, ⟨hl1, by omega, by omega, by omega, by omega⟩, ?_, ?_, ?_, ?_, hok⟩
  · rw [aM_15 (by decide), r15]; simp only [vu_g, Nat.reduceEqDiff, reduceIte]; exact hM.lv
  · rw [aM_15 (by decide), r15]; simp only [vu_g, Nat.reduceEqDiff, reduceIte]; exact hM.at2
  · rw [aM_15 (by decide), r15]; simp only [vu_g, Nat.reduceEqDiff, reduceIte]; exact hx
  · rw [aM_15 (by decide), r15]; simp only [vu_g, Nat.reduceEqDiff, reduceIte]
  · rw [aM_15 (by decide), r15]; simp only [vu_g, Nat.reduceEqDiff, reduceIte]; congr 1; omega
  · intro j hj
    rw [h44 j hj, aM_71, aM_o (by decide) (by decide), G1.row (k := 51) fun _ => rfl]
    by_cases c : j < l.length
    · rw [if_pos c, if_pos c]
      exact wrl_in _ _ _ _ _ (Nat.zero_le _) (by omega)
    · rw [if_neg c, if_neg c]
  · rw [aM_o (by decide) (by decide), c56, hM.ct]
  · intro j hj
    rw [aM_o (by decide) (by decide), G1 _ _ _ (by simp [mF, hj]), hM.ct]
  · exact (hM.fr.tr (G2.sub (mF_sub rfl sub_nil rfl sud_nil))).tr (aM_f.sub (mF_sub rfl sub_nil rfl sud_nil))
theorem ifb (d : Bool) : (if d then (1 : Int32) else 0) = nI (if d then 1 else 0) := by cases d <;> rfl
theorem j_plain {τ σ4 t4 : St} {i s t sk : Nat} {d hd : Bool} {P : St → Prop} (hi : i < 16) (hC : CkS σ4 i sk hd) (hM : MkS τ t4 i s sk hd) (hs : s < 1000) (hs3 : s ≠ 304) (ht : t < 83) (htt : tl t = tl (phr s))
    (hq : ∀ σ', (∃ τ', AnP τ i (nI ((if d then 1 else 0) + 1)) σ' τ' ∧ ∀ Q, mskip τ' i Q → w14_make t4 i (-1) (if d then 1 else 0) (fun s28 => mskip s28 i Q)) → P σ') : w9_plain σ4 i (nI s) t (if d then 1 else 0) P := by
  refine s9_plain hC.rm hC.fr4 hs ht rfl hC.hh (fun s0 h f hl => hq _ ⟨_, ?_, fun Q hk => s14_make0 hs hs3 hM.st hM.hh rfl htt (fun _ => hk)⟩)
  have hpos : 1 ≤ (PLN s t d hd).length := by
    have := BG_pos s t
    unfold PLN
    simp only [List.length_append]
    omega
  have hok : okS (aM (up3 (up3 (mk0 t4 i (if d then 1 else 0)) 15 i 27 0) 15 i 28 0) i 0 (PLN s t d hd)) := by
    obtain ⟨s9, hs9, oks9, _, _⟩ := e14_make (Q := fun s9 => s9 = aM (up3 (up3 (mk0 t4 i (if d then 1 else 0)) 15 i 27 0) 15 i 28 0) i 0 (PLN s t d hd)) hi hM.okm (s14_make0 hs hs3 hM.st hM.hh rfl htt (fun _ => rfl))
    rw [hs9] at oks9
    exact oks9
  refine an_mk (p := 0) (bl := 0) (s0 := s0) (L := (PLN s t d hd).length) hM (ifb d) (by split <;> omega) hpos hl (by omega) rfl h.p.1 h.p.2 ?_ ?_ hok
  · rw [aC_o (by decide) (by decide), f _ _ _ (by simp [mF])]; exact hC.sk4
  · intro j hj
    rw [aC_44, if_pos hj]
theorem j_plain0 {τ σ4 t4 : St} {i s t sk : Nat} {d hd : Bool} {P : St → Prop} (hi : i < 16) (hC : CkS σ4 i sk hd) (hM : MkS τ t4 i s sk hd) (hs : s < 1000) (hs3 : s ≠ 304) (ht : t < 83) (htt : tl t = tl (phr s))
    (hq : ∀ σ', (∃ τ', AnP τ i (nI ((if d then 1 else 0) + 1)) σ' τ' ∧ ∀ R : St → Prop, R τ' → w14_make t4 i (-1) (if d then 1 else 0) R) → P σ') : w9_plain σ4 i (nI s) t (if d then 1 else 0) P := by
  refine s9_plain hC.rm hC.fr4 hs ht rfl hC.hh (fun s0 h f hl => hq _ ⟨_, ?_, fun Q hk => s14_make0 hs hs3 hM.st hM.hh rfl htt (fun _ => hk)⟩)
  have hpos : 1 ≤ (PLN s t d hd).length := by
    have := BG_pos s t
    unfold PLN
    simp only [List.length_append]
    omega
  have hok : okS (aM (up3 (up3 (mk0 t4 i (if d then 1 else 0)) 15 i 27 0) 15 i 28 0) i 0 (PLN s t d hd)) := by
    obtain ⟨s9, hs9, oks9, _, _⟩ := e14_make (Q := fun s9 => s9 = aM (up3 (up3 (mk0 t4 i (if d then 1 else 0)) 15 i 27 0) 15 i 28 0) i 0 (PLN s t d hd)) hi hM.okm (s14_make0 hs hs3 hM.st hM.hh rfl htt (fun _ => rfl))
    rw [hs9] at oks9
    exact oks9
  refine an_mk (p := 0) (bl := 0) (s0 := s0) (L := (PLN s t d hd).length) hM (ifb d) (by split <;> omega) hpos hl (by omega) rfl h.p.1 h.p.2 ?_ ?_ hok
  · rw [aC_o (by decide) (by decide), f _ _ _ (by simp [mF])]; exact hC.sk4
  · intro j hj
    rw [aC_44, if_pos hj]
theorem j_same {τ σ4 t4 : St} {i e p ln n sk : Nat} {d hd : Bool} {P : St → Prop} (hi : i < 16) (hC : CkS σ4 i sk hd) (hM : MkS τ t4 i 304 sk hd) (hr : rowIs σ4 22) (he : e < 64) (hF : FL σ4 t4 e n p ln) (hn : n ≤ 65535)
    (hq : ∀ σ', (∃ τ', AnP τ i (nI ((if d then 1 else 0) + 1)) σ' τ' ∧ ∀ Q, mskip τ' i Q → w14_make t4 i (nI e) (if d then 1 else 0) (fun s28 => mskip s28 i Q)) → P σ') : w9_same σ4 i (nI e) (if d then 1 else 0) P := by
  have hsum := hF.sum
  refine s9_same (v := t4 55 0 e) hC.rm hC.fr4 hr he hF.mk1 rfl (fun s0 h f hl => hq _ ⟨_, ?_, fun Q hk => s14_make304 (v := t4 55 0 e) (p := p) (ln := ln) he hM.st hM.hh rfl rfl hF.pl2 hF.ln2 (fun _ => hk)⟩)
  have hpos : 1 ≤ (SML (t4 55 0 e) d).length := by
    have := BG_pos 304 30
    unfold SML
    simp only [List.length_append]
    omega
  have hok : okS (aM (up3 (up3 (mk0 t4 i (if d then 1 else 0)) 15 i 27 (nI p)) 15 i 28 (nI 0)) i 0 (SML (t4 55 0 e) d)) := by
    obtain ⟨s9, hs9, oks9, _, _⟩ := e14_make (Q := fun s9 => s9 = aM (up3 (up3 (mk0 t4 i (if d then 1 else 0)) 15 i 27 (nI p)) 15 i 28 (nI 0)) i 0 (SML (t4 55 0 e) d)) hi hM.okm (s14_make304 (v := t4 55 0 e) (p := p) (ln := ln) he hM.st hM.hh rfl rfl hF.pl2 hF.ln2 (fun _ => rfl))
    rw [hs9] at oks9
    exact oks9
  refine an_mk (p := p) (bl := 0) (s0 := s0) (L := (SML (t4 55 0 e) d).length) hM (ifb d) (by split <;> omega) hpos (by omega) (by omega) rfl h.p.1 h.p.2 ?_ ?_ hok
  · rw [aC_o (by decide) (by decide), f _ _ _ (by simp [mF])]; exact hC.sk4
  · intro j hj
    rw [aC_44, if_pos hj]
theorem j_file {τ σ4 t4 : St} {i e p ln n sk : Nat} {d hd : Bool} {P : St → Prop} (hi : i < 16) (hC : CkS σ4 i sk hd) (hM : MkS τ t4 i 200 sk hd) (hr : rowIs σ4 22) (he : e < 64) (hF : FL σ4 t4 e n p ln) (hn : n ≤ 65535) (h9 : σ4 90 0 0 = nI n) (him : ∀ j, j < n → σ4 21 0 j = t4 51 0 j)
    (hq : ∀ σ', (∃ τ', AnP τ i (nI ((if d then 1 else 0) + 1)) σ' τ' ∧ ∀ Q, mskip τ' i Q → w14_make t4 i (nI e) (if d then 1 else 0) (fun s28 => mskip s28 i Q)) → P σ') : w9_file σ4 i (nI e) (if d then 1 else 0) P := by
  have hsum := hF.sum
  refine s9_file (d := d) (hd := hd) hC.rm hC.fr4 hr he hF hn h9 rfl hC.hh (fun s0 tC tM h f b1 b2 b3 b5 hl => hq _ ⟨_, ?_, fun Q hk => s14_make200 (v := t4 55 0 e) (p := p) (ln := ln) (hd := hd) he hM.st hM.hh rfl rfl hF.pl2 hF.ln2 (by omega) b1 b2 b3 b5 (fun _ => hk)⟩)
  have hpos : 1 ≤ (FLL ln tC (t4 55 0 e) d).length := by
    have := BG_pos 200 42
    unfold FLL
    simp only [List.length_append]
    omega
  have hok : okS (aM (up3 (up3 (mk0 t4 i (if d then 1 else 0)) 15 i 27 (nI p)) 15 i 28 (nI (if hd then 0 else ln))) i 0 (FLL ln tC (t4 55 0 e) d)) := by
    obtain ⟨s9, hs9, oks9, _, _⟩ := e14_make (Q := fun s9 => s9 = aM (up3 (up3 (mk0 t4 i (if d then 1 else 0)) 15 i 27 (nI p)) 15 i 28 (nI (if hd then 0 else ln))) i 0 (FLL ln tC (t4 55 0 e) d)) hi hM.okm (s14_make200 (v := t4 55 0 e) (p := p) (ln := ln) (hd := hd) he hM.st hM.hh rfl rfl hF.pl2 hF.ln2 (by omega) b1 b2 b3 b5 (fun _ => rfl))
    rw [hs9] at oks9
    exact oks9
  cases hd with
  | true =>
    refine an_mk (p := p) (bl := 0) (s0 := s0) (L := (FLL ln tC (t4 55 0 e) d).length) hM (ifb d) (by split <;> omega) hpos (by omega) (by omega) rfl h.p.1 h.p.2 ?_ ?_ hok
    · rw [if_pos rfl, aC_o (by decide) (by decide), f _ _ _ (by simp [mF])]; exact hC.sk4
    · intro j hj
      rw [if_pos rfl, aC_44, if_pos hj]
  | false =>
    generalize hl0 : FLL ln tC (t4 55 0 e) d = l at *
    simp only [Bool.false_eq_true, if_false]
    refine an_mk (p := p) (bl := ln) (s0 := s0) (L := l.length + ln) hM (ifb d) (by split <;> omega) hpos (by omega) (by omega) rfl ?_ ?_ ?_ ?_ hok
    · unfold fbC; rw [up3_g, if_pos ⟨rfl, rfl, rfl⟩]
    · unfold fbC; rw [up3_g, if_neg (by omega), row3_o (by omega)]; exact h.p.2
    · unfold fbC; rw [up3_g, if_neg (by omega), row3_o (by omega), aC_o (by decide) (by decide), f _ _ _ (by simp [mF])]; exact hC.sk4
    · intro j hj
      unfold fbC
      rw [up3_g, if_neg (by omega), row3_s, aC_44, aC_o (by decide) (by decide)]
      by_cases c : j < l.length
      · rw [if_pos c, pk_cpy_out (by omega)]
      · rw [if_neg c, pk_cpy_in (by omega) (by omega), f.row (k := 21) (fun j => by simp [mF]), him _ (by omega)]
/-- the model: whether it is the last, what is left out -/
theorem s14_tail {τ : St} {i s : Nat} {x5 x6 : Int32} {stays : Bool} {Q : St → Prop} (hs : s < 1000) (hst : (τ 14 0 43) = nI s)
    (hstay : x5 = 0 ∧ stays = false ∨ x5 ≠ 0 ∧ ((τ 14 0 45) = 0 ∧ stays = decide ((τ 14 0 46) = 0) ∨ (τ 14 0 45) ≠ 0 ∧ stays = decide ((τ 14 0 47) ≠ 0 ∧ (τ 14 0 46) = 0)))
    (hq : w14_make (if s = 400 ∨ s = 413 ∨ s = 501 then τ else up3 τ 15 i 38 ((τ 14 0 51))) i x6 (if decide (s = 400 ∨ s = 413 ∨ s = 500 ∨ s = 501) || !stays then 1 else 0) (fun s28 => mskip s28 i Q)) : w14_answer_J204 τ i x5 x6 Q := by
  have q : ∀ v : Nat, v < 1000 → (nI s = nI v ↔ s = v) := fun v hv => nI_eq (by omega) (by omega)
  have q1 := q 400 (by omega)
  have q2 := q 413 (by omega)
  have q3 := q 500 (by omega)
  have q4 := q 501 (by omega)
  -- the end
  have j332 : ∀ (σ : St) (last : Bool), σ = (if s = 400 ∨ s = 413 ∨ s = 501 then τ else up3 τ 15 i 38 ((τ 14 0 51))) → last = decide (s = 400 ∨ s = 413 ∨ s = 500 ∨ s = 501) → w14_answer_J332 σ i x6 (if last then 1 else 0) (if stays then 1 else 0) Q := by
    intro σ last hσ hlast
    rw [← hσ, ← hlast] at hq
    cases last with
    | true => exact br_v (by decide) hq
    | false =>
      refine br_u (by decide) ?_
      cases stays with
      | true => exact br_v (by decide) hq
      | false => exact br_u (by decide) hq
  have j292 : ∀ (last : Bool), last = decide (s = 400 ∨ s = 413 ∨ s = 500 ∨ s = 501) → w14_answer_J292 τ i x6 (if last then 1 else 0) (if stays then 1 else 0) Q := by
    intro last hlast
    unfold w14_answer_J292
    rw [hst]
    by_cases c1 : s = 400
    · exact br_t (q1.mpr c1) (j332 τ last (by rw [if_pos (Or.inl c1)]) hlast)
    refine br_f (fun z => c1 (q1.mp z)) ?_
    by_cases c2 : s = 413
    · exact br_t (q2.mpr c2) (j332 τ last (by rw [if_pos (Or.inr (Or.inl c2))]) hlast)
    refine br_f (fun z => c2 (q2.mp z)) ?_
    by_cases c3 : s = 501
    · exact br_t (q4.mpr c3) (j332 τ last (by rw [if_pos (Or.inr (Or.inr c3))]) hlast)
    refine br_f (fun z => c3 (q4.mp z)) (fun s32 e32 => j332 s32 last ?_ hlast)
    rw [if_neg (fun z => z.elim c1 (fun z => z.elim c2 c3)), e32]
  have j249 : ∀ (last : Bool), last = decide (s = 400 ∨ s = 413 ∨ s = 500 ∨ s = 501) → w14_answer_J249 τ i x5 x6 (if last then 1 else 0) Q := by
    intro last hlast
    have j := j292 last hlast
    rcases hstay with ⟨z1, z2⟩ | ⟨z1, z2⟩
    · rw [z2] at j
      exact br_t z1 j
    refine br_f z1 (fun _ => ?_)
    rcases z2 with ⟨y1, y2⟩ | ⟨y1, y2⟩
    · refine br_t y1 (fun _ => ?_)
      rw [y2] at j
      by_cases c : (τ 14 0 46) = 0
      · rw [decide_eq_true c] at j
        exact br_u c j
      · rw [decide_eq_false c] at j
        exact br_v c j
    · refine br_f y1 (fun _ => ?_)
      rw [y2] at j
      by_cases c : (τ 14 0 47) = 0
      · rw [decide_eq_false (fun z => z.1 c)] at j
        exact br_t c j
      · refine br_f c (fun _ => ?_)
        by_cases c2 : (τ 14 0 46) = 0
        · rw [decide_eq_true ⟨c, c2⟩] at j
          exact br_u c2 j
        · rw [decide_eq_false (fun z => c2 z.2)] at j
          exact br_v c2 j
  unfold w14_answer_J204
  rw [hst]
  by_cases c1 : s = 400
  · exact br_t (q1.mpr c1) (j249 true (decide_eq_true (Or.inl c1)).symm)
  refine br_f (fun z => c1 (q1.mp z)) ?_
  by_cases c2 : s = 413
  · exact br_t (q2.mpr c2) (j249 true (decide_eq_true (Or.inr (Or.inl c2))).symm)
  refine br_f (fun z => c2 (q2.mp z)) ?_
  by_cases c3 : s = 500
  · exact br_t (q3.mpr c3) (j249 true (decide_eq_true (Or.inr (Or.inr (Or.inl c3)))).symm)
  refine br_f (fun z => c3 (q3.mp z)) ?_
  by_cases c4 : s = 501
  · exact br_u (q4.mpr c4) (j249 true (decide_eq_true (Or.inr (Or.inr (Or.inr c4)))).symm)
  · exact br_v (fun z => c4 (q4.mp z)) (j249 false (decide_eq_false (fun z => z.elim c1 (fun z => z.elim c2 (fun z => z.elim c3 c4)))).symm)
