/-! datagram ~ taken -/
set_option maxRecDepth 100000
theorem j_tcp {σ τ : St} {t l b B k1 i1 pl n : Nat} {from_ : Int32} (ok : okS σ) (ok' : okS τ) (htt : t ≤ 100000000) (hZ : RZ σ τ t l b B) (hb : b + 264220 < 2147480000) (hB1 : 1 ≤ B) (hB9 : B < 900000000) (hk : k1 = 20 ∧ i1 = 0 ∨ k1 = 38 ∧ i1 < 4) (hl : pl + n ≤ alen σ k1 i1) (hp : pl < 70000) (hn : n ≤ 4096) (hd0 : ∀ j, j < n → σ k1 i1 (pl + j) = τ 64 0 j) (hf : from_ = (τ 14 0 30)) (hip : σ 0 0 12 = τ 14 0 5) {M : (St → Prop) → Prop} (hM : ∀ Q, w14_tcp τ (nI n) (fun s => Q s) → M Q) :
    w10_read σ k1 i1 (nI pl) (nI n) from_ (σ 0 0 12) (fun r1 σ1 => ((r1 = 0 → M (fun τ' => RZ σ1 τ' t l (b + 264220) (B + 66049))) ∧ (¬ r1 = 0 → (w0_take σ1 (fun σ2 => M (fun τ' => RZ σ2 τ' t l (b + 264220) (B + 66049))))))) := by
  have hs : τ 14 0 30 = from_ := hf.symm
  have same : ∀ τ', Fr (mF [] [] [(14, [32, 33, 34, 35, 36, 37, 38, 39, 40])] []) τ τ' → RZ σ τ' t l (b + 264220) (B + 66049) := fun τ' g => hZ.o ((hZ.nb.f (Fr.rf (M := mF [] [] [] [])) g).up (by omega)) (hZ.rk.f (Fr.rf (M := mF [] [] [] [])) g) (by omega) (Fr.rf (M := mF [] [] [] [])) g (hZ.st.f (Fr.rf (M := mF [] [] [] [])) g)
  by_cases c20 : n < 20
  · exact br_f (nI_ge (b := 20) (by omega) (by omega)) (br_t rfl (hM _ (br_f (nI_ge (b := 20) (by omega) (by omega)) (same τ Fr.rf))))
  obtain ⟨c, hc, ec⟩ := pk_andE (τ 64 0 12 >>> ((4 : Int32) &&& 31)) (m := 15) 4 (by decide)
  have ehd : ((τ 64 0 12 >>> ((4 : Int32) &&& 31)) &&& 15) * 4 = nI (c * 4) := by rw [ec]; exact pk_mul c 4
  obtain ⟨hd, ehd2⟩ : ∃ hd, hd = c * 4 := ⟨_, rfl⟩
  rw [← ehd2] at ehd
  have h60 : hd ≤ 60 := by omega
  have a12 : nI pl + 12 = nI (pl + 12) := nI_add pl 12
  have x12 : σ k1 i1 (pl + 12) = τ 64 0 12 := hd0 12 (by omega)
  have hbd := sB_le (τ 64 0) 0 n
  have hpd := psd_lt from_ (τ 14 0 5) n
  have mo : ∀ Q : St → Prop, ((nI hd < 20 → Q (up3 τ 14 0 40 (nI hd))) ∧ (¬ nI hd < 20 → ((nI n < nI hd → Q (up3 τ 14 0 40 (nI hd))) ∧ (¬ nI n < nI hd → ¬ ck (psd from_ (τ 14 0 5) n + sB (τ 64 0) 0 n) = 0 ∧ Q (up3 τ 14 0 40 (nI hd)))))) → M Q := by
    intro Q hq
    refine hM _ ?_
    refine br_t (nI_le (a := 20) (by omega) (by omega)) ⟨show vp_in (nI 12) 4096 from vin (by omega) (by omega), fun _ => ?_⟩
    show ∀ σ1, σ1 = up3 τ 14 0 40 (((τ 64 0 12 >>> ((4 : Int32) &&& 31)) &&& 15) * 4) → _
    rw [ehd]
    intro s1 e1
    have q1 : s1 14 0 40 = nI hd := by rw [e1, up3_g, if_pos ⟨rfl, rfl, rfl⟩]
    have F1 : Fr (mF [] [] [(14, [40])] []) τ s1 := by rw [e1]; exact fr_u rfl
    rw [q1]
    rw [← e1] at hq
    by_cases c1 : nI hd < 20
    · exact br_t c1 (hq.1 c1)
    refine br_f c1 ?_
    by_cases c2 : nI n < nI hd
    · exact br_t c2 ((hq.2 c1).1 c2)
    refine br_f c2 ?_
    obtain ⟨hc3, hq3⟩ := (hq.2 c1).2 c2
    show w14_added _ 64 0 0 (nI n) _ _
    rw [psd_l _ _ (by omega), F1 14 0 30 rfl, F1 14 0 5 rfl, hs]
    refine s14_added (k := 64) (i := 0) (a := 0) (by omega) (by omega) (by omega) (by show _ ≤ 4096; omega) ?_
    rw [F1.row (k := 64) (i := 0) (fun _ => rfl)]
    refine s14_sixteen (by omega) ?_
    have := ck_lt (psd from_ (τ 14 0 5) n + sB (τ 64 0) 0 n)
    exact br_f (nI_ne0 (by omega) (by omega)) hq3
  have sm1 : RZ σ (up3 τ 14 0 40 (nI hd)) t l (b + 264220) (B + 66049) := same _ (fr_u rfl)
  have co : ∀ Q : Int32 → St → Prop, ((nI hd < 20 → Q 0 σ) ∧ (¬ nI hd < 20 → ((nI hd ≤ nI n → ¬ ck (psd from_ (τ 14 0 5) n + sB (τ 64 0) 0 n) = 0 ∧ Q 0 σ) ∧ (¬ nI hd ≤ nI n → Q 0 σ)))) → w10_read σ k1 i1 (nI pl) (nI n) from_ (σ 0 0 12) Q := by
    intro Q hq
    refine br_t (nI_le (a := 20) (by omega) (by omega)) ?_
    rw [a12, cl (by omega), x12, ehd]
    refine ⟨vin (by omega) (by omega), fun _ => ?_⟩
    by_cases c1 : nI hd < 20
    · exact br_t c1 (hq.1 c1)
    refine br_f c1 ?_
    by_cases c2 : nI hd ≤ nI n
    rotate_left
    · exact br_f c2 ((hq.2 c1).2 c2)
    refine br_t c2 ?_
    obtain ⟨hc3, hq3⟩ := (hq.2 c1).1 c2
    rw [psd_i, hip]
    refine s19_added (by omega) (by omega) (by omega) hl ?_
    rw [show sB (σ k1 i1) pl n = sB (τ 64 0) 0 n from sB_ext (fun j hj => by rw [hd0 j hj, Nat.zero_add])]
    refine s19_folded (by omega) ?_
    have := ck_lt (psd from_ (τ 14 0 5) n + sB (τ 64 0) 0 n)
    exact br_f (nI_ne0 (by omega) (by omega)) hq3
  by_cases c1 : hd < 20
  · have z := nI_lt (b := 20) c1 (by omega)
    exact co _ ⟨fun _ => br_t rfl (mo _ ⟨fun _ => sm1, fun y => absurd z y⟩), fun y => absurd z y⟩
  have z1 : ¬ nI hd < 20 := nI_nlt (b := 20) (by omega) (by omega)
  by_cases c2 : n < hd
  · have z := nI_lt c2 (by omega)
    have z' := nI_ge c2 (by omega)
    exact co _ ⟨fun y => absurd y z1, fun _ => ⟨fun y => absurd y z', fun _ => br_t rfl (mo _ ⟨fun y => absurd y z1, fun _ => ⟨fun _ => sm1, fun y => absurd z y⟩⟩)⟩⟩
  have z2 : ¬ nI n < nI hd := nI_nlt (by omega) (by omega)
  have z2' : nI hd ≤ nI n := nI_le (by omega) (by omega)
  by_cases c3 : ck (psd from_ (τ 14 0 5) n + sB (τ 64 0) 0 n) = 0
  rotate_left
  · exact co _ ⟨fun y => absurd y z1, fun _ => ⟨fun _ => ⟨c3, br_t rfl (mo _ ⟨fun y => absurd y z1, fun _ => ⟨fun y => absurd y z2, fun _ => ⟨c3, sm1⟩⟩⟩)⟩, fun y => absurd z2' y⟩⟩
  obtain ⟨τ1, k1', G1, gR, gM⟩ := s14_head ok' hn (by omega) ehd (by omega) (by omega) (by rw [hs]; exact c3)
  refine s10_head (f := τ 64 0) ok hk hl (by omega) hn (by omega) hd0 ehd (by omega) h60 (by omega) (by rw [hip]; exact c3) (fun σ1 ks F1 fR => br_f (by decide) ?_)
  have rd : ∀ j, σ1 10 0 j = _ := fun j => by rw [fR]
  have rm : ∀ j, τ1 14 0 j = _ := fun j => by rw [gR]
  have w64 : τ1 64 0 = τ 64 0 := G1.row fun _ => rfl
  have al : ∀ s : St, alen s k1 i1 = alen σ k1 i1 := by
    intro s
    rcases hk with z | z <;> rw [z.1] <;> unfold alen <;> rw [if_neg (by decide), if_neg (by decide), if_neg (by decide), if_neg (by decide)]
  have hab : abc k1 i1 = true := by
    rcases hk with z | z
    · rw [z.1, z.2]; rfl
    · rw [z.1]
      have : i1 = 0 ∨ i1 = 1 ∨ i1 = 2 ∨ i1 = 3 := by omega
      rcases this with y | y | y | y <;> rw [y] <;> rfl
  have ar : σ1 k1 i1 = σ k1 i1 := F1.row (fun _ => by rcases hk with z | z <;> rw [z.1] <;> rfl)
  have v7 : (σ1 10 0 7).toNatClampNeg = k1 := by rw [rd]; simp only [vu_g, Nat.reduceEqDiff, reduceIte]; exact cl (by omega)
  have hZ1 : RZ σ1 τ1 t l b B := hZ.o (hZ.nb.f F1 G1) (hZ.rk.f F1 G1) (Nat.le_refl _) F1 G1 (hZ.st.f F1 G1) (x9 := Or.inr (by unfold SG; rw [v7]; omega))
  have hS : RS σ1 τ1 := by
    unfold RS
    rw [gR, fR]
    simp only [vu_g, Nat.reduceEqDiff, reduceIte]
    exact ⟨hf, trivial, trivial, trivial, trivial, trivial, trivial, trivial⟩
  have hG : SgI σ1 τ1 k1 i1 (pl + hd) (n - hd) hd (twoN (τ 64 0) 14) := by
    refine SgI.mk hS ⟨?_, v7, ?_, ?_, hab, by rw [al]; omega, by omega, by omega, by omega, by omega⟩ (by omega) ?_ (by omega) (fun j hj => ?_) ?_ (by have := twoN_lt (τ 64 0) 14; omega)
    · rw [rd]; simp only [vu_g, Nat.reduceEqDiff, reduceIte]
    · rw [rd]; simp only [vu_g, Nat.reduceEqDiff, reduceIte]; exact cl (by omega)
    · rw [rd]; simp only [vu_g, Nat.reduceEqDiff, reduceIte]
    · rw [rm]; simp only [vu_g, Nat.reduceEqDiff, reduceIte]
    · rw [ar, w64, Nat.add_assoc]; exact hd0 _ (by omega)
    · rw [rm]; simp only [vu_g, Nat.reduceEqDiff, reduceIte]; exact two_n _ _
  obtain ⟨o1, o2⟩ := omss_b (τ 64 0) hd 40 20
  have e40 : τ1 14 0 40 = nI hd := by rw [rm]; simp only [vu_g, Nat.reduceEqDiff, reduceIte]
  have jt := j_take (ms := omss (τ 64 0) hd 40 20) ks k1' htt hZ1 hb hB1 hB9 hG (by omega) (by rw [v7]; omega) (by rw [rd]; simp only [vu_g, Nat.reduceEqDiff, reduceIte]) o1 o2 (fun s Q a1 a2 hq => s14_optionMss (e := hd) (fun j => by rw [a2, w64]; exact ok_by ok' (tyk_a 64 2 (by decide) (by decide)) j) (by rw [a1]; exact e40) h60 (by omega) (by rw [a2, w64]; exact hq))
  obtain ⟨σ2, h2, _, _, g2⟩ := e0_take ks jt
  exact g2 _ (hM _ (gM _ h2))
theorem j_dat {σ τ : St} {t l b B k1 i1 pl n : Nat} {from_ pr : Int32} (ok : okS σ) (ok' : okS τ) (htt : t ≤ 100000000) (hZ : RZ σ τ t l b B) (hb : b + 264220 < 2147480000) (hB1 : 1 ≤ B) (hB9 : B < 900000000) (hk : k1 = 20 ∧ i1 = 0 ∨ k1 = 38 ∧ i1 < 4) (hl : pl + n ≤ alen σ k1 i1) (hp : pl < 70000) (hn : n ≤ 4096) (hd0 : ∀ j, j < n → σ k1 i1 (pl + j) = τ 64 0 j) (hf : from_ = (τ 14 0 30)) (hip : σ 0 0 12 = τ 14 0 5) :
    w0_datagram σ k1 i1 (nI pl) (nI n) from_ pr (fun σ' => w14_taken τ pr (nI n) (fun τ' => RZ σ' τ' t l (b + 264220) (B + 66049))) := by
  have same : RZ σ τ t l (b + 264220) (B + 66049) := hZ.o (hZ.nb.up (by omega)) hZ.rk (by omega) (Fr.rf (M := mF [] [] [] [])) (Fr.rf (M := mF [] [] [] [])) hZ.st
  by_cases c1 : pr = 1
  · refine br_u c1 ?_
    have hab : abc k1 i1 = true := by
      rcases hk with z | z
      · rw [z.1, z.2]; rfl
      · rw [z.1]
        have : i1 = 0 ∨ i1 = 1 ∨ i1 = 2 ∨ i1 = 3 := by omega
        rcases this with y | y | y | y <;> rw [y] <;> rfl
    obtain ⟨σ1, τ1, g1, g2, k1', k2', f1, f2, hN1⟩ := R_echo ok ok' hZ.nb (by omega) hab (by omega) (by omega) (by omega) hl hf hd0
    exact g1 _ (br_u c1 (g2 _ (hZ.o (hN1.up (by omega)) (hZ.rk.f f1 f2) (by omega) f1 f2 (hZ.st.f f1 f2))))
  refine br_v c1 ?_
  by_cases c6 : pr = 6
  rotate_left
  · exact br_v c6 (br_v c1 (br_v c6 same))
  refine br_u c6 ?_
  exact j_tcp ok ok' htt hZ hb hB1 hB9 hk hl hp hn hd0 hf hip (M := fun Q => w14_taken τ pr (nI n) Q) (fun Q hq => br_v c1 (br_u c6 hq))
