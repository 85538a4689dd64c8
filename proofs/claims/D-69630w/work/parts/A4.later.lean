/-! later, ahead of all that is due -/
set_option maxRecDepth 100000
theorem RCn.t {σ τ : St} {t t' i : Nat} {c : CK} (h : RCn σ τ t i c) (ht : t ≤ t') (h9 : t' ≤ 2000000000) (hd : (σ 11 i 29) ≠ 0 → nI t' ≤ (σ 11 i 30)) : RCn σ τ t' i c := by
  have n1 : (σ 11 i 29) ≠ 0 → ∃ tm : Nat, (σ 11 i 30) = nI tm ∧ (τ 15 i 22) = nI tm ∧ t' ≤ tm ∧ tm ≤ t' + 60000 := fun z => by
    obtain ⟨tm, a1, a2, a3, a4⟩ := h.etm z
    have y := hd z
    rw [a1] at y
    exact ⟨tm, a1, a2, (nI_leI (by omega) (by omega)).mp y, by omega⟩
  have n2 : ∃ ts : Nat, (σ 11 i 37) = nI ts ∧ (τ 15 i 20) = nI ts ∧ ts ≤ t' := by
    obtain ⟨ts, a1, a2, a3⟩ := h.ets
    exact ⟨ts, a1, a2, by omega⟩
  have n3 : (σ 11 i 35) ≠ 0 → ∃ sr sp : Nat, (σ 11 i 38) = nI sr ∧ (τ 15 i 14) = nI sr ∧ (σ 11 i 39) = nI sp ∧ (τ 15 i 15) = nI sp ∧ sr ≤ t' ∧ sp ≤ t' := fun z => by
    obtain ⟨sr, sp, a1, a2, a3, a4, a5, a6⟩ := h.esr z
    exact ⟨sr, sp, a1, a2, a3, a4, by omega, by omega⟩
  have n4 : 2 ≤ (c 0) → ∃ ac : Nat, (σ 11 i 32) = nI ac ∧ (τ 15 i 44) = nI ac ∧ ac ≤ t' := fun z => by
    obtain ⟨ac, a1, a2, a3⟩ := h.eac z
    exact ⟨ac, a1, a2, by omega⟩
  obtain ⟨est, est', s1, s8, eip, ept, eiss, enx, ews, ewa, eun, eun', eat, eat', emx, emx', eba, eba', ua, ax, xe, syn, sy2, bu, bb, ewn, ewn', wn6, ems, ems', ms1, ms2, ecw, ecw', cw1, cw2, ess, ess', ss1, ss2, ert, ert', rt1, rt2, etr, etr', tr8, edu, erc, ehd, ehd', hd4, eft, etd, etd', td4, esk, esk', sk6, eow, efc, efn, eL, ehl, ebl, hL, bml, bmb, bmL, h5, epl, pl6, eab, eal, L6, ed, ed', d1, ef, ef', f1, fst, fin, eto, etm, tin, eti, etn, ets, eme, esr, eac, erow, ethr⟩ := id (h)
  apply RCn.mk <;> assumption
theorem RCl.t {σ τ : St} {t t' i : Nat} {c : CK} (h : RCl σ τ t i c) (ht : t ≤ t') (h9 : t' ≤ 2000000000) (hd : (σ 11 i 33) ≠ 0 → nI t' ≤ (σ 11 i 31)) : RCl σ τ t' i c := by
  refine RCl.mk h.l2 (fun a b => ?_) (fun a => ?_) h.l0 h.ltd
  · obtain ⟨ac, a1, a2, a3, a4⟩ := h.l2' a b
    have y := hd b
    rw [a2] at y
    exact ⟨ac, a1, a2, (nI_leI (by omega) (by omega)).mp y, by omega⟩
  · obtain ⟨b, sn, a1, a2, a3, a4⟩ := h.l4 a
    have y := hd b
    rw [a2] at y
    exact ⟨b, sn, a1, a2, by omega, (nI_leI (by omega) (by omega)).mp y⟩
/-- nothing is due ahead of d -/
def DG (σ : St) (d : Int32) : Prop := (∀ k w : Nat, (σ 3 0 9) = nI w → w ≤ 8 → k < w → d ≤ wdue σ k) ∧ (∀ k z : Nat, (σ 6 0 1) = nI z → z ≤ 4 → k < z → d ≤ (σ 7 (frw σ k) 3) + 15000) ∧ (∀ i, i < 16 → (σ 11 i 29) ≠ 0 → d ≤ (σ 11 i 30)) ∧ (∀ i, i < 16 → (σ 11 i 33) ≠ 0 → d ≤ (σ 11 i 31))
theorem DG.hp {σ : St} {d : Int32} (h : DG σ d) : ∀ k w : Nat, (σ 3 0 9) = nI w → w ≤ 8 → k < w → d ≤ wdue σ k := h.1
theorem DG.fg {σ : St} {d : Int32} (h : DG σ d) : ∀ k z : Nat, (σ 6 0 1) = nI z → z ≤ 4 → k < z → d ≤ (σ 7 (frw σ k) 3) + 15000 := h.2.1
theorem DG.tm {σ : St} {d : Int32} (h : DG σ d) : ∀ i, i < 16 → (σ 11 i 29) ≠ 0 → d ≤ (σ 11 i 30) := h.2.2.1
theorem DG.lf {σ : St} {d : Int32} (h : DG σ d) : ∀ i, i < 16 → (σ 11 i 33) ≠ 0 → d ≤ (σ 11 i 31) := h.2.2.2
theorem DG.mk {σ : St} {d : Int32} (hp : ∀ k w : Nat, (σ 3 0 9) = nI w → w ≤ 8 → k < w → d ≤ wdue σ k) (fg : ∀ k z : Nat, (σ 6 0 1) = nI z → z ≤ 4 → k < z → d ≤ (σ 7 (frw σ k) 3) + 15000) (tm : ∀ i, i < 16 → (σ 11 i 29) ≠ 0 → d ≤ (σ 11 i 30)) (lf : ∀ i, i < 16 → (σ 11 i 33) ≠ 0 → d ≤ (σ 11 i 31)) : DG σ d := ⟨hp, fg, tm, lf⟩
theorem RWx.t {σ τ σ' τ' : St} {t t' o w : Nat} {q r : Nat → Nat} (h : RWx σ τ t o w q r) (ht : t ≤ t') (h9 : t' ≤ 2000000000) (hd : ∀ k w : Nat, (σ 3 0 9) = nI w → w ≤ 8 → k < w → nI t' ≤ wdue σ k) (f : Fr (mF [] [] [(2, [4])] []) σ σ') (g : Fr (mF [] [] [(14, [10])] []) τ τ') : RWx σ' τ' t' o w q r := by
  obtain ⟨h1, h2, h3, h4, h5, h6, h7, h8⟩ := h
  have k1 : RWx σ τ t' o w q r := by
    refine ⟨h1, h2, h3, h4, fun k hk => ?_, h6, h7, h8⟩
    obtain ⟨a1, a2, a3, a4, b1, b2, b3, b4, u, a, l, c1, c2, c3, c4, c5, c6, c7, c8, c9⟩ := h5 k hk
    refine ⟨a1, a2, a3, a4, b1, b2, b3, b4, u, a, l, c1, c2, c3, c4, c5, c6, by omega, ?_, c9⟩
    have y := hd k w h2 h1 hk
    unfold wdue at y
    rw [b2, b3, c1, c2, show (1000 : Int32) * nI a = nI (1000 * a) from pk_mul 1000 a, nI_add] at y
    exact (nI_leI (by omega) (by omega)).mp y
  have e1 : (σ' 3 0 9) = (σ 3 0 9) := f _ _ _ rfl
  have e2 : σ' 31 0 = σ 31 0 := f.row fun _ => rfl
  have e3 : σ' 4 = σ 4 := f.kind fun _ _ => rfl
  have e4 : σ' 35 = σ 35 := f.kind fun _ _ => rfl
  have e5 : (τ' 14 0 25) = (τ 14 0 25) := g _ _ _ rfl
  have e6 : τ' 17 = τ 17 := g.kind fun _ _ => rfl
  have e7 : τ' 68 = τ 68 := g.kind fun _ _ => rfl
  unfold RWx wpair hrw at k1 ⊢
  rw [e1, e2, e3, e4, e5, e6, e7]
  exact k1
theorem RN.t {σ τ σ' τ' : St} {t t' s o : Nat} (h : RN σ τ t s o) (ht : t ≤ t') (h9 : t' ≤ 2000000000) (hd : ∀ k w : Nat, (σ 3 0 9) = nI w → w ≤ 8 → k < w → nI t' ≤ wdue σ k) (f : Fr (mF [] [] [(2, [4])] []) σ σ') (g : Fr (mF [] [] [(14, [10])] []) τ τ') (n1 : (σ' 2 0 4) = nI t') (n2 : (τ' 14 0 10) = nI t') : RN σ' τ' t' s o := by
  obtain ⟨hM, hV, hH, hW, hA, hP⟩ := h
  have e23 : σ' 23 = σ 23 := f.kind fun _ _ => rfl
  have e25 : σ' 25 0 = σ 25 0 := f.row fun _ => rfl
  have e26 : σ' 26 0 = σ 26 0 := f.row fun _ => rfl
  have e58 : τ' 58 0 = τ 58 0 := g.row fun _ => rfl
  have e59 : τ' 59 0 = τ 59 0 := g.row fun _ => rfl
  have e60 : τ' 60 0 = τ 60 0 := g.row fun _ => rfl
  refine ⟨hM.c (f _ _ _ rfl) (f _ _ _ rfl) (f _ _ _ rfl) (f _ _ _ rfl) (f _ _ _ rfl) (f _ _ _ rfl) (f.row fun _ => rfl) (g _ _ _ rfl) (g _ _ _ rfl) (g _ _ _ rfl) (g _ _ _ rfl) (g _ _ _ rfl), ?_, hH.c (f _ _ _ rfl) (f.row fun _ => rfl) (f.row fun _ => rfl) (f.row fun _ => rfl) (g.kind fun _ _ => rfl), ?_, hA.c (f.row fun _ => rfl) (f.row fun _ => rfl), hP.c (f.row fun _ => rfl)⟩
  · obtain ⟨v1, v2, v3, v4, v5⟩ := hV
    refine ⟨n1, n2, (f _ _ _ rfl).trans v3, (g _ _ _ rfl).trans v4, ?_⟩
    rw [e23, e25, e26, e58, e59, e60]
    exact v5
  · obtain ⟨w, q, r, hX⟩ := hW.x
    obtain ⟨w1, w2, w3, w4, w5⟩ := hX.t ht h9 hd f g
    exact ⟨w, w1, w2, w3, w4, q, r, w5⟩
theorem NB.t {σ τ σ' τ' : St} {t t' l b : Nat} (h : NB σ τ t l b) (ht : t ≤ t') (h9 : t' ≤ 2000000000) (hd : ∀ k w : Nat, (σ 3 0 9) = nI w → w ≤ 8 → k < w → nI t' ≤ wdue σ k) (f : Fr (mF [] [] [(2, [4])] []) σ σ') (g : Fr (mF [] [] [(14, [10])] []) τ τ') (n1 : (σ' 2 0 4) = nI t') (n2 : (τ' 14 0 10) = nI t') : NB σ' τ' t' l b := by
  obtain ⟨s, o, hR, h2, h3, hl, h4, h5, h6⟩ := h
  refine ⟨s, o, hR.t ht h9 hd f g n1 n2, ?_, ?_, hl, h4, ?_, h9⟩
  · rw [f _ _ _ rfl, g _ _ _ rfl]; exact h2
  · rw [WS_c (g.kind fun _ _ => rfl)]; exact h3
  · rw [g _ _ _ rfl]; exact h5
theorem RFx.t {σ τ : St} {t t' l z : Nat} {q r : Nat → Nat} (h : RFx σ τ t l z q r) (ht : t ≤ t') (h9 : t' ≤ 2000000000) (hd : ∀ k z : Nat, (σ 6 0 1) = nI z → z ≤ 4 → k < z → nI t' ≤ (σ 7 (frw σ k) 3) + 15000) : RFx σ τ t' l z q r := by
  obtain ⟨h1, h2, h3, h4, h5⟩ := h
  refine ⟨h1, h2, h3, fun k hk => ?_, h5⟩
  obtain ⟨a1, a2, a3, a4, b1, b2, b3, b4, b5, b6, b7, u, rr, c1, c2, c3, c4⟩ := h4 k hk
  refine ⟨a1, a2, a3, a4, b1, b2, b3, b4, b5, b6, b7, u, rr, c1, by omega, ?_, c4⟩
  have y := hd k z h2 h1 hk
  rw [b4, c1, show nI u + 15000 = nI (u + 15000) from nI_add u 15000] at y
  exact (nI_leI (by omega) (by omega)).mp y
theorem RF.t {σ τ : St} {t t' l : Nat} (h : RF σ τ t l) (ht : t ≤ t') (h9 : t' ≤ 2000000000) (hd : ∀ k z : Nat, (σ 6 0 1) = nI z → z ≤ 4 → k < z → nI t' ≤ (σ 7 (frw σ k) 3) + 15000) : RF σ τ t' l := by
  obtain ⟨z, q, r, h⟩ := h
  exact ⟨z, q, r, h.t ht h9 hd⟩
theorem RZ.t {σ τ σ' τ' : St} {t t' l b B : Nat} (h : RZ σ τ t l b B) (ht : t ≤ t') (h9 : t' ≤ 2000000000) (hd : DG σ (nI t')) (f : Fr (mF [] [] [(2, [4])] []) σ σ') (g : Fr (mF [] [] [(14, [10])] []) τ τ') (n1 : (σ' 2 0 4) = nI t') (n2 : (τ' 14 0 10) = nI t') : RZ σ' τ' t' l b B := by
  refine RZ.mk (h.nb.t ht h9 hd.hp f g n1 n2) (h.rk.f f g) (by rw [f.row (k := 40) fun _ => rfl, g.row (k := 66) fun _ => rfl]; exact h.hd) (by rw [f _ _ _ rfl, g _ _ _ rfl]; exact h.bg) (h.st.f f g) (fun i hi => ?_) (fun i hi => by rw [f _ _ _ rfl]; exact h.rm i hi) (fun i j hi hj hne => ?_) (h.sg.f f (Or.inl rfl))
  · refine pl_f ?_ (Nat.le_refl _) f g (fun k j z => by rcases z with z | z | z | z | z | z <;> rw [z] <;> rfl) rfl (fun k j z => by rcases z with z | z | z | z <;> rw [z] <;> rfl) (fun _ => rfl)
    rcases h.pl i hi with z | ⟨c, z1, z2, z3⟩
    · exact Or.inl z
    · exact Or.inr ⟨c, z1.t ht h9 (hd.tm i hi), z2.t ht h9 (hd.lf i hi), z3⟩
  · rw [f.row (k := 11) fun _ => rfl, f.row (k := 11) fun _ => rfl]; exact h.uq i j hi hj hne
