/-! the relation between the calls; pass and arrive -/
set_option maxRecDepth 100000
/-- what a boot rests on -/
def PB (σ τ : St) : Prop := (RPm σ) ∧ (RPf σ) ∧ (RA σ) ∧ (∀ i, i < 16 → (σ 42 i) = (τ 72 i) ∧ (σ 43 i) = (τ 73 i) ∧ ∃ p : Nat, (τ 15 i 27) = nI p ∧ p ≤ 65535) ∧ (∀ i, i < 16 → (σ 90 (i + 1) 0 = 0 ∨ σ 90 (i + 1) 0 = 66047)) ∧ (σ 40 0 = τ 66 0) ∧ (SG σ)
theorem PB.pm {σ τ : St} (h : PB σ τ) : RPm σ := h.1
theorem PB.pf {σ τ : St} (h : PB σ τ) : RPf σ := h.2.1
theorem PB.ra {σ τ : St} (h : PB σ τ) : RA σ := h.2.2.1
theorem PB.ro {σ τ : St} (h : PB σ τ) : ∀ i, i < 16 → (σ 42 i) = (τ 72 i) ∧ (σ 43 i) = (τ 73 i) ∧ ∃ p : Nat, (τ 15 i 27) = nI p ∧ p ≤ 65535 := h.2.2.2.1
theorem PB.rm {σ τ : St} (h : PB σ τ) : ∀ i, i < 16 → (σ 90 (i + 1) 0 = 0 ∨ σ 90 (i + 1) 0 = 66047) := h.2.2.2.2.1
theorem PB.hd {σ τ : St} (h : PB σ τ) : σ 40 0 = τ 66 0 := h.2.2.2.2.2.1
theorem PB.sg {σ τ : St} (h : PB σ τ) : SG σ := h.2.2.2.2.2.2
theorem PB.mk {σ τ : St} (pm : RPm σ) (pf : RPf σ) (ra : RA σ) (ro : ∀ i, i < 16 → (σ 42 i) = (τ 72 i) ∧ (σ 43 i) = (τ 73 i) ∧ ∃ p : Nat, (τ 15 i 27) = nI p ∧ p ≤ 65535) (rm : ∀ i, i < 16 → (σ 90 (i + 1) 0 = 0 ∨ σ 90 (i + 1) 0 = 66047)) (hd : σ 40 0 = τ 66 0) (sg : SG σ) : PB σ τ := ⟨pm, pf, ra, ro, rm, hd, sg⟩
theorem PB.f {σ τ σ' τ' : St} {A B : Nat → Nat → Nat → Bool} (h : PB σ τ) (f : Fr A σ σ') (g : Fr B τ τ') (a1 : ∀ j, A 31 0 j = false := by intro _; rfl) (a2 : ∀ j, A 37 0 j = false := by intro _; rfl) (a3 : ∀ j, A 33 0 j = false := by intro _; rfl) (a4 : ∀ j, A 34 0 j = false := by intro _; rfl) (a5 : ∀ i j, A 42 i j = false := by intro _ _; rfl) (a6 : ∀ i j, A 43 i j = false := by intro _ _; rfl) (a7 : ∀ i, A 90 (i + 1) 0 = false := by intro _; rfl) (a8 : ∀ j, A 40 0 j = false := by intro _; rfl) (a9 : A 10 0 7 = false := by rfl) (b1 : ∀ i, B 15 i 27 = false := by intro _; rfl) (b2 : ∀ i j, B 72 i j = false := by intro _ _; rfl) (b3 : ∀ i j, B 73 i j = false := by intro _ _; rfl) (b4 : ∀ j, B 66 0 j = false := by intro _; rfl) : PB σ' τ' := by
  refine PB.mk (h.pm.c (f.row a1)) (h.pf.c (f.row a2)) (h.ra.c (f.row a3) (f.row a4)) (fun i hi => ?_) (fun i hi => by rw [f _ _ _ (a7 i)]; exact h.rm i hi) (by rw [f.row a8, g.row b4]; exact h.hd) (h.sg.f f (Or.inl a9))
  rw [f.row (a5 i), f.row (a6 i), g.row (b2 i), g.row (b3 i), g _ _ _ (b1 i)]
  exact h.ro i hi
theorem PB.of {σ τ : St} {t l b B : Nat} (hZ : RZ σ τ t l b B) (hF : RF σ τ t l) : PB σ τ := by
  obtain ⟨s, o, hR, _⟩ := hZ.nb
  obtain ⟨z, q, r, hX⟩ := hF
  refine PB.mk hR.2.2.2.2.2 hX.2.2.2.2.2.2.2 hR.2.2.2.2.1 (fun i hi => ?_) hZ.rm hZ.hd hZ.sg
  rcases hZ.pl i hi with h | ⟨c, h, _, _⟩
  · exact ⟨h.2.2.2.2.2.1, h.2.2.2.2.2.2.1, h.2.2.2.2.2.2.2⟩
  · exact ⟨h.erow, h.ethr, (c 7), h.epl, by have := h.pl6; omega⟩
/-- while it is booted -/
def BT (n : Nat) (σ τ : St) : Prop := ∃ t l b B : Nat, t ≤ 600000 * n ∧ b ≤ 270000 * n ∧ 1 ≤ B ∧ B ≤ 66050 * n ∧ RZ σ τ t l b B ∧ RF σ τ t l
def GR (n : Nat) (σ τ : St) : Prop := (RT σ τ) ∧ (RG σ τ) ∧ (σ 1 0 3 = nI 22) ∧ (σ 1 0 103 = nI 0) ∧ (PB σ τ) ∧ ((σ 0 0 11) = (τ 14 0 4)) ∧ ((τ 14 0 18) = 0) ∧ ((σ 0 0 11) ≠ 0 → BT n σ τ)
theorem GR.rt {n : Nat} {σ τ : St} (h : GR n σ τ) : RT σ τ := h.1
theorem GR.rg {n : Nat} {σ τ : St} (h : GR n σ τ) : RG σ τ := h.2.1
theorem GR.r1 {n : Nat} {σ τ : St} (h : GR n σ τ) : σ 1 0 3 = nI 22 := h.2.2.1
theorem GR.r2 {n : Nat} {σ τ : St} (h : GR n σ τ) : σ 1 0 103 = nI 0 := h.2.2.2.1
theorem GR.pb {n : Nat} {σ τ : St} (h : GR n σ τ) : PB σ τ := h.2.2.2.2.1
theorem GR.bo {n : Nat} {σ τ : St} (h : GR n σ τ) : (σ 0 0 11) = (τ 14 0 4) := h.2.2.2.2.2.1
theorem GR.sy {n : Nat} {σ τ : St} (h : GR n σ τ) : (τ 14 0 18) = 0 := h.2.2.2.2.2.2.1
theorem GR.bt {n : Nat} {σ τ : St} (h : GR n σ τ) : (σ 0 0 11) ≠ 0 → BT n σ τ := h.2.2.2.2.2.2.2
theorem GR.mk {n : Nat} {σ τ : St} (rt : RT σ τ) (rg : RG σ τ) (r1 : σ 1 0 3 = nI 22) (r2 : σ 1 0 103 = nI 0) (pb : PB σ τ) (bo : (σ 0 0 11) = (τ 14 0 4)) (sy : (τ 14 0 18) = 0) (bt : (σ 0 0 11) ≠ 0 → BT n σ τ) : GR n σ τ := ⟨rt, rg, r1, r2, pb, bo, sy, bt⟩
theorem GR.up {n : Nat} {σ τ : St} (h : GR n σ τ) : GR (n + 1) σ τ := by
  refine GR.mk h.rt h.rg h.r1 h.r2 h.pb h.bo h.sy (fun z => ?_)
  obtain ⟨t, l, b, B, h1, h2, h3, h4, h5⟩ := h.bt z
  exact ⟨t, l, b, B, by omega, by omega, h3, by omega, h5⟩
theorem GR.of {n t l b B : Nat} {σ τ : St} (hZ : RZ σ τ t l b B) (hF : RF σ τ t l) (hT : RT σ τ) (hbo : (σ 0 0 11) = (τ 14 0 4)) (h1 : t ≤ 600000 * n) (h2 : b ≤ 270000 * n) (h3 : 1 ≤ B) (h4 : B ≤ 66050 * n) : GR n σ τ := by
  have hs : (τ 14 0 18) = 0 := by
    obtain ⟨s, o, _, _, _, _, _, h, _⟩ := hZ.nb
    exact h
  exact GR.mk hT hZ.st.1 hZ.st.2.2.1 hZ.st.2.2.2 (PB.of hZ hF) hbo hs (fun _ => ⟨t, l, b, B, h1, h2, h3, h4, hZ, hF⟩)
theorem refuse {n : Nat} {σ τ : St} {x : Int32} (hn : n ≤ 64) (h : GR n σ τ) : (∃ r : Int32, ¬ 0 ≤ r ∧ (∀ Q : Int32 → Prop, Q r → w0_refusal σ x Q) ∧ (∀ Q : Int32 → Prop, Q r → w14_refused τ x Q)) ∨ (∃ (t l b B X : Nat), x = nI X ∧ t ≤ X ∧ X ≤ t + 600000 ∧ (∀ Q : Int32 → Prop, Q 0 → w0_refusal σ x Q) ∧ (∀ Q : Int32 → Prop, Q 0 → w14_refused τ x Q) ∧ t ≤ 600000 * n ∧ b ≤ 270000 * n ∧ 1 ≤ B ∧ B ≤ 66050 * n ∧ RZ σ τ t l b B ∧ RF σ τ t l) := by
  have hbo := h.bo
  by_cases c0 : (σ 0 0 11) = 0
  · have c0' : (τ 14 0 4) = 0 := by rw [← hbo]; exact c0
    exact Or.inl ⟨-1, by decide, fun Q hq _ => br_u c0 hq, fun Q hq _ => br_u c0' hq⟩
  have c0' : ¬ (τ 14 0 4) = 0 := by rw [← hbo]; exact c0
  obtain ⟨t, l, b, B, h1, h2, h3, h4, hZ, hF⟩ := h.bt c0
  obtain ⟨s, o, hR, _⟩ := id hZ.nb
  have now1 : σ 2 0 4 = nI t := hR.2.1.1
  have now2 : τ 14 0 10 = nI t := hR.2.1.2.1
  by_cases c1 : x < nI t
  · exact Or.inl ⟨-2, by decide, fun Q hq _ => br_v c0 (br_t (by rw [now1]; exact c1) hq), fun Q hq _ => br_v c0' (br_t (by rw [now2]; exact c1) hq)⟩
  have x0 : ¬ x < 0 := fun z => c1 (Int32.lt_of_lt_of_le z (nI_le (a := 0) (by omega) (by omega)))
  obtain ⟨X, hX, rfl⟩ := nI_of x0
  have htX : t ≤ X := Nat.le_of_not_lt fun z => c1 (nI_lt z (by omega))
  have es : nI X - nI t = nI (X - t) := pk_sub htX
  have e6 : (600000 : Int32) < nI (X - t) ↔ 600000 < X - t := by
    constructor
    · intro z
      exact Nat.lt_of_not_le fun y => nI_nlt (a := 600000) y (by omega) z
    · intro z; exact nI_lt (a := 600000) z (by omega)
  have e6' : nI (X - t) ≤ (600000 : Int32) ↔ X - t ≤ 600000 := nI_leI (b := 600000) (by omega) (by omega)
  by_cases c2 : 600000 < X - t
  · refine Or.inl ⟨-2, by decide, fun Q hq _ => br_v c0 (br_f (by rw [now1]; exact c1) (br_t (by rw [now1, es]; exact e6.mpr c2) hq)), fun Q hq _ => br_v c0' (br_f (by rw [now2]; exact c1) ?_)⟩
    by_cases c3 : (2000000000 : Int32) < nI X
    · exact br_t c3 hq
    · exact br_f c3 (br_f (by rw [now2, es]; exact fun z => by have := e6'.mp z; omega) hq)
  refine Or.inr ⟨t, l, b, B, X, rfl, htX, by omega, fun Q hq _ => br_v c0 (br_f (by rw [now1]; exact c1) (br_f (by rw [now1, es]; exact fun z => c2 (e6.mp z)) (br_t (nI_le (b := 2000000000) (by omega) (by omega)) hq))), fun Q hq _ => br_v c0' (br_f (by rw [now2]; exact c1) (br_f (nI_nlt (a := 2000000000) (by omega) (by omega)) (br_t (by rw [now2, es]; exact e6'.mpr (by omega)) hq))), h1, h2, h3, h4, hZ, hF⟩
theorem sent_e {σ τ : St} {t l b B : Nat} (hZ : RZ σ τ t l b B) : σ 2 0 3 = τ 14 0 23 := by
  obtain ⟨s, o, hR, _⟩ := hZ.nb
  rw [show σ 2 0 3 = nI s from hR.2.1.2.2.1, show τ 14 0 23 = nI s from hR.2.1.2.2.2.1]
/-- pass, with the frames -/
theorem R_pass2 {σ τ : St} {t l b B T : Nat} (ok : okS σ) (ok' : okS τ) (hT : T ≤ 100000000) (htT : t ≤ T) (hZ : RZ σ τ t l b B) (hF : RF σ τ t l) (hb : b + 800 < 2147400000) : ∃ σ' τ' : St, (∀ Q : St → Prop, Q σ' → w0_goOn σ (nI T) Q) ∧ (∀ Q : St → Prop, Q τ' → w14_passTo τ (nI T) Q) ∧ okS σ' ∧ okS τ' ∧ YP T (b + 720) B σ' τ' ∧ Fr (mF [23, 25, 26, 31, 32, 35, 36, 37] [] [(11, [2, 10, 11, 14, 15, 16, 17, 18, 19, 21, 22, 27, 28, 29, 30, 33, 34, 36, 37]), (2, [3, 4]), (3, [9]), (4, [0, 1, 2, 4]), (5, [2]), (6, [1]), (8, [3, 4])] []) σ σ' ∧ Fr (mF [56, 57, 58, 59, 60, 68] [] [(14, [10, 18, 23, 24, 25]), (15, [0, 5, 6, 11, 12, 13, 17, 18, 19, 20, 21, 22, 23, 24, 30, 31, 37, 39]), (17, [0, 1, 2, 3, 4, 5]), (18, [0])] []) τ τ' := by
  obtain ⟨σ', τ', g1, g2, k1, k2, h⟩ := R_pass ok ok' hT htT hZ hF hb
  obtain ⟨s1, e1, _, f1, _⟩ := e0_goOn ok (g1 (fun s => s = σ') rfl)
  obtain ⟨s2, e2, _, f2, _⟩ := e14_passTo ok' (g2 (fun s => s = τ') rfl)
  subst e1
  subst e2
  exact ⟨s1, s2, g1, g2, k1, k2, h, f1, f2⟩
theorem j_pass {n : Nat} {σ τ : St} (ok : okS σ) (ok' : okS τ) (hn : n < 64) (h : GR n σ τ) (x : Int32) : w0_pass σ x (fun r σ' => w14_pass τ x (fun r' τ' => r = r' ∧ GR (n + 1) σ' τ')) := by
  rcases refuse (x := x) (by omega) h with ⟨r, h1, h2, h3⟩ | ⟨t, l, b, B, X, rfl, b1, b2, h2, h3, b3, b4, b5, b6, hZ, hF⟩
  · exact h2 _ (br_f h1 (h3 _ (br_f h1 ⟨rfl, h.up⟩)))
  obtain ⟨σ', τ', g1, g2, k1, k2, ⟨l', z1, z2⟩, f1, f2⟩ := R_pass2 ok ok' (by omega) b1 hZ hF (by omega)
  refine h2 _ (br_t (by decide) (g1 _ (h3 _ (br_t (by decide) (g2 _ ⟨?_, ?_⟩)))))
  · rw [sent_e z1, sent_e hZ]
  · exact GR.of z1 z2 (h.rt.c (f1 _ _ _ rfl) (f1.row fun _ => rfl) (f2 _ _ _ rfl) (f2.row fun _ => rfl)) (by rw [f1 _ _ _ rfl, f2 _ _ _ rfl]; exact h.bo) (by omega) (by omega) b5 (by omega)
theorem j_arrive {n : Nat} {σ τ : St} (ok : okS σ) (ok' : okS τ) (hn : n < 64) (h : GR n σ τ) (x : Int32) : w0_arrive σ x (fun r σ' => w14_arrive τ x (fun r' τ' => r = r' ∧ GR (n + 1) σ' τ')) := by
  rcases refuse (x := x) (by omega) h with ⟨r, h1, h2, h3⟩ | ⟨t, l, b, B, X, rfl, b1, b2, h2, h3, b3, b4, b5, b6, hZ, hF⟩
  · exact h2 _ (br_f h1 (h3 _ (br_f h1 ⟨rfl, h.up⟩)))
  refine h2 _ (br_t (by decide) ?_)
  obtain ⟨N, hN, t1, t2, t3⟩ := id h.rt
  have t1' : σ 0 0 1 = nI N := t1
  have t2' : τ 14 0 1 = nI N := t2
  rw [t1']
  have m1 : ∀ Q : Int32 → St → Prop, _ → w14_arrive τ (nI X) Q := fun Q hq => h3 _ (br_t (by decide) hq)
  rw [t2'] at m1
  by_cases c1 : N = 0
  · have z : nI N = 0 := by rw [c1]; rfl
    exact br_t z (m1 _ (br_t z ⟨rfl, h.up⟩))
  have z1 : ¬ nI N = 0 := nI_ne0 (by omega) (by omega)
  refine br_f z1 ?_
  by_cases c2 : N ≤ 1514
  rotate_left
  · have z : ¬ nI N ≤ 1514 := nI_ge (b := N) (a := 1514) (by omega) (by omega)
    exact br_f z (m1 _ (br_f z1 (br_f z ⟨rfl, h.up⟩)))
  have z2 : nI N ≤ 1514 := nI_le (b := 1514) c2 (by omega)
  obtain ⟨σ2, τ2, g1, g2, k1, k2, ⟨l2, y1, y2⟩, f1, f2⟩ := R_pass2 ok ok' (by omega) b1 hZ hF (by omega)
  refine br_t z2 (g1 _ (fun σ3 e3 σ4 e4 => ?_))
  obtain ⟨τ3, d3⟩ : ∃ s, s = up3 τ2 56 0 0 (τ2 56 0 0 + 1) := ⟨_, rfl⟩
  have v0 : vp_in (0 : Int32) 8 := show vp_in (nI 0) 8 from vin (by omega) (by omega)
  have m2 : ∀ Q : Int32 → St → Prop, w14_frameIn τ3 (fun σ4 => (∀ σ5, σ5 = up3 σ4 14 0 1 0 → (Q ((σ5 14 0 23) - (τ 14 0 23)) σ5))) → w14_arrive τ (nI X) Q := by
    intro Q hq
    refine m1 Q (br_f z1 (br_t z2 (g2 _ ⟨v0, v0, fun s e => ?_⟩)))
    have e' : s = τ3 := e.trans d3.symm
    rw [e']
    exact hq
  have F : Fr (mF [] [] [(0, [1, 13])] []) σ2 σ4 := by rw [e4, e3]; exact (fr_u rfl).up rfl
  have G : Fr (mF [] [] [(56, [0])] []) τ2 τ3 := by rw [d3]; exact fr_u rfl
  have k4 : okS σ4 := by rw [e4, e3]; exact ok_n (ok_n k1 rfl) rfl
  have k3 : okS τ3 := by rw [d3]; exact ok_n k2 rfl
  have v3 : σ3 0 0 1 = nI N := by
    rw [e3, up3_g, if_neg (by decide), f1 _ _ _ rfl]
    exact t1
  have hK : RK σ4 τ3 := by
    obtain ⟨h0, h1, h2, h3, h4, h5, h6, h7⟩ := y1.rk
    have q0 : σ4 0 0 13 = σ2 0 0 13 + 1 := by rw [e4, up3_g, if_neg (by decide), e3, up3_g, if_pos ⟨rfl, rfl, rfl⟩]
    have q1 : τ3 56 0 0 = τ2 56 0 0 + 1 := by rw [d3, up3_g, if_pos ⟨rfl, rfl, rfl⟩]
    have q2 : ∀ j, j ≠ 0 → τ3 56 0 j = τ2 56 0 j := fun j hj => G _ _ _ (by simp [mF, hj])
    have q3 : ∀ j, σ4 8 0 j = σ2 8 0 j := fun j => F _ _ _ rfl
    unfold RK
    rw [q0, q1, q2 1 (by decide), q2 2 (by decide), q2 3 (by decide), q2 4 (by decide), q2 5 (by decide), q2 6 (by decide), q2 7 (by decide), q3, q3, q3, q3, q3, q3, F 6 0 2 rfl]
    exact ⟨by rw [show σ2 0 0 13 = τ2 56 0 0 from h0], h1, h2, h3, h4, h5, h6, h7⟩
  have hZ3 : RZ σ4 τ3 X l2 (b + 720) B := y1.o (y1.nb.f F G) hK (Nat.le_refl _) F G (y1.st.f F G)
  have hF3 : RF σ4 τ3 X l2 := y2.f F G
  have hN3 : τ3 14 0 1 = nI N := by rw [G _ _ _ rfl, f2 _ _ _ rfl]; exact t2
  have htr : σ4 20 0 = τ3 50 0 := by rw [F.row (k := 20) fun _ => rfl, f1.row (k := 20) fun _ => rfl, G.row (k := 50) fun _ => rfl, f2.row (k := 50) fun _ => rfl]; exact t3
  rw [v3]
  obtain ⟨σ5, q1, k5, F5, g5⟩ := e0_frame k4 (j_frame k4 k3 (by omega) hZ3 hF3 (by omega) b5 (by omega) htr hN3 c2)
  obtain ⟨τ5, ⟨l5, w1, w2⟩, k6, F6, g6⟩ := e14_frameIn k3 q1
  refine g5 _ (m2 _ (g6 _ (fun τ6 e6 => ?_)))
  have G6 : Fr (mF [] [] [(14, [1])] []) τ5 τ6 := by rw [e6]; exact fr_u rfl
  have w1' : RZ σ5 τ6 X l5 (b + 720 + 264221) (B + 66049) := w1.o (w1.nb.f (Fr.rf (M := mF [] [] [] [])) G6) (w1.rk.f (Fr.rf (M := mF [] [] [] [])) G6) (Nat.le_refl _) (Fr.rf (M := mF [] [] [] [])) G6 (w1.st.f (Fr.rf (M := mF [] [] [] [])) G6)
  have w2' : RF σ5 τ6 X l5 := w2.f (Fr.rf (M := mF [] [] [] [])) G6
  refine ⟨by rw [sent_e w1', sent_e hZ], GR.of w1' w2' ⟨0, by omega, ?_, ?_, ?_⟩ ?_ (by omega) (by omega) (by omega) (by omega)⟩
  · rw [F5 _ _ _ rfl, e4, up3_g, if_pos ⟨rfl, rfl, rfl⟩]; rfl
  · rw [e6, up3_g, if_pos ⟨rfl, rfl, rfl⟩]; rfl
  · rw [F5.row (k := 20) fun _ => rfl, G6.row (k := 50) fun _ => rfl, F6.row (k := 50) fun _ => rfl]; exact htr
  · rw [F5 _ _ _ rfl, F _ _ _ rfl, f1 _ _ _ rfl, G6 _ _ _ rfl, F6 _ _ _ rfl, G _ _ _ rfl, f2 _ _ _ rfl]; exact h.bo
