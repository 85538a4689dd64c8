/-! frame ~ frameIn -/
set_option maxRecDepth 100000
theorem s2_isForUs_L {σ : St} {Q : Int32 → Prop} {K : Int32 → Int32 → Prop} (hK : ∀ a u : Int32, (a = 0 ↔ ¬ ∀ j, j < 6 → σ 20 0 j = -1) → (u = 0 ↔ ¬ ∀ j, j < 6 → σ 20 0 j = σ 27 0 j) → K a u) : ∀ (m j : Nat) (a u : Int32), j + m = 6 → (a = 0 ↔ ¬ ∀ i, i < j → σ 20 0 i = -1) → (u = 0 ↔ ¬ ∀ i, i < j → σ 20 0 i = σ 27 0 i) → w2_isForUs_L7 σ 20 0 Q K (m + 1) a u (nI j) := by
  intro m
  induction m with
  | zero =>
    intro j a u hj ha hu
    obtain rfl : j = 6 := by omega
    exact br_t (nI_le (a := 6) (by omega) (by omega)) (hK a u ha hu)
  | succ m ih =>
    intro j a u hj ha hu
    have v20 : vp_in (nI j) (alen σ 20 0) := vin (by show _ < 65540; omega) (by omega)
    have v6 : vp_in (nI j) 6 := vin (by omega) (by omega)
    have ext : ∀ (P : Nat → Prop), (∀ i, i < j + 1 → P i) ↔ ((∀ i, i < j → P i) ∧ P j) := by
      intro P
      refine ⟨fun h => ⟨fun i hi => h i (by omega), h j (by omega)⟩, fun h i hi => ?_⟩
      by_cases c : i = j
      · rw [c]; exact h.2
      · exact h.1 i (by omega)
    have two_ : ∀ x : Int32, (x = 0 ↔ ¬ ∀ i, i < j + 1 → σ 20 0 i = -1) → w2_isForUs_J31 σ 20 0 u (nI j) x Q (fun x2z x3z x4z => w2_isForUs_L7 σ 20 0 Q K (m + 1) x2z x3z x4z) := by
      intro x hx
      unfold w2_isForUs_J31
      rw [nI_1, cl (by omega)]
      by_cases c1 : u = 0
      · refine br_t c1 (ih (j + 1) x 0 (by omega) hx ?_)
        rw [ext]
        exact ⟨fun _ z => (hu.mp c1) z.1, fun _ => rfl⟩
      refine br_f c1 ⟨v20, fun _ => ⟨v6, fun _ => ?_⟩⟩
      have hu' : ∀ i, i < j → σ 20 0 i = σ 27 0 i := Classical.byContradiction fun z => c1 (hu.mpr z)
      by_cases c2 : σ 20 0 j = σ 27 0 j
      · refine br_u c2 (ih (j + 1) x 1 (by omega) hx ?_)
        rw [ext]
        exact ⟨fun z => absurd z (by decide), fun z => absurd ⟨hu', c2⟩ z⟩
      · refine br_v c2 (ih (j + 1) x 0 (by omega) hx ?_)
        rw [ext]
        exact ⟨fun _ z => c2 z.2, fun _ => rfl⟩
    refine br_f (nI_ge (b := 6) (by omega) (by decide)) ?_
    by_cases c1 : a = 0
    · refine br_t c1 (two_ 0 ?_)
      rw [ext]
      exact ⟨fun _ z => (ha.mp c1) z.1, fun _ => rfl⟩
    refine br_f c1 ⟨v20, fun _ => ?_⟩
    rw [cl (by omega)]
    have ha' : ∀ i, i < j → σ 20 0 i = -1 := Classical.byContradiction fun z => c1 (ha.mpr z)
    by_cases c2 : σ 20 0 j = -1
    · refine br_u c2 (two_ 1 ?_)
      rw [ext]
      exact ⟨fun z => absurd z (by decide), fun z => absurd ⟨ha', c2⟩ z⟩
    · refine br_v c2 (two_ 0 ?_)
      rw [ext]
      exact ⟨fun _ z => c2 z.2, fun _ => rfl⟩
theorem s2_isForUs {σ : St} {Q : Int32 → Prop} (h1 : ((∀ j, j < 6 → σ 20 0 j = -1) ∨ ∀ j, j < 6 → σ 20 0 j = σ 27 0 j) → Q 1) (h0 : (¬ ∀ j, j < 6 → σ 20 0 j = -1) → (¬ ∀ j, j < 6 → σ 20 0 j = σ 27 0 j) → Q 0) : w2_isForUs σ 20 0 Q := by
  refine ⟨7, s2_isForUs_L (fun a u ha hu => ?_) 6 0 1 1 (by omega) ⟨fun z => absurd z (by decide), fun z => absurd (fun i hi => absurd hi (by omega)) z⟩ ⟨fun z => absurd z (by decide), fun z => absurd (fun i hi => absurd hi (by omega)) z⟩⟩
  by_cases c1 : a = 0
  · refine br_u c1 ?_
    by_cases c2 : u = 0
    · exact br_t c2 (h0 (ha.mp c1) (hu.mp c2))
    · exact br_f c2 (h1 (Or.inr (Classical.byContradiction fun z => c2 (hu.mpr z))))
  · exact br_v c1 (h1 (Or.inl (Classical.byContradiction fun z => c1 (ha.mpr z))))
theorem b8_low (x : Int32) {i : Nat} (hi : i < 8) : (b8 x).toBitVec.getLsbD i = x.toBitVec.getLsbD i := by
  have h : (b8 x).toInt8 = x.toInt8 := by unfold b8; simp
  have h2 : (b8 x).toInt8.toBitVec.getLsbD i = x.toInt8.toBitVec.getLsbD i := by rw [h]
  rw [Int32.toBitVec_toInt8, Int32.toBitVec_toInt8, BitVec.getLsbD_signExtend, BitVec.getLsbD_signExtend] at h2
  simp only [hi, decide_true, Bool.true_and] at h2
  rwa [if_pos (by omega), if_pos (by omega)] at h2
theorem b8_inj {x y : Int32} (h : b8 x = b8 y) {i : Nat} (hi : i < 8) : x.toBitVec.getLsbD i = y.toBitVec.getLsbD i := by
  rw [← b8_low x hi, ← b8_low y hi, h]
/-- an address that is the own one -/
theorem mac_inj {h l h' l' : Int32} (e : ∀ j, j < 6 → macb h l j = macb h' l' j) : (∀ i, i < 16 → h.toBitVec.getLsbD i = h'.toBitVec.getLsbD i) ∧ l = l' := by
  have e0 : b8 (h >>> 8) = b8 (h' >>> 8) := e 0 (by omega)
  have e1 : b8 h = b8 h' := e 1 (by omega)
  have e2 : b8 (l >>> 16 >>> 8) = b8 (l' >>> 16 >>> 8) := e 2 (by omega)
  have e3 : b8 (l >>> 16) = b8 (l' >>> 16) := e 3 (by omega)
  have e4 : b8 (l >>> 8) = b8 (l' >>> 8) := e 4 (by omega)
  have e5 : b8 l = b8 l' := e 5 (by omega)
  rw [b8_24', b8_24'] at e2
  constructor
  · intro i hi
    by_cases c : i < 8
    · exact b8_inj e1 c
    · have z := b8_inj e0 (i := i - 8) (by omega)
      rwa [lb_sshr _ 8 8 (by decide) (by omega) (by omega), lb_sshr _ 8 8 (by decide) (by omega) (by omega), show 8 + (i - 8) = i by omega] at z
  · refine b_ext fun i hi => ?_
    unfold bt
    by_cases c : i < 8
    · exact b8_inj e5 c
    by_cases c2 : i < 16
    · have z := b8_inj e4 (i := i - 8) (by omega)
      rwa [lb_sshr _ 8 8 (by decide) (by omega) (by omega), lb_sshr _ 8 8 (by decide) (by omega) (by omega), show 8 + (i - 8) = i by omega] at z
    by_cases c3 : i < 24
    · have z := b8_inj e3 (i := i - 16) (by omega)
      rwa [lb_sshr _ 16 16 (by decide) (by omega) (by omega), lb_sshr _ 16 16 (by decide) (by omega) (by omega), show 16 + (i - 16) = i by omega] at z
    · have z := b8_inj e2 (i := i - 24) (by omega)
      rwa [lb_sshr _ 24 24 (by decide) (by omega) (by omega), lb_sshr _ 24 24 (by decide) (by omega) (by omega), show 24 + (i - 24) = i by omega] at z
theorem mac_iff {f : Nat → Int32} (hf : ∀ j, by8 (f j)) {h H l : Int32} (hH : H = h &&& 65535) : (∀ j, j < 6 → f j = macb H l j) ↔ two f 0 = H ∧ four f 2 = l := by
  have m2 := mac_two hf 0
  constructor
  · intro e
    obtain ⟨a1, a2⟩ := mac_inj (h := two f 0) (l := four f (0 + 2)) (h' := H) (l' := l) (fun j hj => by rw [← m2 j hj, Nat.zero_add]; exact e j hj)
    refine ⟨b_ext fun i hi => ?_, a2⟩
    unfold bt
    by_cases c : i < 16
    · exact a1 i c
    · rw [two_up f 0 i (by omega) hi, hH]
      have h2 : ∀ i, i < 32 → ¬ i < 16 → (65535 : Int32).toBitVec.getLsbD i = false := by decide +kernel
      rw [Int32.toBitVec_and, BitVec.getLsbD_and, h2 i hi c, Bool.and_false]
  · intro e j hj
    have := m2 j hj
    rw [Nat.zero_add, e.1, show four f (0 + 2) = l from e.2] at this
    exact this
theorem j_frame {σ τ : St} {t l b B N : Nat} (ok : okS σ) (ok' : okS τ) (htt : t ≤ 100000000) (hZ : RZ σ τ t l b B) (hF : RF σ τ t l) (hb : b + 264221 < 2147400000) (hB1 : 1 ≤ B) (hB9 : B < 900000000) (htr : σ 20 0 = τ 50 0) (hN : (τ 14 0 1) = nI N) (hN9 : N ≤ 1514) :
    w0_frame σ (nI N) (fun σ' => w14_frameIn τ (YP t (b + 264221) (B + 66049) σ')) := by
  have same : YP t (b + 264221) (B + 66049) σ τ := ⟨l, hZ.o (hZ.nb.up (by omega)) hZ.rk (by omega) (Fr.rf (M := mF [] [] [] [])) (Fr.rf (M := mF [] [] [] [])) hZ.st, hF⟩
  have al : ∀ s : St, alen s 20 0 = 65540 := fun _ => rfl
  have hN' : τ 14 0 1 = nI N := hN
  by_cases c1 : N < 14
  · exact br_t (nI_lt (b := 14) c1 (by omega)) (br_f (by rw [hN']; exact nI_ge (b := 14) c1 (by omega)) same)
  have z1 : ¬ nI N < 14 := nI_nlt (b := 14) (by omega) (by omega)
  have z1' : 14 ≤ τ 14 0 1 := by rw [hN']; exact nI_le (a := 14) (by omega) (by omega)
  refine br_f z1 ?_
  obtain ⟨hh, hH⟩ : ∃ h : Int32, τ 14 0 8 = h &&& 65535 := by
    obtain ⟨s, o, ⟨hM, _⟩, _⟩ := hZ.nb
    exact hM.2.2.2.2.2.2.2
  have own : ∀ j, j < 6 → σ 27 0 j = macb (τ 14 0 8) (τ 14 0 9) j := by
    obtain ⟨s, o, ⟨hM, _⟩, _⟩ := hZ.nb
    exact hM.2.2.2.2.2.2.1
  have hf : ∀ j, by8 (τ 50 0 j) := fun j => ok_by ok' (tyk_a 50 2 (by decide) (by decide)) j
  have i1 : (∀ j, j < 6 → σ 20 0 j = σ 27 0 j) ↔ two (τ 50 0) 0 = τ 14 0 8 ∧ four (τ 50 0) 2 = τ 14 0 9 := by
    rw [← mac_iff hf hH, htr]
    exact ⟨fun h j hj => (h j hj).trans (own j hj), fun h j hj => (h j hj).trans (own j hj).symm⟩
  have i2 : (∀ j, j < 6 → σ 20 0 j = -1) ↔ two (τ 50 0) 0 = 65535 ∧ four (τ 50 0) 2 = -1 := by
    rw [← mac_iff hf (h := 65535) (H := 65535) (by decide), htr]
    exact ⟨fun h j hj => (h j hj).trans (mac_all j hj).symm, fun h j hj => (h j hj).trans (mac_all j hj)⟩
  have m1 : ∀ (Q : St → Prop) (x : Int32), (x = 0 ↔ ¬ ∀ j, j < 6 → σ 20 0 j = σ 27 0 j) → ((x = 0 → (¬ ∀ j, j < 6 → σ 20 0 j = -1) → Q τ) ∧ ((¬ x = 0 ∨ ∀ j, j < 6 → σ 20 0 j = -1) → w14_frameIn_J74 τ Q)) → w14_frameIn_J39 τ x Q := by
    intro Q x hx hq
    refine s14_trayHalf (a := 0) (by omega) ?_
    by_cases d1 : two (τ 50 0) 0 = 65535
    rotate_left
    · refine br_v d1 ?_
      by_cases d3 : x = 0
      · exact br_u d3 (br_u rfl (hq.1 d3 (fun z => d1 (i2.mp z).1)))
      · exact br_v d3 (hq.2 (Or.inl d3))
    refine br_u d1 (s14_trayWord (a := 2) (by omega) ?_)
    by_cases d2 : four (τ 50 0) 2 = -1
    · refine br_u d2 ?_
      by_cases d3 : x = 0
      · exact br_u d3 (br_v (by decide) (hq.2 (Or.inr (i2.mpr ⟨d1, d2⟩))))
      · exact br_v d3 (hq.2 (Or.inl d3))
    · refine br_v d2 ?_
      by_cases d3 : x = 0
      · exact br_u d3 (br_u rfl (hq.1 d3 (fun z => d2 (i2.mp z).2)))
      · exact br_v d3 (hq.2 (Or.inl d3))
  have m2 : ∀ (Q : St → Prop), (((¬ ∀ j, j < 6 → σ 20 0 j = σ 27 0 j) → (¬ ∀ j, j < 6 → σ 20 0 j = -1) → Q τ) ∧ (((∀ j, j < 6 → σ 20 0 j = σ 27 0 j) ∨ ∀ j, j < 6 → σ 20 0 j = -1) → w14_frameIn_J74 τ Q)) → w14_frameIn τ Q := by
    intro Q hq
    refine br_t z1' (s14_trayHalf (a := 0) (by omega) ?_)
    have no : (¬ ∀ j, j < 6 → σ 20 0 j = σ 27 0 j) → w14_frameIn_J39 τ 0 Q := fun hn => m1 Q 0 ⟨fun _ => hn, fun _ => rfl⟩ ⟨fun _ => hq.1 hn, fun z => hq.2 (Or.inr (z.resolve_left (fun y => y rfl)))⟩
    by_cases d1 : two (τ 50 0) 0 = τ 14 0 8
    rotate_left
    · exact br_v d1 (no (fun z => d1 (i1.mp z).1))
    refine br_u d1 (s14_trayWord (a := 2) (by omega) ?_)
    by_cases d2 : four (τ 50 0) 2 = τ 14 0 9
    · have y := i1.mpr ⟨d1, d2⟩
      exact br_u d2 (m1 Q 1 ⟨fun z => absurd z (by decide), fun z => absurd y z⟩ ⟨fun z => absurd z (by decide), fun _ => hq.2 (Or.inl y)⟩)
    · exact br_v d2 (no (fun z => d2 (i1.mp z).2))
  refine s2_isForUs (fun y => br_v (by decide) ?_) (fun y1 y2 => br_u rfl (m2 _ ⟨fun _ _ => same, fun z => z.elim (fun z => absurd z y2) (fun z => absurd z y1)⟩))
  have m3 : ∀ Q : St → Prop, w14_frameIn_J74 τ Q → w14_frameIn τ Q := fun Q h => m2 Q ⟨fun z1 z2 => y.elim (fun z => absurd z z2) (fun z => absurd z z1), fun _ => h⟩
  refine s19_two (a := 12) (by rw [al]; omega) (by omega) ?_
  rw [htr]
  have m4 : ∀ Q : St → Prop, _ → w14_frameIn τ Q := fun Q h => m3 Q (s14_trayHalf (a := 12) (by omega) h)
  by_cases d1 : two (τ 50 0) 12 = 2054
  · refine br_u d1 ?_
    obtain ⟨σ1, τ1, g1, g2, k1, k2, f1, f2, hN1⟩ := R_arp ok ok' hZ.nb (by omega) (by omega) hN htr
    exact g1 _ (m4 _ (br_u d1 (g2 _ ⟨l, hZ.o (hN1.up (by omega)) (hZ.rk.f f1 f2) (by omega) f1 f2 (hZ.st.f f1 f2), hF.f f1 f2⟩)))
  refine br_v d1 ?_
  by_cases d2 : two (τ 50 0) 12 = 2048
  rotate_left
  · exact br_v d2 (m4 _ (br_v d1 (s14_trayHalf (a := 12) (by omega) (br_v d2 same))))
  refine br_u d2 ?_
  rw [show nI N - 14 = nI (N - 14) from pk_sub (b := 14) (by omega)]
  obtain ⟨σ1, q, k, F, g⟩ := e0_packet ok (j_packet ok ok' htt hZ hF hb hB1 hB9 htr hN (by omega) hN9)
  exact g _ (m4 _ (br_v d1 (s14_trayHalf (a := 12) (by omega) (br_u d2 q))))
