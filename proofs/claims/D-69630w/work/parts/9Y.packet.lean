/-! packet ~ ipIn -/
set_option maxRecDepth 100000
theorem ver4 (x : Int32) : ((x >>> ((4 : Int32) &&& 31)) &&& 15) = 4 ↔ (x &&& 240) = 64 := by
  have s : ∀ i, i < 32 → bt (x >>> ((4 : Int32) &&& 31)) i = if 4 + i < 32 then bt x (4 + i) else bt x 31 := fun i hi => b_sshr 4 (by decide) x hi
  have h240 : ∀ i, i < 32 → bt 240 i = decide (4 ≤ i ∧ i < 8) := by decide +kernel
  have h64 : ∀ i, i < 32 → bt 64 i = decide (i = 6) := by decide +kernel
  have h15 : ∀ i, i < 32 → bt 15 i = decide (i < 4) := by decide +kernel
  have h4 : ∀ i, i < 32 → bt 4 i = decide (i = 2) := by decide +kernel
  constructor
  · intro h
    refine b_ext fun i hi => ?_
    rw [b_and, h240 i hi, h64 i hi]
    by_cases c : 4 ≤ i ∧ i < 8
    · have z : bt ((x >>> ((4 : Int32) &&& 31)) &&& 15) (i - 4) = bt 4 (i - 4) := by rw [h]
      rw [b_and, s _ (by omega), h15 _ (by omega), h4 _ (by omega), if_pos (by omega), show 4 + (i - 4) = i by omega, decide_eq_true (show i - 4 < 4 by omega), Bool.and_true] at z
      rw [z, decide_eq_true c, Bool.and_true]
      exact decide_eq_decide.mpr (by omega)
    · rw [decide_eq_false c, Bool.and_false, decide_eq_false (by omega)]
  · intro h
    refine b_ext fun i hi => ?_
    rw [b_and, s i hi, h15 i hi, h4 i hi]
    by_cases c : i < 4
    · have z : bt (x &&& 240) (4 + i) = bt 64 (4 + i) := by rw [h]
      rw [b_and, h240 _ (by omega), h64 _ (by omega), decide_eq_true (show 4 ≤ 4 + i ∧ 4 + i < 8 by omega), Bool.and_true] at z
      rw [if_pos (by omega), z, decide_eq_true c, Bool.and_true]
      exact decide_eq_decide.mpr (by omega)
    · rw [decide_eq_false c, Bool.and_false, decide_eq_false (by omega)]
theorem s14_ipIn_L {x4 x8 : Int32} {Q K : St → Prop} {hd n : Nat} (hn : hd + n ≤ 4000) : ∀ (m j : Nat) (σ : St), j + m = n → K (row3 σ 64 0 (va_cpy (σ 50 0) (σ 64 0) (14 + hd + j) j m)) → w14_ipIn_L209 (nI hd) x4 (nI n) x8 Q K (m + 1) σ (nI j) := by
  have e14 : (14 : Int32) + nI hd = nI (14 + hd) := nI_add 14 hd
  intro m
  induction m with
  | zero =>
    intro j σ hj hK
    rw [cpy_0, row3_self] at hK
    exact br_t (nI_le (by omega) (by omega)) hK
  | succ m ih =>
    intro j σ hj hK
    refine br_f (nI_ge (by omega) (by omega)) ?_
    rw [e14, nI_add]
    refine ⟨vin (by omega) (by omega), fun hb => ⟨vin (by omega) (by omega), fun s1 e1 => ?_⟩⟩
    rw [cl (by omega), cl (by omega)] at e1
    rw [cl (by omega)] at hb
    rw [show (σ 50 0 (14 + hd + j)).toInt8.toInt32 = σ 50 0 (14 + hd + j) from hb, up3_as] at e1
    subst e1
    rw [nI_1]
    refine ih (j + 1) _ (by omega) ?_
    rw [row3_s, row3_row3, row3_o (k' := 50) (by decide), ← Nat.add_assoc, cpy_s]
    exact hK
/-- all -/
def YP (t b B : Nat) (σ τ : St) : Prop := ∃ l, RZ σ τ t l b B ∧ RF σ τ t l
theorem RZ.l {σ τ : St} {t l l' b b' B : Nat} (h : RZ σ τ t l b B) (hN : NB σ τ t l' b') : RZ σ τ t l' b' B := RZ.mk hN h.rk h.hd h.bg h.st h.pl h.rm h.uq h.sg
theorem NB.ip {σ τ : St} {t l b : Nat} (h : NB σ τ t l b) : σ 0 0 12 = τ 14 0 5 := by
  obtain ⟨s, o, ⟨hM, _⟩, _⟩ := h
  exact hM.1
theorem RZ.fp {σ τ σ' τ' : St} {t l b b' B : Nat} (h : RZ σ τ t l b B) (hp : FP σ τ t b' σ' τ') : ∃ l', RZ σ' τ' t l' b' B ∧ RF σ' τ' t l' := by
  obtain ⟨_, _, ⟨l', hN, hF⟩, hK, F, G⟩ := hp
  exact ⟨l', ((h.l (h.nb.dn (Nat.zero_le _))).o (hN.dn (Nat.zero_le _)) hK (Nat.le_refl _) F G (h.st.f F G)).l hN, hF⟩
theorem j_frag2 {σ τ : St} {t l b B n off at_ : Nat} {from_ pr isL more : Int32} (ok : okS σ) (ok' : okS τ) (htt : t ≤ 100000000) (hZ : RZ σ τ t l b B) (hF : RF σ τ t l) (hb : b + 264221 < 2147400000) (hB1 : 1 ≤ B) (hB9 : B < 900000000) (htr : σ 20 0 = τ 50 0) (hno : off + n ≤ 4096) (hat : at_ + n ≤ 65540) (hm : isL = 0 ↔ ¬ more = 0) (hn0 : ¬ more = 0 → 0 < n) :
    w6_take_J18 σ 20 0 (nI at_) (nI n) from_ (two (τ 50 0) 18) pr (nI off) isL (nI t) (fun p σ9 => (p = none → w14_fragment τ from_ pr (nI off) (nI at_) (nI n) more (YP t (b + 264221) (B + 66049) σ9)) ∧ ∀ i, p = some i → i < 4 ∧ w0_datagram σ9 38 i 0 (σ9 7 i 7) from_ pr (fun σ11 => w14_fragment τ from_ pr (nI off) (nI at_) (nI n) more (YP t (b + 264221) (B + 66049) σ11))) := by
  have h38 : ∀ i, i < 4 → abc 38 i = true := by decide
  have hN : ∀ σ' τ', FP σ τ t (b + 1) σ' τ' → (((none : Option Nat) = none → YP t (b + 264221) (B + 66049) σ' τ') ∧ ∀ i, (none : Option Nat) = some i → i < 4 ∧ w0_datagram σ' 38 i 0 (σ' 7 i 7) from_ pr (fun σ'' => YP t (b + 264221) (B + 66049) σ'' τ')) := by
    intro σ' τ' hp
    obtain ⟨l', z1, z2⟩ := hZ.fp hp
    refine ⟨fun _ => ⟨l', ?_, z2⟩, fun i z => by cases z⟩
    exact z1.o (z1.nb.up (by omega)) z1.rk (by omega) (Fr.rf (M := mF [] [] [] [])) (Fr.rf (M := mF [] [] [] [])) z1.st
  have hS : ∀ (i e : Nat) σ' τ', FP σ τ t (b + 1) σ' τ' → i < 4 → e ≤ 4096 → (σ' 7 i 7) = nI e → (∀ j, j < e → σ' 38 i j = τ' 64 0 j) → (τ' 14 0 30) = from_ → w14_taken τ' pr (nI e) (fun τ'' => ((some i) = none → YP t (b + 264221) (B + 66049) σ' τ'') ∧ ∀ i', some i = some i' → i' < 4 ∧ w0_datagram σ' 38 i' 0 (σ' 7 i' 7) from_ pr (fun σ'' => YP t (b + 264221) (B + 66049) σ'' τ'')) := by
    intro i e σ' τ' hp hi he h7 hd hs
    obtain ⟨l', z1, z2⟩ := hZ.fp hp
    have al : 0 + e ≤ alen σ' 38 i := by
      unfold alen
      rw [if_neg (by decide), if_neg (by decide)]
      show 0 + e ≤ 4096
      omega
    have jd := j_dat (pr := pr) (from_ := from_) hp.1 hp.2.1 htt z1 (by omega) hB1 hB9 (Or.inr ⟨rfl, hi⟩) al (by omega) he (fun j hj => by rw [Nat.zero_add]; exact hd j hj) hs.symm z1.nb.ip
    obtain ⟨σ2, q1, k1, F1, g1⟩ := e0_datagram (h38 i hi) hp.1 jd
    obtain ⟨τ2, q2, k2, F2, g2⟩ := e14_taken hp.2.1 q1
    refine g2 _ ⟨(fun z => nomatch z), fun i' ei => ?_⟩
    cases ei
    refine ⟨hi, ?_⟩
    rw [h7]
    refine g1 _ ⟨l', ?_, z2.f F1 F2⟩
    rw [show b + 264221 = b + 1 + 264220 by omega]
    exact q2
  have jf := j_frag (Q := fun p σ' τ' => (p = none → YP t (b + 264221) (B + 66049) σ' τ') ∧ ∀ i, p = some i → i < 4 ∧ w0_datagram σ' 38 i 0 (σ' 7 i 7) from_ pr (fun σ'' => YP t (b + 264221) (B + 66049) σ'' τ')) (from_ := from_) (pr := pr) ok ok' hZ.nb (by omega) hF hZ.rk htr rfl hno hat hm hn0 hN hS
  obtain ⟨p, σ1, q1, k1, F1, g1⟩ := e6_take_J18 rfl ok jf
  obtain ⟨τ1, q2, k2, F2, g2⟩ := e14_fragment ok' q1
  refine g1 _ ⟨fun z => g2 _ (q2.1 z), fun i z => ?_⟩
  obtain ⟨hi, hd⟩ := q2.2 i z
  refine ⟨hi, ?_⟩
  obtain ⟨σ2, q3, k3, F3, g3⟩ := e0_datagram (h38 i hi) k1 hd
  exact g3 _ (g2 _ q3)
theorem j_packet {σ τ : St} {t l b B N : Nat} (ok : okS σ) (ok' : okS τ) (htt : t ≤ 100000000) (hZ : RZ σ τ t l b B) (hF : RF σ τ t l) (hb : b + 264221 < 2147400000) (hB1 : 1 ≤ B) (hB9 : B < 900000000) (htr : σ 20 0 = τ 50 0) (hN : (τ 14 0 1) = nI N) (h14 : 14 ≤ N) (hN9 : N ≤ 1514) :
    w0_packet σ 14 (nI (N - 14)) (fun σ' => w14_ipIn τ (YP t (b + 264221) (B + 66049) σ')) := by
  have same : YP t (b + 264221) (B + 66049) σ τ := ⟨l, hZ.o (hZ.nb.up (by omega)) hZ.rk (by omega) (Fr.rf (M := mF [] [] [] [])) (Fr.rf (M := mF [] [] [] [])) hZ.st, hF⟩
  have hN' : τ 14 0 1 - 14 = nI (N - 14) := by
    have : τ 14 0 1 = nI N := hN
    rw [this]; exact pk_sub (b := 14) (by omega)
  have al : ∀ s : St, alen s 20 0 = 65540 := fun _ => rfl
  have v14 : vp_in (14 : Int32) 65540 := show vp_in (nI 14) 65540 from vin (by omega) (by omega)
  have c14 : (14 : Int32).toNatClampNeg = 14 := cl (n := 14) (by omega)
  have hip := hZ.nb.ip
  by_cases c1 : N - 14 < 20
  · exact br_t (nI_lt (b := 20) c1 (by omega)) (br_t (by rw [hN']; exact nI_lt (b := 20) c1 (by omega)) same)
  have z1 : ¬ nI (N - 14) < 20 := nI_nlt (b := 20) (by omega) (by omega)
  have m1 : ∀ Q : St → Prop, _ → w14_ipIn τ Q := fun Q h => br_f (by rw [hN']; exact z1) ⟨v14, fun _ => h⟩
  rw [hN', c14] at m1
  refine br_f z1 ⟨v14, fun _ => ?_⟩
  rw [c14, htr]
  by_cases c2 : (τ 50 0 14 &&& 240) = 64
  rotate_left
  · exact br_f (fun z => c2 ((ver4 _).mp z)) (m1 _ (br_f c2 same))
  obtain ⟨c, hc, ec⟩ := pk_andE (τ 50 0 14) (m := 15) 4 (by decide)
  have ehd : (τ 50 0 14 &&& 15) * 4 = nI (4 * c) := by rw [ec, Nat.mul_comm]; exact pk_mul c 4
  have ehd' : 4 * (τ 50 0 14 &&& 15) = nI (4 * c) := by rw [ec]; exact pk_mul 4 c
  obtain ⟨hd, ehd2⟩ : ∃ hd, hd = 4 * c := ⟨_, rfl⟩
  rw [← ehd2] at ehd ehd'
  have h60 : hd ≤ 60 := by omega
  rw [ehd'] at m1
  have m2 : ∀ Q : St → Prop, _ → w14_ipIn τ Q := fun Q h => m1 Q (br_t c2 ⟨v14, fun _ => s14_trayHalf (a := 16) (by omega) h⟩)
  refine br_t ((ver4 _).mpr c2) ⟨v14, fun _ => ?_⟩
  rw [ehd]
  refine s19_two (a := 16) (by rw [al]; omega) (by omega) ?_
  rw [htr]
  have hts := two_n (τ 50 0) 16
  have hsz := twoN_lt (τ 50 0) 16
  rw [hts]
  rw [hts] at m2
  obtain ⟨sz, esz⟩ : ∃ sz, sz = twoN (τ 50 0) 16 := ⟨_, rfl⟩
  rw [← esz] at m2 hsz ⊢
  by_cases c3 : hd < 20
  · have z := nI_lt (b := 20) c3 (by omega)
    exact br_t z (m2 _ (br_t z same))
  have z3 : ¬ nI hd < 20 := nI_nlt (b := 20) (by omega) (by omega)
  refine br_f z3 ?_
  by_cases c4 : sz < hd
  · have z := nI_lt c4 (by omega)
    exact br_t z (m2 _ (br_f z3 (br_t z same)))
  have z4 : ¬ nI sz < nI hd := nI_nlt (by omega) (by omega)
  refine br_f z4 ?_
  by_cases c5 : N - 14 < sz
  · have z := nI_lt c5 (by omega)
    exact br_t z (m2 _ (br_f z3 (br_f z4 (br_t z same))))
  have z5 : ¬ nI (N - 14) < nI sz := nI_nlt (by omega) (by omega)
  have hsB := sB_le (τ 50 0) 14 hd
  have hck := ck_lt (0 + sB (τ 50 0) 14 hd)
  have m3 : ∀ Q : St → Prop, _ → w14_ipIn τ Q := fun Q h => m2 Q (br_f z3 (br_f z4 (br_f z5 (s14_added (k := 50) (i := 0) (a := 14) (s := 0) (by omega) (by omega) (by omega) (by show _ ≤ 65540; omega) (s14_sixteen (by omega) h)))))
  refine br_f z5 (s19_added (k := 20) (i := 0) (a := 14) (s := 0) (by omega) (by omega) (by omega) (by rw [al]; omega) ?_)
  rw [htr]
  refine s19_folded (by omega) ?_
  by_cases c6 : ck (0 + sB (τ 50 0) 14 hd) = 0
  rotate_left
  · have z : ¬ nI (ck (0 + sB (τ 50 0) 14 hd)) = 0 := nI_ne0 (by omega) (by omega)
    exact br_f z (m3 _ (br_f z same))
  rw [c6] at m3 ⊢
  have m4 : ∀ Q : St → Prop, _ → w14_ipIn τ Q := fun Q h => m3 Q (br_t rfl (s14_trayWord (a := 26) (by omega) (s14_trayWord (a := 30) (by omega) h)))
  refine br_t rfl (s19_four (a := 26) (by rw [al]; omega) (by omega) (s19_four (a := 30) (by rw [al]; omega) (by omega) ?_))
  rw [htr, hip]
  by_cases c7 : four (τ 50 0) 30 = τ 14 0 5
  rotate_left
  · exact br_v c7 (m4 _ (br_v c7 same))
  by_cases c8 : four (τ 50 0) 26 = τ 14 0 5
  · exact br_u c7 (br_t c8 (m4 _ (br_u c7 (br_t c8 same))))
  refine br_u c7 (br_f c8 ?_)
  by_cases c9 : usual (four (τ 50 0) 26)
  rotate_left
  · exact s19_isUsual (fun z => absurd z c9) (fun _ => br_u rfl (m4 _ (br_u c7 (br_f c8 (s14_isHost (fun z => absurd z c9) (fun _ => br_u rfl same))))))
  have m5 : ∀ Q : St → Prop, _ → w14_ipIn τ Q := fun Q h => m4 Q (br_u c7 (br_f c8 (s14_isHost (fun _ => br_v (by decide) (s14_trayHalf (a := 20) (by omega) (s14_trayHalf (a := 20) (by omega) h))) (fun z => absurd c9 z))))
  refine s19_isUsual (fun _ => br_v (by decide) (s19_two (a := 20) (by rw [al]; omega) (by omega) ?_)) (fun z => absurd c9 z)
  rw [htr]
  obtain ⟨from_, efr⟩ : ∃ f, f = four (τ 50 0) 26 := ⟨_, rfl⟩
  rw [← efr] at m5 ⊢
  obtain ⟨o, ho, eo⟩ := pk_andE (two (τ 50 0) 20) (m := 8191) 13 (by decide)
  have eof : (two (τ 50 0) 20 &&& 8191) * 8 = nI (8 * o) := by rw [eo, Nat.mul_comm]; exact pk_mul o 8
  have eof' : 8 * (two (τ 50 0) 20 &&& 8191) = nI (8 * o) := by rw [eo]; exact pk_mul 8 o
  rw [eof'] at m5
  rw [eof]
  obtain ⟨pr, epr⟩ : ∃ p, p = τ 50 0 23 &&& 255 := ⟨_, rfl⟩
  obtain ⟨n, en⟩ : ∃ n, n = sz - hd := ⟨_, rfl⟩
  have esub : nI sz - nI hd = nI n := by rw [en]; exact pk_sub (by omega)
  have v23 : vp_in (23 : Int32) 65540 := show vp_in (nI 23) 65540 from vin (by omega) (by omega)
  have c23 : (23 : Int32).toNatClampNeg = 23 := cl (n := 23) (by omega)
  have e23 : (14 : Int32) + 9 = 23 := by decide
  have eat : (14 : Int32) + nI hd = nI (14 + hd) := nI_add 14 hd
  have e8 : nI n - nI n / 8 * 8 = nI (n % 8) := pk_rem (d := 8) (by omega) (by decide) (by decide)
  have eon : nI (8 * o) + nI n = nI (8 * o + n) := nI_add _ _
  have hnow : σ 2 0 4 = nI t := by
    obtain ⟨s, o, ⟨_, hV, _⟩, _⟩ := hZ.nb
    exact hV.1
  -- fragments
  have frag : ∀ (isL more : Int32), (isL = 0 ↔ ¬ more = 0) → (isL = 0 ∨ isL = 1) → (more = 0 → 8 * o ≠ 0) → w0_packet_J215 σ 14 (nI hd) (nI sz) from_ (nI (8 * o)) isL pr (fun σ' => w14_ipIn_J157 τ (nI hd) (nI sz) from_ (nI (8 * o)) more (YP t (b + 264221) (B + 66049) σ')) := by
    intro isL more hm h01 hmo
    have m6 : ∀ Q : St → Prop, ((¬ more = 0 → 0 < n ∧ n % 8 = 0) → (8 * o + n ≤ 4096 → w14_fragment τ from_ pr (nI (8 * o)) (nI (14 + hd)) (nI n) more Q) ∧ (¬ 8 * o + n ≤ 4096 → Q τ)) → ((¬ more = 0 → ¬ (0 < n ∧ n % 8 = 0) → Q τ)) → w14_ipIn_J157 τ (nI hd) (nI sz) from_ (nI (8 * o)) more Q := by
      intro Q h1 h2
      have last : (¬ more = 0 → 0 < n ∧ n % 8 = 0) → w14_ipIn_J274 τ (nI hd) from_ (nI (8 * o)) more (nI n) pr Q := by
        intro hh
        obtain ⟨a1, a2⟩ := h1 hh
        unfold w14_ipIn_J274
        rw [eon, eat]
        by_cases d : 8 * o + n ≤ 4096
        · exact br_t (nI_le (b := 4096) d (by omega)) (a1 d)
        · exact br_f (nI_ge (a := 4096) (by omega) (by omega)) (a2 d)
      refine ⟨v23, fun _ => ?_⟩
      rw [c23, ← epr, esub, e8]
      by_cases d1 : more = 0
      · exact br_u d1 (br_v (nI_ne0 (Nat.pos_of_ne_zero (hmo d1)) (by omega)) (br_t d1 (last (fun z => absurd d1 z))))
      refine br_v d1 (br_f d1 ?_)
      by_cases d2 : n = 0
      · exact br_t (by rw [d2]; rfl) (h2 d1 (by omega))
      refine br_f (nI_ne0 (by omega) (by omega)) ?_
      by_cases d3 : n % 8 = 0
      · exact br_u (by rw [d3]; rfl) (last (fun _ => ⟨by omega, d3⟩))
      · exact br_v (nI_ne0 (by omega) (by omega)) (h2 d1 (fun z => d3 z.2))
    have e18 : (14 : Int32) + 4 = nI 18 := by decide
    unfold w0_packet_J215
    rw [e18, eat, esub, hnow]
    refine s19_two (by rw [al]; omega) (by omega) ?_
    rw [htr]
    have none_ : ∀ Q : St → Prop, Q σ → ∀ P : Nat → Prop, (((none : Option Nat) = none → Q σ) ∧ ∀ i, (none : Option Nat) = some i → P i) := fun Q h P => ⟨fun _ => h, fun i z => by cases z⟩
    have j18 : (¬ more = 0 → 0 < n ∧ n % 8 = 0) → w6_take_J18 σ 20 0 (nI (14 + hd)) (nI n) from_ (two (τ 50 0) 18) pr (nI (8 * o)) isL (nI t) (fun p9 σ9 => ((p9 = none → w14_ipIn_J157 τ (nI hd) (nI sz) from_ (nI (8 * o)) more (YP t (b + 264221) (B + 66049) σ9)) ∧ (∀ i10, p9 = some i10 → (i10 < 4 ∧ (w0_datagram σ9 38 i10 0 (σ9 7 i10 7) from_ pr (fun σ11 => (w14_ipIn_J157 τ (nI hd) (nI sz) from_ (nI (8 * o)) more (YP t (b + 264221) (B + 66049) σ11)))))))) := by
      intro hh
      by_cases d : 8 * o + n ≤ 4096
      · have jf := j_frag2 (from_ := from_) (pr := pr) ok ok' htt hZ hF hb hB1 hB9 htr d (by omega : 14 + hd + n ≤ 65540) hm (fun z => (hh z).1)
        obtain ⟨p, σ1, q1, k1, F1, g1⟩ := e6_take_J18 rfl ok jf
        have up : ∀ s, w14_fragment τ from_ pr (nI (8 * o)) (nI (14 + hd)) (nI n) more (YP t (b + 264221) (B + 66049) s) → w14_ipIn_J157 τ (nI hd) (nI sz) from_ (nI (8 * o)) more (YP t (b + 264221) (B + 66049) s) := fun s h => m6 _ (fun _ => ⟨fun _ => h, fun z => absurd d z⟩) (fun z1 z2 => absurd (hh z1) z2)
        refine g1 _ ⟨fun z => up _ (q1.1 z), fun i z => ?_⟩
        obtain ⟨hi, hd⟩ := q1.2 i z
        refine ⟨hi, ?_⟩
        have h38 : ∀ i, i < 4 → abc 38 i = true := by decide
        obtain ⟨σ2, q3, k3, F3, g3⟩ := e0_datagram (h38 i hi) k1 hd
        exact g3 _ (up _ q3)
      · refine br_f (by rw [eon]; exact nI_ge (a := 4096) (by omega) (by omega)) ⟨fun _ => ?_, fun i z => by cases z⟩
        exact m6 _ (fun _ => ⟨fun z => absurd z d, fun _ => same⟩) (fun z1 z2 => absurd (hh z1) z2)
    by_cases d1 : isL = 0
    · have d1' := hm.mp d1
      refine br_u d1 ?_
      by_cases d2 : n < 8
      · refine br_t (nI_lt (b := 8) d2 (by omega)) ⟨fun _ => ?_, fun i z => by cases z⟩
        by_cases d3 : 0 < n ∧ n % 8 = 0
        · omega
        · exact m6 _ (fun z => absurd (z d1') d3) (fun _ _ => same)
      refine br_f (nI_nlt (b := 8) (by omega) (by omega)) ?_
      rw [e8]
      by_cases d3 : n % 8 = 0
      · exact br_u (by rw [d3]; rfl) (j18 (fun _ => ⟨by omega, d3⟩))
      · refine br_v (nI_ne0 (by omega) (by omega)) ⟨fun _ => ?_, fun i z => by cases z⟩
        exact m6 _ (fun z => absurd (z d1').2 d3) (fun _ _ => same)
    · have d1' : more = 0 := by
        by_cases z : more = 0
        · exact z
        · exact absurd (hm.mpr z) d1
      exact br_v d1 (j18 (fun z => absurd d1' z))
  -- whole
  have whole : o = 0 → w0_datagram σ 20 0 (nI (14 + hd)) (nI n) from_ pr (fun σ' => w14_ipIn_J157 τ (nI hd) (nI sz) from_ (nI (8 * o)) 0 (YP t (b + 264221) (B + 66049) σ')) := by
    intro o0
    obtain ⟨s2, e2⟩ : ∃ s2, s2 = up3 (row3 τ 64 0 (va_cpy (τ 50 0) (τ 64 0) (14 + hd + 0) 0 n)) 14 0 30 from_ := ⟨_, rfl⟩
    have mw : ∀ Q : St → Prop, w14_taken s2 pr (nI n) Q → w14_ipIn_J157 τ (nI hd) (nI sz) from_ (nI (8 * o)) 0 Q := by
      intro Q h
      refine ⟨v23, fun _ => ?_⟩
      rw [c23, ← epr, esub]
      refine br_u rfl (br_u (by rw [o0]; rfl) (br_t (nI_le (b := 4096) (by omega) (by omega)) ⟨n + 1, s14_ipIn_L (by omega) n 0 τ (by omega) (fun s3 e3 => ?_)⟩))
      rw [← e2] at e3
      rw [e3]
      exact h
    have hby : ∀ j, by8 (va_cpy (τ 50 0) (τ 64 0) (14 + hd + 0) 0 n j) := fun j => by
      by_cases c : j < n
      · rw [pk_cpy_in (by omega) (by omega)]; exact ok_by ok' (tyk_a 50 2 (by decide) (by decide)) _
      · rw [pk_cpy_out (by omega)]; exact ok_by ok' (tyk_a 64 2 (by decide) (by decide)) _
    have k2 : okS s2 := by
      rw [e2]
      exact ok_n (ok_rowb ok' (tyk_a 64 2 (by decide) (by decide)) hby) rfl
    have G2 : Fr (mF [64] [] [(14, [30])] []) τ s2 := by
      rw [e2]
      exact Fr.up (fr_r (fun _ => rfl)) rfl
    have r64 : ∀ j, j < n → σ 20 0 (14 + hd + j) = s2 64 0 j := fun j hj => by
      rw [e2, up3_i (by decide), row3_s, pk_cpy_in (by omega) (by omega), htr]
      rfl
    have s30 : from_ = s2 14 0 30 := by rw [e2, up3_g, if_pos ⟨rfl, rfl, rfl⟩]
    have hZ2 : RZ σ s2 t l b B := hZ.o (hZ.nb.f (Fr.rf (M := mF [] [] [] [])) G2) (hZ.rk.f (Fr.rf (M := mF [] [] [] [])) G2) (Nat.le_refl _) (Fr.rf (M := mF [] [] [] [])) G2 (hZ.st.f (Fr.rf (M := mF [] [] [] [])) G2)
    have jd := j_dat (pr := pr) (from_ := from_) ok k2 htt hZ2 (by omega) hB1 hB9 (Or.inl ⟨rfl, rfl⟩) (by rw [al]; omega) (by omega) (by omega) r64 s30 hZ2.nb.ip
    obtain ⟨σ3, q1, k3, F1, g1⟩ := e0_datagram rfl ok jd
    obtain ⟨τ3, q2, k4, F2, g2⟩ := e14_taken k2 q1
    refine g1 _ (mw _ (g2 _ ⟨l, q2.o (q2.nb.up (by omega)) q2.rk (Nat.le_refl _) (Fr.rf (M := mF [] [] [] [])) (Fr.rf (M := mF [] [] [] [])) q2.st, (hF.f (Fr.rf (M := mF [] [] [] [])) G2).f F1 F2⟩))
  by_cases d : two (τ 50 0) 20 &&& 8192 = 0
  · refine br_u d ?_
    have m7 : ∀ Q : St → Prop, w14_ipIn_J157 τ (nI hd) (nI sz) from_ (nI (8 * o)) 0 Q → w14_ipIn τ Q := fun Q h => m5 Q (br_t d h)
    unfold w0_packet_J168
    rw [e23, c23, htr, ← epr, eat, esub]
    refine ⟨v23, fun _ => ?_⟩
    by_cases o0 : o = 0
    · obtain ⟨σ2, q, k, F, g⟩ := e0_datagram rfl ok (whole o0)
      exact br_u (by rw [o0]; rfl) (br_f (by decide) (g _ (m7 _ q)))
    · obtain ⟨σ2, q, k, F, g⟩ := e0_packet_J215 ok (frag 1 0 (by decide) (Or.inr rfl) (fun _ => by omega))
      exact br_v (nI_ne0 (by omega) (by omega)) (g _ (m7 _ q))
  · refine br_v d ?_
    have m7 : ∀ Q : St → Prop, w14_ipIn_J157 τ (nI hd) (nI sz) from_ (nI (8 * o)) 1 Q → w14_ipIn τ Q := fun Q h => m5 Q (br_f d h)
    unfold w0_packet_J168
    rw [e23, c23, htr, ← epr, eat, esub]
    refine ⟨v23, fun _ => ?_⟩
    obtain ⟨σ2, q, k, F, g⟩ := e0_packet_J215 ok (frag 0 1 (by decide) (Or.inl rfl) (fun z => absurd z (by decide)))
    by_cases o0 : o = 0
    · exact br_u (by rw [o0]; rfl) (br_t rfl (g _ (m7 _ q)))
    · exact br_v (nI_ne0 (by omega) (by omega)) (g _ (m7 _ q))
