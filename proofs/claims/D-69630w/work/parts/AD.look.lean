/-! looking -/
set_option maxRecDepth 100000
section LOOK
variable {n : Nat} {σ τ : St}
theorem GR.bo0 (h : GR n σ τ) (c : σ 0 0 11 = 0) : τ 14 0 4 = 0 := (show σ 0 0 11 = τ 14 0 4 from h.bo).symm.trans c
theorem GR.bo1 (h : GR n σ τ) (c : ¬ σ 0 0 11 = 0) : ¬ τ 14 0 4 = 0 := fun z => c ((show σ 0 0 11 = τ 14 0 4 from h.bo).trans z)
theorem j_now (h : GR n σ τ) : w0_now σ (fun r => w14_now τ (fun r' => r = r')) := by
  intro _
  by_cases c : σ 0 0 11 = 0
  · exact br_t c (fun _ => br_t (h.bo0 c) rfl)
  · obtain ⟨t, l, b, B, _, _, _, _, hZ, _⟩ := h.bt c
    obtain ⟨s, o, hR, _⟩ := id hZ.nb
    refine br_f c (fun _ => br_f (h.bo1 c) ?_)
    rw [show σ 2 0 4 = nI t from hR.2.1.1, show τ 14 0 10 = nI t from hR.2.1.2.1]
theorem j_sent (h : GR n σ τ) : w0_sent σ (fun r => w14_sent τ (fun r' => r = r')) := by
  intro _
  by_cases c : σ 0 0 11 = 0
  · exact br_t c (fun _ => br_t (h.bo0 c) rfl)
  · obtain ⟨t, l, b, B, _, _, _, _, hZ, _⟩ := h.bt c
    exact br_f c (fun _ => br_f (h.bo1 c) (sent_e hZ))
/-- which of the frames that were sent -/
theorem slots (hn : n ≤ 64) (h : GR n σ τ) (x : Int32) : ((∀ Q : Int32 → Prop, Q 0 → w0_isKept σ x Q) ∧ (∀ Q : Int32 → Prop, Q (-1) → w14_slot τ x Q)) ∨ (∃ (k l : Nat), k < 32 ∧ (∀ Q : Int32 → Prop, Q 1 → w0_isKept σ x Q) ∧ (∀ Q : Int32 → Prop, Q (nI k) → w2_slot σ x Q) ∧ (∀ Q : Int32 → Prop, Q (nI k) → w14_slot τ x Q) ∧ 60 ≤ l ∧ l ≤ 1514 ∧ σ 25 0 k = nI l ∧ τ 59 0 k = nI l ∧ σ 26 0 k = τ 60 0 k ∧ ∀ j, j < l → σ 23 k j = τ 58 0 (1514 * k + j)) := by
  by_cases c : σ 0 0 11 = 0
  · exact Or.inl ⟨fun Q hq _ => br_t c hq, fun Q hq _ => br_t (h.bo0 c) hq⟩
  have c' := h.bo1 c
  obtain ⟨t, l, b, B, b1, b2, _, _, hZ, _⟩ := h.bt c
  obtain ⟨s, o, hR, _, n3, _⟩ := id hZ.nb
  obtain ⟨v1, v2, v3, v4, v5⟩ := hR.2.1
  have v3' : σ 2 0 3 = nI s := v3
  have v4' : τ 14 0 23 = nI s := v4
  by_cases c1 : x < 0
  · exact Or.inl ⟨fun Q hq _ => br_f c (br_t c1 (br_t rfl hq)), fun Q hq _ => br_f c' (br_t c1 hq)⟩
  by_cases c2 : 32 ≤ x
  · exact Or.inl ⟨fun Q hq _ => br_f c (br_f c1 (br_t c2 (br_t rfl hq))), fun Q hq _ => br_f c' (br_f c1 (br_t c2 hq))⟩
  by_cases c3 : nI s ≤ x
  · exact Or.inl ⟨fun Q hq _ => br_f c (br_f c1 (br_f c2 (br_t (by rw [v3']; exact c3) (br_t rfl hq)))), fun Q hq _ => br_f c' (br_f c1 (br_f c2 (br_t (by rw [v4']; exact c3) hq)))⟩
  obtain ⟨i, hi, rfl⟩ := nI_of c1
  have i32 : i < 32 := Nat.lt_of_not_le fun z => c2 (nI_le (a := 32) z (by omega))
  have his : i < s := Nat.lt_of_not_le fun z => c3 (nI_le z (by omega))
  have e1 : ((nI s - 1) - nI i) = nI (s - 1 - i) := by
    rw [show nI s - 1 = nI (s - 1) from pk_sub (b := 1) (by omega)]
    exact pk_sub (by omega)
  have e2 : ((nI s - 1) - nI i) - ((nI s - 1) - nI i) / 32 * 32 = nI ((s - 1 - i) % 32) := by
    rw [e1]
    exact pk_rem (d := 32) (by omega) (by decide) (by decide)
  have hk : (s - 1 - i) % 32 < 32 := Nat.mod_lt _ (by decide)
  have hks : (s - 1 - i) % 32 < s := by have := Nat.mod_le (s - 1 - i) 32; omega
  obtain ⟨ln, w1, w2, w3, w4, w5, w6⟩ := v5 _ hk hks
  refine Or.inr ⟨_, ln, hk, fun Q hq _ => br_f c (br_f c1 (br_f c2 (br_f (by rw [v3']; exact c3) (br_f (by decide) hq)))), fun Q hq => ?_, fun Q hq _ => br_f c' (br_f c1 (br_f c2 (br_f (by rw [v4']; exact c3) ?_))), w1, w2, w3, w4, w5, w6⟩
  · unfold w2_slot
    rw [v3', e2]
    exact hq
  · rw [v4', e2]
    exact hq
theorem j_length (hn : n ≤ 64) (h : GR n σ τ) (x : Int32) : w0_length σ x (fun r => w14_length τ x (fun r' => r = r')) := by
  rcases slots hn h x with ⟨h1, h2⟩ | ⟨k, l, hk, h1, h2, h3, w1, w2, w3, w4, w5, w6⟩
  · exact h1 _ (br_t rfl (h2 _ (br_f (by decide) rfl)))
  · refine h1 _ (br_f (by decide) (h2 _ ⟨vin hk (by omega), h3 _ (br_t (nI_le (a := 0) (by omega) (by omega)) (h3 _ ⟨vin hk (by omega), ?_⟩))⟩))
    rw [cl (by omega), w3, w4]
theorem j_time (hn : n ≤ 64) (h : GR n σ τ) (x : Int32) : w0_time σ x (fun r => w14_time τ x (fun r' => r = r')) := by
  rcases slots hn h x with ⟨h1, h2⟩ | ⟨k, l, hk, h1, h2, h3, w1, w2, w3, w4, w5, w6⟩
  · exact h1 _ (br_t rfl (h2 _ (br_f (by decide) rfl)))
  · refine h1 _ (br_f (by decide) (h2 _ ⟨vin hk (by omega), h3 _ (br_t (nI_le (a := 0) (by omega) (by omega)) (h3 _ ⟨vin hk (by omega), ?_⟩))⟩))
    rw [cl (by omega), w5]
theorem j_at (hn : n ≤ 64) (h : GR n σ τ) (x y : Int32) : w0_at σ x y (fun r => w14_at τ x y (fun r' => r = r')) := by
  rcases slots hn h x with ⟨h1, h2⟩ | ⟨k, l, hk, h1, h2, h3, w1, w2, w3, w4, w5, w6⟩
  · exact h1 _ (br_t rfl (h2 _ (br_t (by decide) rfl)))
  have n0 : ¬ nI k < 0 := nI_nlt (b := 0) (by omega) (by omega)
  refine h1 _ (br_f (by decide) ?_)
  by_cases c1 : y < 0
  · exact br_t c1 (h3 _ (br_f n0 (br_t c1 rfl)))
  obtain ⟨j, hj, rfl⟩ := nI_of c1
  refine br_f c1 (h2 _ ⟨vin hk (by omega), ?_⟩)
  rw [cl (n := k) (by omega), w3]
  have m1 : ∀ Q : Int32 → Prop, _ → w14_at τ x (nI j) Q := fun Q hq => h3 _ (br_f n0 (br_f c1 ⟨vin hk (by omega), hq⟩))
  rw [cl (n := k) (by omega), w4] at m1
  by_cases c2 : j < l
  rotate_left
  · exact br_t (nI_le (by omega) (by omega)) (m1 _ (br_f (nI_nlt (by omega) (by omega)) rfl))
  refine br_f (nI_ge c2 (by omega)) (h2 _ ⟨vin hk (by omega), vin (by omega) (by omega), fun _ => ?_⟩)
  rw [cl (n := k) (by omega), cl (n := j) (by omega)]
  have e : nI k * 1514 + nI j = nI (1514 * k + j) := by
    rw [show nI k * 1514 = nI (k * 1514) from pk_mul k 1514, nI_add, Nat.mul_comm]
  rw [e] at m1
  refine m1 _ (br_t (nI_lt c2 (by omega)) ⟨vin (by omega) (by omega), fun _ => ?_⟩)
  rw [cl (by omega), w6 j c2]
/-- the state of a place -/
theorem states (h : GR n σ τ) (x : Int32) : ∃ r : Int32, (∀ Q : Int32 → Prop, Q r → w0_state σ x Q) ∧ (∀ Q : Int32 → Prop, Q r → w14_state τ x Q) ∧ (r = -1 ∨ r = 0 ∨ ∃ (i t : Nat) (c : CK), i < 16 ∧ x = nI i ∧ r = nI (c 0) ∧ RCn σ τ t i c) := by
  by_cases c1 : x < 0
  · exact ⟨-1, fun Q hq => br_t c1 (br_u rfl hq), fun Q hq => br_t c1 hq, Or.inl rfl⟩
  obtain ⟨i, hi, rfl⟩ := nI_of c1
  by_cases c2 : i < 16
  rotate_left
  · exact ⟨-1, fun Q hq => br_f c1 (br_t (nI_le (a := 16) (by omega) (by omega)) (br_u rfl hq)), fun Q hq => br_f c1 (br_f (nI_nlt (b := 16) (by omega) (by omega)) hq), Or.inl rfl⟩
  have z1 : ¬ (16 : Int32) ≤ nI i := nI_ge (b := 16) c2 (by omega)
  have z2 : nI i < (16 : Int32) := nI_lt (b := 16) c2 (by omega)
  by_cases c : σ 0 0 11 = 0
  · exact ⟨0, fun Q hq => br_f c1 (br_f z1 (br_v (by decide) (fun _ => br_t c hq))), fun Q hq => br_f c1 (br_t z2 (fun _ => br_t (h.bo0 c) hq)), Or.inr (Or.inl rfl)⟩
  obtain ⟨t, l, b, B, _, _, _, _, hZ, _⟩ := h.bt c
  have eq : σ 11 i 2 = τ 15 i 0 ∧ (σ 11 i 2 = 0 ∨ ∃ (c : CK), σ 11 i 2 = nI (c 0) ∧ RCn σ τ t i c) := by
    rcases hZ.pl i c2 with y | ⟨c, y, _, _⟩
    · exact ⟨(show σ 11 i 2 = 0 from y.1).trans (show τ 15 i 0 = 0 from y.2.1).symm, Or.inl y.1⟩
    · exact ⟨(show σ 11 i 2 = nI (c 0) from y.est).trans (show τ 15 i 0 = nI (c 0) from y.est').symm, Or.inr ⟨c, y.est, y⟩⟩
  refine ⟨σ 11 i 2, fun Q hq => br_f c1 (br_f z1 (br_v (by decide) (fun _ => br_f c ⟨vin c2 (by omega), ?_⟩))), fun Q hq => br_f c1 (br_t z2 (fun _ => br_f (h.bo1 c) ⟨vin c2 (by omega), ?_⟩)), ?_⟩
  · rw [cl (by omega)]; exact hq
  · rw [cl (by omega), ← eq.1]; exact hq
  · rcases eq.2 with y | ⟨c, y1, y2⟩
    · exact Or.inr (Or.inl y)
    · exact Or.inr (Or.inr ⟨i, t, c, c2, rfl, y1, y2⟩)
theorem j_state (h : GR n σ τ) (x : Int32) : w0_state σ x (fun r => w14_state τ x (fun r' => r = r')) := by
  obtain ⟨r, h1, h2, _⟩ := states h x
  exact h1 _ (h2 _ rfl)
theorem j_look (h : GR n σ τ) (x y : Int32) : w0_look σ x y (fun r => w14_look τ x y (fun r' => r = r')) := by
  obtain ⟨r, h1, h2, h3⟩ := states h x
  refine h1 _ ?_
  have m1 : ∀ Q : Int64 → Prop, _ → w14_look τ x y Q := fun Q hq => h2 _ hq
  rcases h3 with rfl | rfl | ⟨i, t, c, hi, rfl, rfl, hc⟩
  · exact br_f (by decide) (m1 _ (br_f (by decide) rfl))
  · exact br_f (by decide) (m1 _ (br_f (by decide) rfl))
  have q1 := hc.s1
  have q8 := hc.s8
  refine br_t (nI_le (a := 1) q1 (by omega)) ⟨vin hi (by omega), ?_⟩
  have m2 : ∀ Q : Int64 → Prop, _ → w14_look τ (nI i) y Q := fun Q hq => m1 Q (br_t (nI_lt (a := 0) (by omega) (by omega)) ⟨vin hi (by omega), hq⟩)
  rw [cl (by omega)] at m2 ⊢
  by_cases c0 : y = 0
  · refine br_t c0 (m2 _ (br_t c0 ?_)); rw [hc.eip]
  by_cases c1 : y = 1
  · refine br_f c0 (br_t c1 (m2 _ (br_f c0 (br_t c1 ?_)))); rw [hc.ept]
  by_cases c2 : y = 2
  · refine br_f c0 (br_f c1 (br_t c2 (m2 _ (br_f c0 (br_f c1 (br_t c2 ?_)))))); rw [hc.eun, hc.eun']
  by_cases c3 : y = 3
  · refine br_f c0 (br_f c1 (br_f c2 (br_t c3 (m2 _ (br_f c0 (br_f c1 (br_f c2 (br_t c3 ?_)))))))); rw [hc.eat, hc.eat']
  by_cases c4 : y = 4
  · refine br_f c0 (br_f c1 (br_f c2 (br_f c3 (br_t c4 (m2 _ (br_f c0 (br_f c1 (br_f c2 (br_f c3 (br_t c4 ?_)))))))))); rw [hc.emx, hc.emx']
  have p4 : ∀ {A A' A2 A3 A4 A5 : Prop}, A5 → (y = 0 → A) ∧ (¬ y = 0 → ((y = 1 → A') ∧ (¬ y = 1 → ((y = 2 → A2) ∧ (¬ y = 2 → ((y = 3 → A3) ∧ (¬ y = 3 → ((y = 4 → A4) ∧ (¬ y = 4 → A5))))))))) := fun a => br_f c0 (br_f c1 (br_f c2 (br_f c3 (br_f c4 a))))
  by_cases c5 : y = 5
  · refine p4 (br_t c5 (m2 _ (p4 (br_t c5 ?_))))
    rw [show σ 11 i 6 = τ 15 i 36 from hc.enx]
  by_cases c6 : y = 6
  · refine p4 (br_f c5 (br_t c6 (m2 _ (p4 (br_f c5 (br_t c6 ?_)))))); rw [hc.ewn, hc.ewn']
  by_cases c7 : y = 7
  · refine p4 (br_f c5 (br_f c6 (br_t c7 (m2 _ (p4 (br_f c5 (br_f c6 (br_t c7 ?_)))))))); rw [hc.ecw, hc.ecw']
  by_cases c8 : y = 8
  · refine p4 (br_f c5 (br_f c6 (br_f c7 (br_t c8 (m2 _ (p4 (br_f c5 (br_f c6 (br_f c7 (br_t c8 ?_)))))))))); rw [hc.ess, hc.ess']
  by_cases c9 : y = 9
  · refine p4 (br_f c5 (br_f c6 (br_f c7 (br_f c8 (br_t c9 (m2 _ (p4 (br_f c5 (br_f c6 (br_f c7 (br_f c8 (br_t c9 ?_)))))))))))); rw [hc.ert, hc.ert']
  have p9 : ∀ {A A' A2 A3 A4 A5 B B1 B2 B3 B4 : Prop}, A5 → (y = 0 → A) ∧ (¬ y = 0 → ((y = 1 → A') ∧ (¬ y = 1 → ((y = 2 → A2) ∧ (¬ y = 2 → ((y = 3 → A3) ∧ (¬ y = 3 → ((y = 4 → A4) ∧ (¬ y = 4 → ((y = 5 → B) ∧ (¬ y = 5 → ((y = 6 → B1) ∧ (¬ y = 6 → ((y = 7 → B2) ∧ (¬ y = 7 → ((y = 8 → B3) ∧ (¬ y = 8 → ((y = 9 → B4) ∧ (¬ y = 9 → A5))))))))))))))))))) := fun a => p4 (br_f c5 (br_f c6 (br_f c7 (br_f c8 (br_f c9 a)))))
  by_cases c10 : y = 10
  · refine p9 (br_t c10 (m2 _ (p9 (br_t c10 ?_)))); rw [hc.ems, hc.ems']
  by_cases c11 : y = 11
  · refine p9 (br_f c10 (br_t c11 (m2 _ (p9 (br_f c10 (br_t c11 (s15_held (n := (c 14)) hc.ehd' ?_))))))); rw [hc.ehd]
  by_cases c12 : y = 12
  · refine p9 (br_f c10 (br_f c11 (br_t c12 ?_)))
    have m3 : ∀ Q : Int64 → Prop, _ → w14_look τ (nI i) y Q := fun Q hq => m2 Q (p9 (br_f c10 (br_f c11 (br_t c12 hq))))
    by_cases s2 : 2 ≤ (c 0)
    · refine s11_left hc s2 (m3 _ (br_v ?_ (s15_left hc rfl)))
      rw [hc.est']
      exact fun z => by have := (nI_eq (b := 1) (by omega) (by omega)).mp z; omega
    · have s1 : (c 0) = 1 := by omega
      refine br_f (by rw [hc.est, s1]; decide) (m3 _ (br_u (by rw [hc.est', s1]; rfl) rfl))
  by_cases c13 : y = 13
  · refine p9 (br_f c10 (br_f c11 (br_f c12 (br_t c13 (m2 _ (p9 (br_f c10 (br_f c11 (br_f c12 (br_t c13 ?_)))))))))); rw [hc.etr, hc.etr']
  by_cases c14 : y = 14
  · refine p9 (br_f c10 (br_f c11 (br_f c12 (br_f c13 (br_t c14 (m2 _ (p9 (br_f c10 (br_f c11 (br_f c12 (br_f c13 (br_t c14 ?_)))))))))))); rw [hc.edu]
  exact p9 (br_f c10 (br_f c11 (br_f c12 (br_f c13 (br_f c14 (m2 _ (p9 (br_f c10 (br_f c11 (br_f c12 (br_f c13 (br_f c14 rfl))))))))))))
theorem j_cached (h : GR n σ τ) (x : Int32) : w0_cached σ x (fun r => w14_cached τ x (fun r' => r = r')) := by
  intro _
  by_cases c : σ 0 0 11 = 0
  · exact br_t c (fun _ => br_t (h.bo0 c) rfl)
  obtain ⟨t, l, b, B, _, _, _, _, hZ, _⟩ := h.bt c
  obtain ⟨s, o, hR, _⟩ := id hZ.nb
  obtain ⟨z, z1, z2, z3, z4⟩ := hR.2.2.1
  have now1 : σ 2 0 4 = nI t := hR.2.1.1
  have now2 : τ 14 0 10 = nI t := hR.2.1.2.1
  refine br_f c ?_
  have hu : ∀ k, k < z → (τ 16 k 0) = 1 ∧ σ 28 0 k = (τ 16 k 1) := fun k hk => ⟨(z3 k hk).1, (z3 k hk).2.1⟩
  refine s3_find z2 z1 (fun hf => ?_) (fun hf => ?_)
  · have n0 : ¬ nI (fnd (σ 28 0) z x) < 0 := nI_nlt (b := 0) (by omega) (by omega)
    have et : σ 29 0 (fnd (σ 28 0) z x) = τ 16 (fnd (σ 28 0) z x) 4 := (z3 _ hf).2.2.1
    refine br_f n0 ⟨vin (by omega) (by omega), ?_⟩
    rw [cl (by omega), now1, et]
    by_cases c6 : 60000 ≤ nI t - τ 16 (fnd (σ 28 0) z x) 4
    · refine br_t c6 (br_t rfl (fun _ => br_f (h.bo1 c) (s14_entry z1 hu z4 (fun _ => ⟨(fun y => nomatch y), fun i e => ?_⟩) (fun y => by omega))))
      cases e
      refine ⟨by omega, br_t (by rw [now2]; exact c6) ⟨fun _ => rfl, fun i e => by cases e⟩⟩
    · refine br_f c6 (br_f (by decide) (fun _ => br_f (h.bo1 c) (s14_entry z1 hu z4 (fun _ => ⟨(fun y => nomatch y), fun i e => ?_⟩) (fun y => by omega))))
      cases e
      exact ⟨by omega, br_f (by rw [now2]; exact c6) ⟨(fun y => nomatch y), fun i e => by cases e; exact ⟨by omega, rfl⟩⟩⟩
  · exact br_t (by decide) (br_t rfl (fun _ => br_f (h.bo1 c) (s14_entry z1 hu z4 (fun y => by omega) (fun _ => ⟨fun _ => ⟨fun _ => rfl, fun i e => by cases e⟩, fun i e => by cases e⟩))))
theorem j_waiting (h : GR n σ τ) : w0_waiting σ (fun r => w14_waiting τ (fun r' => r = r')) := by
  intro _
  by_cases c : σ 0 0 11 = 0
  · exact br_t c ⟨1, br_f (by decide) (fun _ => br_t (h.bo0 c) rfl)⟩
  obtain ⟨t, l, b, B, _, _, _, _, hZ, _⟩ := h.bt c
  obtain ⟨s, o, hR, _⟩ := id hZ.nb
  obtain ⟨w, q, r, hX⟩ := hR.2.2.2.1.x
  have ew : σ 3 0 9 = nI w := hX.2.1
  refine br_f c ?_
  rw [ew]
  have L : ∀ (m j : Nat), j + m = 8 → w14_waiting_L4 τ (fun r' => nI w = r') (fun r' => nI w = r') (m + 1) (nI (cnt (fun j => (τ 17 j 0)) j)) (nI j) := by
    intro m
    induction m with
    | zero =>
      intro j hj
      obtain rfl : j = 8 := by omega
      refine br_t (nI_le (a := 8) (by omega) (by omega)) ?_
      rw [hX.2.2.2.1]
    | succ m ih =>
      intro j hj
      refine br_f (nI_ge (b := 8) (by omega) (by omega)) (fun _ => br_f (h.bo1 c) ⟨vin (by omega) (by omega), fun _ => ?_⟩)
      rw [cl (by omega), nI_1, nI_1]
      have hi := ih (j + 1) (by omega)
      by_cases c0 : τ 17 j 0 = 0
      · have e : cnt (fun j => (τ 17 j 0)) (j + 1) = cnt (fun j => (τ 17 j 0)) j := by
          show cnt _ j + (if τ 17 j 0 = 0 then 0 else 1) = _
          rw [if_pos c0, Nat.add_zero]
        rw [e] at hi
        exact br_t c0 hi
      · have e : cnt (fun j => (τ 17 j 0)) (j + 1) = cnt (fun j => (τ 17 j 0)) j + 1 := by
          show cnt _ j + (if τ 17 j 0 = 0 then 0 else 1) = _
          rw [if_neg c0]
        rw [e] at hi
        exact br_f c0 hi
  exact ⟨9, L 8 0 (by omega)⟩
theorem j_counted (h : GR n σ τ) (x : Int32) : w0_counted σ x (fun r => w14_counted τ x (fun r' => r = r')) := by
  intro _
  by_cases c : σ 0 0 11 = 0
  · exact br_u c (fun _ => br_t (h.bo0 c) rfl)
  obtain ⟨t, l, b, B, _, _, _, _, hZ, _⟩ := h.bt c
  obtain ⟨k0, k1, k2, k3, k4, k5, k6, k7⟩ := hZ.rk
  refine br_v c ?_
  have m1 : ∀ Q : Int32 → Prop, _ → w14_counted τ x Q := fun Q hq _ => br_f (h.bo1 c) hq
  have m2 : ∀ (k : Nat), k < 8 → x = nI k → ∀ Q : Int32 → Prop, Q (τ 56 0 k) → w14_counted τ x Q := fun k hk e Q hq => by
    rw [e] at m1 ⊢
    refine m1 _ (br_f (nI_nlt (b := 0) (by omega) (by omega)) (br_f (nI_ge (b := 8) hk (by omega)) ⟨vin hk (by omega), ?_⟩))
    rw [cl (by omega)]
    exact hq
  by_cases c0 : x = 0
  · exact br_t c0 (m2 0 (by omega) c0 _ k0)
  by_cases c1 : x = 1
  · exact br_f c0 (br_t c1 (m2 1 (by omega) c1 _ k1))
  by_cases c2 : x = 2
  · exact br_f c0 (br_f c1 (br_t c2 (m2 2 (by omega) c2 _ k2)))
  by_cases c3 : x = 3
  · exact br_f c0 (br_f c1 (br_f c2 (br_t c3 (m2 3 (by omega) c3 _ k3))))
  by_cases c4 : x = 4
  · exact br_f c0 (br_f c1 (br_f c2 (br_f c3 (br_t c4 (m2 4 (by omega) c4 _ k4)))))
  by_cases c5 : x = 5
  · exact br_f c0 (br_f c1 (br_f c2 (br_f c3 (br_f c4 (br_t c5 (m2 5 (by omega) c5 _ k5))))))
  by_cases c6 : x = 6
  · exact br_f c0 (br_f c1 (br_f c2 (br_f c3 (br_f c4 (br_f c5 (br_t c6 (m2 6 (by omega) c6 _ k6)))))))
  by_cases c7 : x = 7
  · exact br_f c0 (br_f c1 (br_f c2 (br_f c3 (br_f c4 (br_f c5 (br_f c6 (br_t c7 (m2 7 (by omega) c7 _ k7))))))))
  refine br_f c0 (br_f c1 (br_f c2 (br_f c3 (br_f c4 (br_f c5 (br_f c6 (br_f c7 (m1 _ ?_))))))))
  by_cases d1 : x < 0
  · exact br_t d1 rfl
  obtain ⟨i, hi, rfl⟩ := nI_of d1
  refine br_f d1 ?_
  by_cases d2 : i < 8
  · have : i = 0 ∨ i = 1 ∨ i = 2 ∨ i = 3 ∨ i = 4 ∨ i = 5 ∨ i = 6 ∨ i = 7 := by omega
    rcases this with rfl | rfl | rfl | rfl | rfl | rfl | rfl | rfl
    · exact absurd rfl c0
    · exact absurd rfl c1
    · exact absurd rfl c2
    · exact absurd rfl c3
    · exact absurd rfl c4
    · exact absurd rfl c5
    · exact absurd rfl c6
    · exact absurd rfl c7
  · exact br_t (nI_le (a := 8) (by omega) (by omega)) rfl
theorem j_strays (h : GR n σ τ) : w0_strays σ (fun r => w14_strays τ (fun r' => r = r')) := by
  show (0 : Int32) = τ 14 0 18
  exact h.sy.symm
end LOOK
