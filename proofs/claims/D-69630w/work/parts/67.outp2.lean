/-! sending all that may be sent: side by side -/
set_option maxRecDepth 100000
/-- how the numbers may have changed, when things were sent -/
def Outc (c c' : CK) : Prop := (c' 1) = (c 1) ∧ (c' 2) = (c 2) ∧ (c' 5) = (c 5) ∧ (c' 17) = (c 17) ∧ (c' 14) = (c 14) ∧ (c' 16) = (c 16) ∧ (c' 13) = (c 13) ∧ (c 3) ≤ (c' 3) ∧ (c 4) ≤ (c' 4) ∧ ((c' 0) = (c 0) ∧ (c' 18) = (c 18) ∨ (c 18) = 0 ∧ (c' 18) = 1 ∧ ((c 0) = 2 ∧ (c' 0) = 3 ∨ (c 0) = 7 ∧ (c' 0) = 8)) ∧ ((c' 3) = (c 3) → c' = c) ∧ ((c 3) < (c' 3) → (c' 15) = 4096 - (c 14))
theorem Outc.rf (c : CK) : Outc c c := ⟨rfl, rfl, rfl, rfl, rfl, rfl, rfl, Nat.le_refl _, Nat.le_refl _, Or.inl ⟨rfl, rfl⟩, fun _ => rfl, fun h => absurd h (Nat.lt_irrefl _)⟩
theorem Outc.tr {c c' c2 : CK} (h : Outc c c') (g : Outc c' c2) : Outc c c2 := by
  obtain ⟨a1, a2, a3, a4, a5, a6, a7, a8, a9, a10, a11, a12⟩ := h
  obtain ⟨b1, b2, b3, b4, b5, b6, b7, b8, b9, b10, b11, b12⟩ := g
  refine ⟨by omega, by omega, by omega, by omega, by omega, by omega, by omega, by omega, by omega, by omega, fun e => ?_, fun e => ?_⟩
  · have e1 : (c' 3) = (c 3) := by omega
    rw [b11 (by omega), a11 e1]
  · by_cases e1 : (c' 3) < (c2 3)
    · rw [b12 e1, a5]
    · have := b11 (by omega)
      rw [this]
      exact a12 (by omega)
theorem Outc.part {σ τ : St} {t i dn fi : Nat} {c : CK} (h : RCn σ τ t i c) (hst : 2 ≤ (c 0)) (hfi : fi ≤ 1) (hn1 : 1 ≤ dn + fi) (hfd : fi = 1 → (c 17) = 1) : Outc c (cpart c dn fi) := by
  have q5 := h.fst
  have q6 := h.f1
  have q7 := h.d1
  have q8 := h.s8
  have hst27 : (c 18) = 0 → (c 0) = 2 ∨ (c 0) = 7 := by
    intro z
    have : ¬ (c 18) = 1 := by omega
    have := fun q => this (q5.mpr q)
    omega
  unfold Outc cpart
  simp only [cup_g, Nat.reduceEqDiff, reduceIte]
  refine ⟨trivial, trivial, trivial, trivial, trivial, trivial, trivial, by omega, by omega, ?_, fun e => by omega, fun _ => trivial⟩
  by_cases c1 : fi = 1 ∧ (c 18) = 0
  · rw [if_pos c1]
    rcases hst27 c1.2 with z | z
    · rw [if_neg (by omega)]; omega
    · rw [if_pos z]; omega
  · rw [if_neg c1]; omega
/-- the component's life timer, and whether it owes, behind sending -/
def Outl (σ σ' : St) (i : Nat) (c c' : CK) : Prop := (σ' 11 i 33) = (if (c' 0) = (c 0) then (σ 11 i 33) else 0) ∧ ((c' 3) = (c 3) → (σ' 11 i 22) = (σ 11 i 22)) ∧ ((c 3) < (c' 3) → (σ' 11 i 22) = 0)
theorem R_loop {t l i : Nat} (hi : i < 16) : ∀ (N : Nat) (σ τ : St) (b : Nat) (c : CK), okS σ → okS τ → NB σ τ t l b → b + 4 * N < 2147480000 → RK σ τ → RCn σ τ t i c → 2 ≤ (c 0) → (c 1) + (c 5) + (c 17) - (c 3) = N →
    ∃ (σ' τ' : St) (c' : CK), (∀ Q K : St → Prop, K σ' → ∃ z, w11_output_L2 i Q K z σ 1) ∧ (∀ Q K : St → Prop, K τ' → ∃ z, w14_sendAll_L17 i Q K z τ (if 0 < N then 1 else 0)) ∧ okS σ' ∧ okS τ' ∧ NB σ' τ' t l (b + 4 * N) ∧ RK σ' τ' ∧ RCn σ' τ' t i c' ∧ Outc c c' ∧ Outl σ σ' i c c' := by
  intro N
  induction N using Nat.strongRecOn with
  | _ N ih =>
  intro σ τ b c ok ok' hN hb hK h hst hl
  have q1 := h.ua
  have q2 := h.ax
  have q3 := h.xe
  have q5 := h.f1
  have q6 := h.d1
  have q9 := h.ms2
  have rfl2 : Outl σ σ i c c := ⟨by rw [if_pos rfl], fun _ => rfl, fun e => absurd e (Nat.lt_irrefl _)⟩
  by_cases c0 : N = 0
  · subst c0
    refine ⟨σ, τ, c, fun Q K hq => ⟨2, s11_round0 h hst hl (br_t rfl hq)⟩, fun Q K hq => ⟨1, br_t (by decide) hq⟩, ok, ok', hN, hK, h, Outc.rf c, rfl2⟩
  · have hN0 : 0 < N := by omega
    rw [if_pos hN0]
    by_cases hm : oM c
    · have hF1 : oF c ≤ 1 := by unfold oF; split <;> omega
      have hF : oF c = 1 → (c 17) = 1 ∧ (c 3) + oN c = (c 1) + (c 5) := by
        intro z
        have : (c 17) = 1 ∧ oD c = (c 1) + (c 5) - (c 3) ∧ oD c < oR c := by
          unfold oF at z
          by_cases c9 : (c 17) = 1 ∧ oD c = (c 1) + (c 5) - (c 3) ∧ oD c < oR c
          · exact c9
          · rw [if_neg c9] at z; omega
        have : oN c = oD c := by unfold oN; omega
        omega
      have hND : oN c ≤ oD c := by unfold oN; omega
      have hD1 : oD c ≤ (c 9) := by unfold oD; omega
      have hD2 : oD c ≤ (c 1) + (c 5) - (c 3) := by unfold oD; omega
      have hst4 : (c 0) ≠ 4 ∧ (c 0) ≠ 6 := by
        have := h.fin
        constructor
        · intro z; have := (this (Or.inl z)).1; omega
        · intro z; have := (this (Or.inr z)).1; omega
      obtain ⟨s1, t1, g1, g2, k1, k2, f1, f2, p1, p2, p3, p4, p5, _⟩ := R_part (dn := oN c) (fi := oF c) hi ok ok' hN (by omega) hK h hst hst4 hF1 (by unfold oM at hm; omega) (by omega) (by omega) hF
      have ho := Outc.part (dn := oN c) (fi := oF c) h hst hF1 (by unfold oM at hm; omega) (fun z => (hF z).1)
      generalize hc1 : cpart c (oN c) (oF c) = c1 at p3 ho
      have ea : (c1 3) = (c 3) + oN c + oF c := by rw [← hc1]; rfl
      have est1 : (c1 0) = (if oF c = 1 ∧ (c 18) = 0 then (if (c 0) = 7 then 8 else 3) else (c 0)) := by rw [← hc1]; rfl
      obtain ⟨o1, o2, o3, o4, o5, o6, o7, o8, o9, o10, o11, o12⟩ := id ho
      have hm1 := hm.1
      have hN1 : (c1 1) + (c1 5) + (c1 17) - (c1 3) = N - (oN c + oF c) := by omega
      have hle : oN c + oF c ≤ N := by
        by_cases z : oF c = 1
        · have := (hF z).2; have := (hF z).1; omega
        · omega
      obtain ⟨s2, t2, c2, r1, r2, r3, r4, r5, r6, r7, r8, r9⟩ := ih (N - (oN c + oF c)) (by omega) s1 t1 (b + 4) c1 k1 k2 p1 (by omega) p2 p3 (by omega) hN1
      refine ⟨s2, t2, c2, fun Q K hq => ?_, fun Q K hq => ?_, r3, r4, r5.up (by omega), r6, r7, ho.tr r8, ?_⟩
      · obtain ⟨z, hz⟩ := r1 Q K hq
        exact ⟨z + 1, s11_round h hst (by omega) (fun _ => g1 _ hz) (fun hn => absurd hm hn)⟩
      · obtain ⟨z, hz⟩ := r2 Q K hq
        refine ⟨z + 1, s14_round h hst (by omega) (fun _ => g2 _ ?_) (fun hn => absurd hm hn)⟩
        refine s15_left p3 ?_
        rw [hN1]
        by_cases c4 : 0 < N - (oN c + oF c)
        · rw [if_pos c4] at hz
          exact br_f (nI_nle c4 (by have := h.bb; omega)) hz
        · rw [if_neg c4] at hz
          exact br_t (by rw [show N - (oN c + oF c) = 0 by omega]; decide) hz
      · obtain ⟨l1, l2, l3⟩ := r9
        obtain ⟨w1, w2, w3, w4, w5, w6, w7, w8, w9, w10, w11, w12⟩ := r8
        refine ⟨?_, fun e => by omega, fun e => ?_⟩
        · rw [l1, p4]
          have hs := h.s8
          by_cases z : oF c = 1 ∧ (c 18) = 0
          · rw [if_pos z]
            rw [if_pos z] at est1
            have : ¬ (c2 0) = (c 0) := by
              intro e
              have hf := h.fst
              have : ¬ (c 18) = 1 := by omega
              have := fun q => this (hf.mpr q)
              split at est1 <;> omega
            rw [if_neg this]
            split <;> rfl
          · rw [if_neg z]
            rw [if_neg z] at est1
            rw [est1]
        · by_cases e2 : (c1 3) < (c2 3)
          · exact l3 e2
          · rw [l2 (by omega)]
            exact p5
    · refine ⟨σ, τ, c, fun Q K hq => ⟨2, s11_round h hst (by omega) (fun z => absurd z hm) (fun _ => br_t rfl hq)⟩, fun Q K hq => ⟨2, s14_round h hst (by omega) (fun z => absurd z hm) (fun _ => br_t rfl hq)⟩, ok, ok', hN.up (by omega), hK, h, Outc.rf c, rfl2⟩
/-- the timer is started on both sides -/
theorem RCn.tmr {σ τ σ' τ' : St} {t i : Nat} {c : CK} {v : Int32} (h : RCn σ τ t i c) (hst : 2 ≤ (c 0)) (hs4 : (c 0) ≠ 4 ∧ (c 0) ≠ 6) (hu : (c 2) < (c 1) + (c 5) + (c 17)) (hC : σ' 11 i = (va_up (va_up (σ 11 i) 29 1) 30 v)) (hM : τ' 15 i = (va_up (va_up (τ 15 i) 21 1) 22 v)) (hr : crows σ σ' i) (hr' : mrows τ τ' i) (hv : ∃ z : Nat, v = nI z ∧ v = nI z ∧ t ≤ z ∧ z ≤ t + 60000) : RCn σ' τ' t i c := by
  have n10 : (c 0) = 4 ∨ (c 0) = 6 → (c 2) = (c 1) + (c 5) + 1 ∧ (1 : Int32) = 0 := by omega
  have n11 : (1 : Int32) ≠ 0 → 2 ≤ (c 0) → (c 2) < (c 1) + (c 5) + (c 17) := fun _ _ => hu
  have n13 : (1 : Int32) ≠ 0 → ∃ z : Nat, v = nI z ∧ v = nI z ∧ t ≤ z ∧ z ≤ t + 60000 := fun _ => hv
  obtain ⟨h12, h13, h42, h43, h44, h90⟩ := hr
  obtain ⟨g71, g72, g73, g51⟩ := hr'
  obtain ⟨est, est', s1, s8, eip, ept, eiss, enx, ews, ewa, eun, eun', eat, eat', emx, emx', eba, eba', ua, ax, xe, syn, sy2, bu, bb, ewn, ewn', wn6, ems, ems', ms1, ms2, ecw, ecw', cw1, cw2, ess, ess', ss1, ss2, ert, ert', rt1, rt2, etr, etr', tr8, edu, erc, ehd, ehd', hd4, eft, etd, etd', td4, esk, esk', sk6, eow, efc, efn, eL, ehl, ebl, hL, bml, bmb, bmL, h5, epl, pl6, eab, eal, L6, ed, ed', d1, ef, ef', f1, fst, fin, eto, etm, tin, eti, etn, ets, eme, esr, eac, erow, ethr⟩ := id (h)
  apply RCn.mk <;> (try rw [hC]) <;> (try rw [hM]) <;> (try rw [h12]) <;> (try rw [h13]) <;> (try rw [h42]) <;> (try rw [h43]) <;> (try rw [h44]) <;> (try rw [h90]) <;> (try rw [g71]) <;> (try rw [g72]) <;> (try rw [g73]) <;> (try rw [g51]) <;> (try simp only [vu_g, cup_g, Nat.reduceEqDiff, reduceIte]) <;> (try assumption)
abbrev ouF (i : Nat) : Nat → Nat → Nat → Bool := rpF i
abbrev ouG (i : Nat) : Nat → Nat → Nat → Bool := rpG i
def OutP (σ τ : St) (t l b i : Nat) (c : CK) (σ' τ' : St) : Prop := NB σ' τ' t l (b + 4 * ((c 1) + (c 5) + (c 17) - (c 3))) ∧ RK σ' τ' ∧ ∃ c' : CK, RCn σ' τ' t i c' ∧ Outc c c' ∧ Outl σ σ' i c c'
theorem R_outp {σ τ : St} {t l b i : Nat} {c : CK} (hi : i < 16) (ok : okS σ) (ok' : okS τ) (hN : NB σ τ t l b) (hb : b + 4 * ((c 1) + (c 5) + (c 17) - (c 3)) < 2147480000) (hK : RK σ τ) (h : RCn σ τ t i c) (hst : 2 ≤ (c 0)) :
    RunV σ τ (w11_output σ i) (w14_sendAll τ i) (ouF i) (ouG i) (OutP σ τ t l b i c) := by
  obtain ⟨s1, t1, c1, r1, r2, r3, r4, r5, r6, r7, r8, r9⟩ := R_loop hi _ σ τ b c ok ok' hN hb hK h hst rfl
  obtain ⟨s0, o0, n1, n2, n3, nl, n4, n5, n6⟩ := id r5
  have now1 : s1 2 0 4 = nI t := n1.2.1.1
  have now2 : t1 14 0 10 = nI t := n1.2.1.2.1
  have hst1 : 2 ≤ (c1 0) := by have := r8.2.2.2.2.2.2.2.2.2.1; omega
  have u1 := r7.ua
  have hbb := r7.bb
  have hd1 := r7.d1
  -- behind the model's loop, whatever it is
  have mend : ∀ R : St → Prop, (0 < (c1 1) + (c1 5) + (c1 17) - (c1 3) → (c1 3) = (c1 2) → (c1 8) = 0 → t1 15 i 21 = 0 → w14_timerSet t1 i R) → (¬ (0 < (c1 1) + (c1 5) + (c1 17) - (c1 3) ∧ (c1 3) = (c1 2) ∧ (c1 8) = 0 ∧ t1 15 i 21 = 0) → R t1) → w14_sendAll τ i R := by
    intro R hset hno
    have tail : w15_left t1 i (t1 15 i 5) (fun r13 => ((r13 ≤ 0 → R t1) ∧ (¬ r13 ≤ 0 → ((¬ (t1 15 i 5) = (t1 15 i 4) → R t1) ∧ ((t1 15 i 5) = (t1 15 i 4) → ((¬ (t1 15 i 7) = 0 → R t1) ∧ ((t1 15 i 7) = 0 → (bo (t1 15 i 21) → ((¬ (t1 15 i 21) = 0 → R t1) ∧ ((t1 15 i 21) = 0 → (w14_timerSet t1 i (fun σ14 => (R σ14))))))))))))) := by
      refine s15_left r7 ?_
      by_cases c2 : (c1 1) + (c1 5) + (c1 17) - (c1 3) = 0
      · exact br_t (by rw [c2]; decide) (hno (by omega))
      · refine br_f (nI_nle (by omega) (by omega)) ?_
        rw [r7.eat', r7.eun', r7.ewn']
        have e9 := so_9 (t1 15 i 3) (a := (c1 3)) (b := (c1 2)) (by have := r7.ax; have := r7.xe; have := r7.f1; omega) (by have := r7.ax; have := r7.xe; have := r7.f1; omega)
        by_cases c3 : (c1 3) = (c1 2)
        · refine br_u (e9.mpr c3) ?_
          by_cases c4 : (c1 8) = 0
          · refine br_u (by rw [c4]; rfl) (fun _ => ?_)
            by_cases c5 : t1 15 i 21 = 0
            · exact br_u c5 (hset (by omega) c3 c4 c5)
            · exact br_v c5 (hno (fun z => c5 z.2.2.2))
          · exact br_v (nI_ne0 (by omega) (by have := r7.wn6; omega)) (hno (fun z => c4 z.2.2.1))
        · exact br_v (fun z => c3 (e9.mp z)) (hno (fun z => c3 z.2.1))
    refine s15_left h ?_
    by_cases c2 : 0 < (c 1) + (c 5) + (c 17) - (c 3)
    · rw [if_pos c2] at r2
      exact br_f (nI_nle c2 (by have := h.bb; have := h.d1; omega)) (r2 _ _ tail)
    · rw [if_neg c2] at r2
      exact br_t (by rw [show (c 1) + (c 5) + (c 17) - (c 3) = 0 by omega]; decide) (r2 _ _ tail)
  have hj : w11_output σ i (fun σ' => w14_sendAll τ i (fun τ' => OutP σ τ t l b i c σ' τ')) := by
    refine r1 _ _ (s11_left r7 hst1 ?_)
    have done : OutP σ τ t l b i c s1 t1 := ⟨r5, r6, c1, r7, r8, r9⟩
    by_cases c2 : (c1 1) + (c1 5) + (c1 17) - (c1 3) = 0
    · exact br_t (by rw [c2]; decide) (mend _ (fun z => absurd z (by omega)) (fun _ => done))
    · refine br_f (nI_nle (by omega) (by omega)) ?_
      show (¬ s1 11 i 10 - s1 11 i 9 = 0 → _) ∧ _
      rw [r7.eat, r7.eun, so_4 _ _ _ u1, r7.ewn]
      have hax := r7.ax
      have hxe := r7.xe
      have hf1 := r7.f1
      by_cases c3 : (c1 3) = (c1 2)
      · refine br_u (by rw [c3, Nat.sub_self]; rfl) ?_
        by_cases c4 : (c1 8) = 0
        · refine br_u (by rw [c4]; rfl) (s11_startTimer (fun s2 f2 ok2 hr2 => ?_) r3)
          by_cases c5 : t1 15 i 21 = 0
          · refine mend _ (fun _ _ _ _ => s14_timerSet r4 (fun t2 g2 okt2 hrt2 => ?_)) (fun z => absurd ⟨by omega, c3, c4, c5⟩ z)
            have rt2 := r7.rt2
            have c6 : s1 11 i 29 = 0 := by rw [r7.eto]; exact c5
            rw [now1, r7.ert, nI_add, c6] at hr2
            rw [now2, r7.ert', nI_add] at hrt2
            have F2 : Fr (mF [] [] [(11, [29, 30])] []) s1 s2 := f2.sub (mF_sub rfl sub_nil rfl (sud_c (Or.inl ⟨_, List.mem_of_getElem? (i := 0) rfl, rfl⟩) sud_nil))
            have G2 : Fr (mF [] [] [(15, [21, 22])] []) t1 t2 := g2.sub (mF_sub rfl sub_nil rfl (sud_c (Or.inl ⟨_, List.mem_of_getElem? (i := 0) rfl, rfl⟩) sud_nil))
            have hs4 : (c1 0) ≠ 4 ∧ (c1 0) ≠ 6 := by
              have := r7.fin
              constructor
              · intro z; have := (this (Or.inl z)).1; omega
              · intro z; have := (this (Or.inr z)).1; omega
            refine ⟨r5.f F2 G2, r6.f F2 G2, c1, r7.tmr hst1 hs4 (by omega) hr2 hrt2 (crows.f F2) (mrows.f G2) ⟨t + (c1 12), rfl, rfl, by omega, by omega⟩, r8, ?_⟩
            obtain ⟨l1, l2, l3⟩ := r9
            refine ⟨?_, ?_, ?_⟩
            · rw [F2 _ _ _ rfl]; exact l1
            · rw [F2 _ _ _ rfl]; exact l2
            · rw [F2 _ _ _ rfl]; exact l3
          · refine mend _ (fun _ _ _ z => absurd z c5) (fun _ => ?_)
            have c6 : ¬ s1 11 i 29 = 0 := by rw [r7.eto]; exact c5
            have c7 : s1 11 i 29 = 1 := by
              rcases ok_bo r3 (k := 11) (i := i) (j := 29) rfl with z | z
              · exact absurd z c6
              · exact z
            have e2 : s2 = s1 := by
              funext k' i' j'
              by_cases e : k' = 11 ∧ i' = i
              · rw [e.1, e.2, hr2]
                unfold offv
                rw [if_neg c6, vu_eq c7, vu_self]
              · refine f2 k' i' j' ?_
                simp [mF]
                intro a b
                exact absurd ⟨a.symm, b.symm⟩ e
            rw [e2]
            exact done
        · exact br_v (nI_ne0 (by omega) (by have := r7.wn6; omega)) (mend _ (fun _ _ z => absurd z c4) (fun _ => done))
      · exact br_v (nI_ne0 (by omega) (by omega)) (mend _ (fun _ z => absurd z c3) (fun _ => done))
  obtain ⟨σ', h, k1, f1, g1⟩ := e11_output hi ok hj
  obtain ⟨τ', h, k2, f2, g2⟩ := e14_sendAll hi ok' h
  exact ⟨σ', τ', g1, g2, k1, k2, f1, f2, h⟩
