/-! sending all that may be sent -/
set_option maxRecDepth 100000
theorem i32_le0 {x : Int32} : x ≤ 0 ↔ x.toInt ≤ 0 := by
  rw [Int32.le_iff_toInt_le]
  rfl
theorem imin_le0 {x y : Int32} (h : y ≤ 0) : imin x y ≤ 0 := by
  unfold imin
  split
  · exact h
  · rename_i c
    rw [Int32.not_lt] at c
    exact Int32.le_trans c h
theorem imax_0 {x : Int32} (h : x ≤ 0) : imax 0 x = 0 := by
  unfold imax
  rw [if_neg (Int32.not_lt.mpr h)]
theorem s11_left {σ τ : St} {t i : Nat} {c : CK} {Q : Int32 → Prop} (h : RCn σ τ t i c) (hst : 2 ≤ (c 0)) (hq : Q (nI ((c 1) + (c 5) + (c 17) - (c 3)))) : w11_left σ i Q := by
  have q1 := h.ax
  have q2 := h.xe
  have q3 := h.f1
  have q4 := h.d1
  have q5 := h.s8
  unfold w11_left
  rw [h.est]
  refine br_t (nI_le (a := 2) hst (by omega)) (fun hb => ?_)
  rw [h.eba, h.eL, h.eat, h.ed]
  by_cases c1 : (c 17) = 0
  · refine br_t (by rw [c1]; rfl) ?_
    rw [so_5, show ∀ x : Int32, x + 0 = x from fun x => by grind, so_4 _ _ _ (by omega)]
    rw [c1, Nat.add_zero] at hq
    exact hq
  · have c2 : (c 17) = 1 := by omega
    refine br_f (by rw [c2]; decide) ?_
    rw [so_5, so_6, so_4 _ _ _ (by omega)]
    rw [c2] at hq
    exact hq
theorem s15_left {σ τ : St} {t i : Nat} {c : CK} {Q : Int32 → Prop} (h : RCn σ τ t i c) (hq : Q (nI ((c 1) + (c 5) + (c 17) - (c 3)))) : w15_left τ i ((τ 15 i 5)) Q := by
  have q1 := h.ax
  have q2 := h.xe
  have q3 := h.f1
  have q4 := h.d1
  have q5 := h.hL
  intro hb
  rw [h.beh, h.eat', h.ed']
  by_cases c1 : (c 17) = 0
  · refine br_t (by rw [c1]; rfl) ?_
    rw [show ∀ x : Int32, x + 0 = x from fun x => by grind, so_4 _ _ _ (by omega)]
    rw [c1, Nat.add_zero] at hq
    exact hq
  · have c2 : (c 17) = 1 := by omega
    refine br_f (by rw [c2]; decide) ?_
    rw [so_6, so_4 _ _ _ (by omega)]
    rw [c2] at hq
    exact hq
/-- how much one goes: data, FIN -/
def oD (c : CK) : Nat := min (c 9) ((c 1) + (c 5) - (c 3))
def oR (c : CK) : Nat := min (c 10) (c 8) - ((c 3) - (c 2))
def oN (c : CK) : Nat := min (oD c) (oR c)
def oF (c : CK) : Nat := if (c 17) = 1 ∧ oD c = (c 1) + (c 5) - (c 3) ∧ oD c < oR c then 1 else 0
def oM (c : CK) : Prop := 0 < oN c + oF c ∧ (oN c = (c 9) ∨ oN c + oF c = (c 1) + (c 5) + (c 17) - (c 3) ∨ (c 3) = (c 2))
/-- one round of the component -/
theorem s11_round {σ τ : St} {t i n : Nat} {c : CK} {Q K : St → Prop} (h : RCn σ τ t i c) (hst : 2 ≤ (c 0)) (hl : 0 < (c 1) + (c 5) + (c 17) - (c 3)) (h1 : oM c → w11_sendPart σ i (nI (oN c + oF c)) (fun s => w11_output_L2 i Q K n s 1)) (h0 : ¬ oM c → w11_output_L2 i Q K n σ 0) : w11_output_L2 i Q K (n + 1) σ 1 := by
  have q1 := h.ua
  have q2 := h.ax
  have q3 := h.xe
  have q4 := h.bu hst
  have q5 := h.f1
  have q6 := h.d1
  have q7 := h.bb
  have q8 := h.ms1
  have q9 := h.ms2
  have q10 := h.cw2
  have q11 := h.wn6
  have q12 := h.L6
  have eend : (σ 11 i 26) + (σ 13 i 1) = (τ 15 i 3) + nI ((c 1) + (c 5)) := by rw [h.eba, h.eL, so_5]
  have hD : imin (nI (c 9)) (nI ((c 1) + (c 5) - (c 3))) = nI (oD c) := imin_n (by omega) (by omega)
  refine br_f (by decide) (s11_left h hst ?_)
  show ((¬ imin ((σ 11 i 13)) ((σ 11 i 26) + (σ 13 i 1) - (σ 11 i 10)) = (σ 11 i 26) + (σ 13 i 1) - (σ 11 i 10) → _) ∧ _)
  rw [eend, h.eat, so_4 _ _ _ (by omega), h.ems, hD]
  -- the second half of the round
  have j52 : ∀ M : Nat, M = (if oD c = (c 1) + (c 5) - (c 3) then oD c + (c 17) else oD c) → w11_output_J52 σ i (nI ((c 1) + (c 5) + (c 17) - (c 3))) (nI M) Q (fun σz x1z => w11_output_L2 i Q K n σz x1z) := by
    intro M hM
    have hDle : oD c ≤ (c 1) + (c 5) - (c 3) := by unfold oD; omega
    have hDms : oD c ≤ (c 9) := by unfold oD; omega
    have hMb : M ≤ 1461 := by rw [hM]; split <;> omega
    unfold w11_output_J52
    show (nI ((c 1) + (c 5) + (c 17) - (c 3)) ≤ 0 → _) ∧ _
    refine br_f (nI_nle (by omega) (by omega)) ?_
    show (imin (nI M) (imin ((σ 11 i 14)) ((σ 11 i 12)) - ((σ 11 i 10) - (σ 11 i 9))) ≤ 0 → _) ∧ (_ → _ ∧ (_ → _ ∧ (_ → ((¬ (σ 11 i 10) - (σ 11 i 9) = 0 → _) ∧ _))))
    rw [h.ecw, h.ewn, h.eat, h.eun, so_4 _ _ _ q1, imin_n (by omega) (by omega), h.ems]
    by_cases cR : min (c 10) (c 8) ≤ (c 3) - (c 2)
    · have hneg : nI (min (c 10) (c 8)) - nI ((c 3) - (c 2)) ≤ 0 := by
        rw [i32_le0, sub_toInt (by omega) (by omega)]
        omega
      refine br_t (imin_le0 hneg) (br_t rfl (h0 ?_))
      unfold oM oN oF oR
      rw [if_neg (by omega)]
      omega
    · rw [pk_sub (by omega), imin_n (by omega) (by omega)]
      have hn : min M (min (c 10) (c 8) - ((c 3) - (c 2))) = oN c + oF c := by
        rw [hM]
        unfold oN oF
        have eR : oR c = min (c 10) (c 8) - ((c 3) - (c 2)) := rfl
        rw [eR]
        by_cases c1 : oD c = (c 1) + (c 5) - (c 3)
        · rw [if_pos c1]
          by_cases c2 : (c 17) = 1
          · by_cases c3 : oD c < min (c 10) (c 8) - ((c 3) - (c 2))
            · rw [if_pos ⟨c2, c1, c3⟩]; omega
            · rw [if_neg (fun z => c3 z.2.2)]; omega
          · rw [if_neg (fun z => c2 z.1)]; omega
        · rw [if_neg c1, if_neg (fun z => c1 z.2.1)]
          omega
      rw [hn]
      have hF1 : oF c ≤ 1 := by unfold oF; split <;> omega
      have hN0 : oN c ≤ oD c := by unfold oN; omega
      by_cases c0 : oN c + oF c = 0
      · refine br_t (by rw [c0]; decide) (br_t rfl (h0 ?_))
        unfold oM
        omega
      refine br_f (nI_nle (by omega) (by omega)) ?_
      have fin1 : oF c = 1 → oN c + oF c = (c 1) + (c 5) + (c 17) - (c 3) := by
        intro z
        have : (c 17) = 1 ∧ oD c = (c 1) + (c 5) - (c 3) ∧ oD c < oR c := by
          unfold oF at z
          by_cases c9 : (c 17) = 1 ∧ oD c = (c 1) + (c 5) - (c 3) ∧ oD c < oR c
          · exact c9
          · rw [if_neg c9] at z; omega
        have : oN c = oD c := by unfold oN; omega
        omega
      by_cases c1 : (c 9) ≤ oN c + oF c
      · refine br_t (nI_le c1 (by omega)) (br_f (by decide) (h1 ⟨by omega, ?_⟩))
        by_cases c2 : oN c = (c 9)
        · exact Or.inl c2
        · exact Or.inr (Or.inl (fin1 (by omega)))
      · refine br_f (nI_ge (by omega) (by omega)) ?_
        have e2 : nI (oN c + oF c) = nI ((c 1) + (c 5) + (c 17) - (c 3)) ↔ oN c + oF c = (c 1) + (c 5) + (c 17) - (c 3) := nI_eq (by omega) (by omega)
        by_cases c2 : oN c + oF c = (c 1) + (c 5) + (c 17) - (c 3)
        · exact br_t (e2.mpr c2) (br_f (by decide) (h1 ⟨by omega, Or.inr (Or.inl c2)⟩))
        · refine br_f (fun z => c2 (e2.mp z)) ?_
          by_cases c3 : (c 3) = (c 2)
          · refine br_u (by rw [c3, Nat.sub_self]; rfl) (br_f (by decide) (h1 ⟨by omega, Or.inr (Or.inr c3)⟩))
          · refine br_v (nI_ne0 (by omega) (by omega)) (br_t rfl (h0 ?_))
            unfold oM
            omega
  have eD : nI (oD c) = nI ((c 1) + (c 5) - (c 3)) ↔ oD c = (c 1) + (c 5) - (c 3) := nI_eq (by unfold oD; omega) (by omega)
  by_cases c1 : oD c = (c 1) + (c 5) - (c 3)
  · refine br_u (eD.mpr c1) ?_
    rw [nI_1, imin_n (by omega) (by unfold oD; omega)]
    exact j52 _ (by rw [if_pos c1]; omega)
  · exact br_v (fun z => c1 (eD.mp z)) (j52 _ (by rw [if_neg c1]))
theorem s11_round0 {σ τ : St} {t i n : Nat} {c : CK} {Q K : St → Prop} (h : RCn σ τ t i c) (hst : 2 ≤ (c 0)) (hl : (c 1) + (c 5) + (c 17) - (c 3) = 0) (h0 : w11_output_L2 i Q K n σ 0) : w11_output_L2 i Q K (n + 1) σ 1 := by
  refine br_f (by decide) (s11_left h hst ?_)
  rw [hl]
  have j52 : ∀ M : Int32, w11_output_J52 σ i (nI 0) M Q (fun σz x1z => w11_output_L2 i Q K n σz x1z) := by
    intro M
    exact br_t (by decide) (br_t rfl h0)
  exact ⟨fun _ => j52 _, fun _ => j52 _⟩
/-- one round of the model -/
theorem s14_one {σ τ : St} {t i : Nat} {c : CK} {room : Int32} {Q : St → Prop} (h : RCn σ τ t i c) (hst : 2 ≤ (c 0)) (hl : (c 3) ≤ (c 1) + (c 5)) (n : Nat) (hn : imax 0 (imin (nI (oD c)) room) = nI n) (hn2 : n ≤ 1460) (f : Nat) (hf : (f = 1 ∧ (c 17) = 1 ∧ (c 3) + n = (c 1) + (c 5) ∧ ¬ room ≤ nI n) ∨ (f = 0 ∧ ¬ ((c 17) = 1 ∧ (c 3) + n = (c 1) + (c 5) ∧ ¬ room ≤ nI n))) (hq : w14_one_J36 τ i (nI n) (nI f) Q) : w14_one τ i room Q := by
  have q6 := h.d1
  have q7 := h.bb
  have q8 := h.hL
  have q9 := h.ms2
  have q12 := h.L6
  have q4 := h.bu hst
  have q1 := h.ua
  show bo ((τ 15 i 30)) → _
  intro _
  unfold w15_behind
  rw [h.beh, h.eat', h.ed', h.ems', so_4 _ _ _ hl, imin_n (by omega) (by omega), show min (c 9) ((c 1) + (c 5) - (c 3)) = oD c from rfl, hn]
  by_cases c1 : (c 17) = 0
  · have : f = 0 := by omega
    subst this
    exact br_t (by rw [c1]; rfl) hq
  · have c2 : (c 17) = 1 := by omega
    refine br_f (by rw [c2]; decide) ?_
    dsimp only
    rw [so_5]
    have e9 := so_9 ((τ 15 i 3)) (a := (c 3) + n) (b := (c 1) + (c 5)) (by omega) (by omega)
    by_cases c3 : (c 3) + n = (c 1) + (c 5)
    · refine br_u (e9.mpr c3) ?_
      by_cases c4 : room ≤ nI n
      · have : f = 0 := by
          rcases hf with z | z
          · exact absurd c4 z.2.2.2
          · exact z.1
        subst this
        exact br_t c4 hq
      · have : f = 1 := by
          rcases hf with z | z
          · exact z.1
          · exact absurd ⟨c2, c3, c4⟩ z.2
        subst this
        exact br_f c4 hq
    · have : f = 0 := by
        rcases hf with z | z
        · exact absurd z.2.2.1 c3
        · exact z.1
      subst this
      exact br_v (fun z => c3 (e9.mp z)) hq
theorem s14_round {σ τ : St} {t i n : Nat} {c : CK} {Q K : St → Prop} (h : RCn σ τ t i c) (hst : 2 ≤ (c 0)) (hl : 0 < (c 1) + (c 5) + (c 17) - (c 3)) (h1 : oM c → w14_one_J36 τ i (nI (oN c)) (nI (oF c)) (fun s => w15_left s i (s 15 i 5) (fun r3 => ((r3 ≤ 0 → w14_sendAll_L17 i Q K n s 0) ∧ (¬ r3 ≤ 0 → w14_sendAll_L17 i Q K n s 1))))) (h0 : ¬ oM c → w14_sendAll_L17 i Q K n τ 0) : w14_sendAll_L17 i Q K (n + 1) τ 1 := by
  have q1 := h.ua
  have q2 := h.ax
  have q3 := h.xe
  have q4 := h.bu hst
  have q5 := h.f1
  have q6 := h.d1
  have q7 := h.bb
  have q8 := h.ms1
  have q9 := h.ms2
  have q10 := h.cw2
  have q11 := h.wn6
  have q12 := h.L6
  have q13 := h.hL
  have hDle : oD c ≤ (c 1) + (c 5) - (c 3) := by unfold oD; omega
  have hDms : oD c ≤ (c 9) := by unfold oD; omega
  have hF1 : oF c ≤ 1 := by unfold oF; split <;> omega
  have hN0 : oN c ≤ oD c := by unfold oN; omega
  generalize hroom : nI (min (c 10) (c 8)) - nI ((c 3) - (c 2)) = room
  have eroom : imin ((τ 15 i 11)) ((τ 15 i 7)) - ((τ 15 i 5) - (τ 15 i 4)) = room := by rw [h.ecw', h.ewn', h.eat', h.eun', so_4 _ _ _ q1, imin_n (by omega) (by omega)]; exact hroom
  have eflight : (τ 15 i 5) - (τ 15 i 4) = nI ((c 3) - (c 2)) := by rw [h.eat', h.eun', so_4 _ _ _ q1]
  have ebeh : ((τ 15 i 29) + (τ 15 i 26)) + (τ 15 i 28) = (τ 15 i 3) + nI ((c 1) + (c 5)) := h.beh
  -- what the room is, and what follows
  have hn : imax 0 (imin (nI (oD c)) room) = nI (oN c) ∧ (room ≤ nI (oN c) ↔ ¬ oN c < oR c) := by
    by_cases cR : min (c 10) (c 8) ≤ (c 3) - (c 2)
    · have hneg : room ≤ 0 := by
        rw [← hroom, i32_le0, sub_toInt (by omega) (by omega)]
        omega
      have eR : oR c = 0 := by unfold oR; omega
      have eN : oN c = 0 := by unfold oN; omega
      rw [imax_0 (imin_le0 hneg), eN]
      exact ⟨rfl, ⟨fun _ => by omega, fun _ => hneg⟩⟩
    · rw [← hroom, pk_sub (by omega), imin_n (by omega) (by omega)]
      have eR : oR c = min (c 10) (c 8) - ((c 3) - (c 2)) := rfl
      rw [← eR]
      have z0 : imax 0 (nI (min (oD c) (oR c))) = nI (oN c) := by
        have := imax_n (a := 0) (b := min (oD c) (oR c)) (by omega) (by omega)
        rw [Nat.zero_max] at this
        exact this
      refine ⟨z0, ?_⟩
      rw [nI_leI (by omega) (by omega)]
      omega
  -- whether a FIN goes
  have hfin : (oF c = 1 ∧ (c 17) = 1 ∧ (c 3) + oN c = (c 1) + (c 5) ∧ ¬ room ≤ nI (oN c)) ∨ (oF c = 0 ∧ ¬ ((c 17) = 1 ∧ (c 3) + oN c = (c 1) + (c 5) ∧ ¬ room ≤ nI (oN c))) := by
    rw [hn.2]
    unfold oF
    by_cases c9 : (c 17) = 1 ∧ oD c = (c 1) + (c 5) - (c 3) ∧ oD c < oR c
    · rw [if_pos c9]
      have : oN c = oD c := by unfold oN; omega
      exact Or.inl ⟨rfl, c9.1, by omega, by omega⟩
    · rw [if_neg c9]
      refine Or.inr ⟨rfl, fun z => c9 ⟨z.1, ?_, ?_⟩⟩
      · omega
      · have : oN c = min (oD c) (oR c) := rfl
        omega
  -- the second half
  have j101 : w14_sendAll_J101 τ i (nI ((c 3) - (c 2))) room (nI (oN c)) (nI (oF c)) (nI (oN c)) Q (fun σz x2z => w14_sendAll_L17 i Q K n σz x2z) := by
    unfold w14_sendAll_J101
    rw [nI_add, h.ems']
    by_cases c0 : oN c + oF c = 0
    · exact br_t (by rw [c0]; decide) (br_t rfl (br_t rfl (h0 (by unfold oM; omega))))
    refine br_f (nI_nle (by omega) (by omega)) ?_
    have send : oM c → w14_one τ i room (fun σ5 => (w14_sendAll_J152 σ5 i 1 Q (fun σz x2z => w14_sendAll_L17 i Q K n σz x2z))) := by
      intro hm
      refine s14_one h hst (by omega) (oN c) hn.1 (by omega) (oF c) hfin ?_
      obtain hh := h1 hm
      refine cast ?_ hh
      congr 1
      funext s
      unfold w14_sendAll_J152
      simp
    have e1 : nI (oN c) = nI (c 9) ↔ oN c = (c 9) := nI_eq (by omega) (by omega)
    by_cases c1 : oN c = (c 9)
    · exact br_t (e1.mpr c1) (br_f (by decide) (send ⟨by omega, Or.inl c1⟩))
    · refine br_f (fun z => c1 (e1.mp z)) (s15_left h ?_)
      have e2 : nI (oN c + oF c) = nI ((c 1) + (c 5) + (c 17) - (c 3)) ↔ oN c + oF c = (c 1) + (c 5) + (c 17) - (c 3) := nI_eq (by omega) (by omega)
      by_cases c2 : oN c + oF c = (c 1) + (c 5) + (c 17) - (c 3)
      · exact br_t (e2.mpr c2) (br_f (by decide) (send ⟨by omega, Or.inr (Or.inl c2)⟩))
      · refine br_f (fun z => c2 (e2.mp z)) ?_
        by_cases c3 : (c 3) = (c 2)
        · exact br_u (by rw [c3, Nat.sub_self]; rfl) (br_f (by decide) (send ⟨by omega, Or.inr (Or.inr c3)⟩))
        · exact br_v (nI_ne0 (by omega) (by omega)) (br_t rfl (br_t rfl (h0 (by unfold oM; omega))))
  refine br_f (by decide) ?_
  unfold w14_dataWithin w15_behind
  rw [eroom, eflight, ebeh]
  dsimp only
  rw [h.ems', h.eat', so_4 _ _ _ (by omega), imin_n (by omega) (by omega), show min (c 9) ((c 1) + (c 5) - (c 3)) = oD c from rfl, hn.1]
  intro _
  rw [h.ed']
  have e9 := so_9 ((τ 15 i 3)) (a := (c 3) + oN c) (b := (c 1) + (c 5)) (by omega) (by omega)
  by_cases c1 : (c 17) = 0
  · have f0 : oF c = 0 := by omega
    rw [f0] at j101
    exact br_t (by rw [c1]; rfl) (br_t rfl j101)
  · have c2 : (c 17) = 1 := by omega
    refine br_f (by rw [c2]; decide) ?_
    rw [so_5]
    by_cases c3 : (c 3) + oN c = (c 1) + (c 5)
    · refine br_u (e9.mpr c3) ?_
      by_cases c4 : room ≤ nI (oN c)
      · have f0 : oF c = 0 := by
          rcases hfin with z | z
          · exact absurd c4 z.2.2.2
          · exact z.1
        rw [f0] at j101
        exact br_t c4 (br_t rfl j101)
      · have f0 : oF c = 1 := by
          rcases hfin with z | z
          · exact z.1
          · exact absurd ⟨c2, c3, c4⟩ z.2
        rw [f0] at j101
        exact br_f c4 (br_f (by decide) j101)
    · have f0 : oF c = 0 := by
        rcases hfin with z | z
        · exact absurd z.2.2.1 c3
        · exact z.1
      rw [f0] at j101
      exact br_v (fun z => c3 (e9.mp z)) (br_t rfl j101)
