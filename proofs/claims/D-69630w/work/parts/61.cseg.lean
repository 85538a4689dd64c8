/-! a connection's segments -/
set_option maxRecDepth 100000
/-- how many bytes are held, of the model's -/
def mheld (τ : St) (i n : Nat) : Prop := (τ 15 i 36) = (τ 15 i 35) + nI n + (τ 15 i 41)
theorem s15_held {τ : St} {i n : Nat} {Q : Int32 → Prop} (e : mheld τ i n) (hq : Q (nI n)) : w15_held τ i Q := by
  intro hb
  unfold mheld at e
  rcases hb with z | z
  · refine br_t z ?_
    rw [e, z, show (τ 15 i 35) + nI n + 0 - (τ 15 i 35) - 0 = nI n by grind]
    exact hq
  · refine br_f (by rw [z]; decide) ?_
    rw [e, z, show (τ 15 i 35) + nI n + 1 - (τ 15 i 35) - 1 = nI n by grind]
    exact hq
theorem s15_open {τ : St} {i n : Nat} {Q : Int32 → Prop} (e : mheld τ i n) (hn : n ≤ 4096) (hq : Q (nI (4096 - n))) : w15_open τ i Q := by
  refine s15_held e ?_
  rw [show (4096 : Int32) - nI n = nI (4096 - n) from pk_sub (a := 4096) hn]
  exact hq
/-- a segment with an acknowledgement: told, sent, paid -/
def mseg (τ : St) (i : Nat) (seq fl opt n : Int32) (Q : St → Prop) : Prop := w15_open τ i (fun r1 => (w14_segmentOut τ ((τ 15 i 1)) 80 ((τ 15 i 2)) seq ((τ 15 i 36)) fl r1 opt n (fun σ2 => (w14_pays σ2 i (fun σ3 => (Q σ3))))))
abbrev csF (i : Nat) : Nat → Nat → Nat → Bool := mF [23, 25, 26, 32, 35, 36] [] [(2, [3]), (3, [9]), (4, [0, 1, 2, 4]), (5, [2])] [(11, i, [21, 22])]
abbrev csG (i : Nat) : Nat → Nat → Nat → Bool := mF [57, 58, 59, 60, 68] [] [(14, [18, 23, 24, 25]), (17, [0, 1, 2, 3, 4, 5])] [(15, i, [37, 39])]
theorem mR0 {A : List Nat} {B : List (Nat × Nat)} {C : List (Nat × List Nat)} {D : List (Nat × Nat × List Nat)} {k i j : Nat} (h1 : A.contains k = false) (h2 : B.any (fun e => e.1 == k && e.2 == i) = false) (h3 : C.any (fun e => e.1 == k && e.2.contains j) = false) (h4 : D.any (fun e => e.1 == k && e.2.1 == i && e.2.2.contains j) = false) : mF A B C D k i j = false := by
  unfold mF
  rw [h1, h2, h3, h4]
  rfl
theorem R_cseg0 {σ τ : St} {t l b i k3 i3 pl n hd : Nat} {seq fl opt : Int32} {sy : Bool} (ok : okS σ) (ok' : okS τ) (hN : NB σ τ t l b) (hb : b < 2147480000) (eip : (σ 11 i 3) = (τ 15 i 1)) (ept : (σ 11 i 4) = (τ 15 i 2)) (enx : (σ 11 i 6) = (τ 15 i 36)) (ehd : (σ 12 i 2) = nI hd) (ehd' : mheld τ i hd) (hd4 : hd ≤ 4096) (hfl : ¬ (fl &&& 16) = 0) (hsy : (fl &&& 2) = 0 ↔ sy = false) (hopt : opt = if sy then 4 else 0) (hn : sy = true → n = 0) (hn2 : n ≤ 1460) (hk : 0 < n → abc k3 i3 = true ∧ k3 ≠ 36 ∧ pl + n ≤ alen σ k3 i3 ∧ pl < 100000) (hda : ∀ j, j < n → σ k3 i3 (pl + j) = τ 57 0 (54 + j)) :
    RunV σ τ (w11_segment σ i seq fl k3 i3 (nI pl) (nI n)) (mseg τ i seq fl opt (nI n)) (csF i) (csG i) (fun σ' τ' => NB σ' τ' t l (b + 4) ∧ σ' 11 i = va_up (va_up (σ 11 i) 21 (nI (4096 - hd))) 22 0 ∧ τ' 15 i = va_up (va_up (τ 15 i) 39 0) 37 (nI (4096 - hd))) := by
  have ewin : (4096 : Int32) - (σ 12 i 2) = nI (4096 - hd) := by rw [ehd]; exact pk_sub (a := 4096) hd4
  generalize hs2 : up3 σ 11 i 21 (nI (4096 - hd)) = s2
  have f2 : Fr (mF [] [] [] [(11, i, [21])]) σ s2 := by rw [← hs2]; exact fr_u (by simp [mF])
  have f2' : Fr (mF [] [] [(11, [21])] []) σ s2 := by rw [← hs2]; exact fr_u (by rfl)
  have ok2 : okS s2 := by rw [← hs2]; exact ok_n ok rfl
  have hN2 : NB s2 τ t l b := hN.f f2' (Fr.rf (M := mF [] [] [] []))
  have hk11 : 0 < n → k3 ≠ 11 := fun z e => by
    have := (ab_spec (abc_spec (hk z).1).1).1
    omega
  have ral : alen s2 k3 i3 = alen σ k3 i3 := by rw [← hs2, up3_as, alen_row (by decide)]
  obtain ⟨s3, t3, g1, g2, k1, k2, x1, x2, h3⟩ := N_seg (to := (τ 15 i 1)) (port := (τ 15 i 2)) (own := 80) (seq := seq) (ack := (τ 15 i 36)) (wd := nI (4096 - hd)) ok2 ok' hN2 hb hsy hopt hn hn2 (fun z => by rw [ral]; exact hk z) (fun j hj => by rw [← hs2, up3_g, if_neg (fun z => hk11 (by omega) z.1)]; exact hda j hj)
  have v3 : s2 11 i 3 = (τ 15 i 1) := by rw [← hs2, up3_g, if_neg (by omega)]; exact eip
  have v4 : s2 11 i 4 = (τ 15 i 2) := by rw [← hs2, up3_g, if_neg (by omega)]; exact ept
  have v6 : s2 11 i 6 = (τ 15 i 36) := by rw [← hs2, up3_g, if_neg (by omega)]; exact enx
  have v21 : s2 11 i 21 = nI (4096 - hd) := by rw [← hs2, up3_g, if_pos ⟨rfl, rfl, rfl⟩]
  have e11 : s3 11 i = va_up (σ 11 i) 21 (nI (4096 - hd)) := by
    rw [x1.row (fun _ => rfl), ← hs2, up3_r, if_pos ⟨rfl, rfl⟩]
  have e15 : t3 15 i = τ 15 i := x2.row (fun _ => rfl)
  refine ⟨up3 s3 11 i 22 0, up3 (up3 t3 15 i 39 0) 15 i 37 (nI (4096 - hd)), fun Q hq => ?_, fun Q hq => ?_, ok_z k1 rfl (Or.inl rfl), ok_n (ok_z k2 rfl (Or.inl rfl)) rfl, ?_, ?_, ?_, ?_, ?_⟩
  · intro s2' e2
    rw [ewin] at e2
    rw [e2, hs2]
    refine br_f hfl ?_
    unfold w11_segment_J41
    rw [v3, v4, v6, v21]
    exact g1 _ (br_f hfl (fun s4 e4 => by rw [e4]; exact hq))
  · refine s15_open ehd' hd4 (g2 _ ?_)
    intro t4 e4
    have h4 : mheld t4 i hd := by
      unfold mheld
      rw [e4, up3_r, if_pos ⟨rfl, rfl⟩]
      simp only [vu_g, Nat.reduceEqDiff, reduceIte]
      rw [e15]
      exact ehd'
    exact s15_open h4 hd4 (fun s5 e5 => by rw [e5, e4]; exact hq)
  · refine Fr.up ?_ (by simp [mF])
    refine (f2.sub (mF_sub rfl sub_nil rfl (sud_c (Or.inr ⟨_, List.mem_of_getElem? (i := 0) rfl, rfl⟩) sud_nil))).tr (x1.sub (mF_sub rfl sub_nil rfl sud_nil))
  · exact ((x2.sub (mF_sub rfl sub_nil rfl sud_nil)).up (by simp [mF])).up (by simp [mF])
  · exact h3.f (A := mF [] [] [(11, [22])] []) (B := mF [] [] [(15, [37, 39])] []) (fr_u rfl) ((fr_u rfl).up rfl)
  · rw [up3_r, if_pos ⟨rfl, rfl⟩, e11]
  · rw [up3_r, if_pos ⟨rfl, rfl⟩, up3_r, if_pos ⟨rfl, rfl⟩, e15]
/-- the rows of a connection beside its own -/
def crows (σ σ' : St) (i : Nat) : Prop := σ' 12 i = σ 12 i ∧ σ' 13 i = σ 13 i ∧ σ' 42 i = σ 42 i ∧ σ' 43 i = σ 43 i ∧ σ' 44 i = σ 44 i ∧ σ' 90 (i + 1) = σ 90 (i + 1)
def mrows (τ τ' : St) (i : Nat) : Prop := τ' 71 i = τ 71 i ∧ τ' 72 i = τ 72 i ∧ τ' 73 i = τ 73 i ∧ τ' 51 0 = τ 51 0
theorem crows.f {σ σ' : St} {i : Nat} {A : Nat → Nat → Nat → Bool} (f : Fr A σ σ') (a1 : ∀ j, A 12 i j = false := by intro _; rfl) (a2 : ∀ j, A 13 i j = false := by intro _; rfl) (a3 : ∀ j, A 42 i j = false := by intro _; rfl) (a4 : ∀ j, A 43 i j = false := by intro _; rfl) (a5 : ∀ j, A 44 i j = false := by intro _; rfl) (a6 : ∀ j, A 90 (i + 1) j = false := by intro _; rfl) : crows σ σ' i := ⟨f.row a1, f.row a2, f.row a3, f.row a4, f.row a5, f.row a6⟩
theorem mrows.f {τ τ' : St} {i : Nat} {B : Nat → Nat → Nat → Bool} (f : Fr B τ τ') (a1 : ∀ j, B 71 i j = false := by intro _; rfl) (a2 : ∀ j, B 72 i j = false := by intro _; rfl) (a3 : ∀ j, B 73 i j = false := by intro _; rfl) (a4 : ∀ j, B 51 0 j = false := by intro _; rfl) : mrows τ τ' i := ⟨f.row a1, f.row a2, f.row a3, f.row a4⟩
theorem R_ack {σ τ : St} {t l b i : Nat} {c : CK} (ok : okS σ) (ok' : okS τ) (hN : NB σ τ t l b) (hb : b < 2147480000) (hC0 : RCn σ τ t i c) :
    RunV σ τ (w11_acknowledge σ i) (w14_acknowledge τ i) (csF i) (csG i) (fun σ' τ' => NB σ' τ' t l (b + 4) ∧ RCn σ' τ' t i (cup c 15 (4096 - (c 14))) ∧ σ' 11 i = va_up (va_up (σ 11 i) 21 (nI (4096 - (c 14)))) 22 0 ∧ τ' 15 i = va_up (va_up (τ 15 i) 39 0) 37 (nI (4096 - (c 14)))) := by
  obtain ⟨σ', τ', g1, g2, k1, k2, x1, x2, h3, hC, hM⟩ := R_cseg0 (k3 := 0) (i3 := 0) (pl := 0) (n := 0) (seq := (τ 15 i 3) + nI (c 3)) (fl := 16) (opt := 0) (sy := false) ok ok' hN hb hC0.eip hC0.ept hC0.enx hC0.ehd hC0.ehd' hC0.hd4 (by decide) ⟨fun _ => rfl, fun _ => by decide⟩ rfl (fun h => absurd h (by decide)) (by omega) (fun h => absurd h (by omega)) (fun j h => absurd h (by omega))
  refine ⟨σ', τ', fun Q hq => ?_, fun Q hq => ?_, k1, k2, x1, x2, h3, ?_, hC, hM⟩
  · have := g1 Q hq
    unfold w11_acknowledge
    rw [hC0.eat]
    exact this
  · have := g2 Q hq
    unfold w14_acknowledge
    rw [hC0.eat']
    exact this
  · obtain ⟨h12, h13, h42, h43, h44, h90⟩ := crows.f (i := i) x1
    obtain ⟨g71, g72, g73, g51⟩ := mrows.f (i := i) x2
    obtain ⟨est, est', s1, s8, eip, ept, eiss, enx, ews, ewa, eun, eun', eat, eat', emx, emx', eba, eba', ua, ax, xe, syn, sy2, bu, bb, ewn, ewn', wn6, ems, ems', ms1, ms2, ecw, ecw', cw1, cw2, ess, ess', ss1, ss2, ert, ert', rt1, rt2, etr, etr', tr8, edu, erc, ehd, ehd', hd4, eft, etd, etd', td4, esk, esk', sk6, eow, efc, efn, eL, ehl, ebl, hL, bml, bmb, bmL, h5, epl, pl6, eab, eal, L6, ed, ed', d1, ef, ef', f1, fst, fin, eto, etm, tin, eti, etn, ets, eme, esr, eac, erow, ethr⟩ := id (hC0)
    apply RCn.mk <;> (try rw [hC]) <;> (try rw [hM]) <;> (try rw [h12]) <;> (try rw [h13]) <;> (try rw [h42]) <;> (try rw [h43]) <;> (try rw [h44]) <;> (try rw [h90]) <;> (try rw [g71]) <;> (try rw [g72]) <;> (try rw [g73]) <;> (try rw [g51]) <;> (try simp only [vu_g, cup_g, Nat.reduceEqDiff, reduceIte]) <;> (try assumption)
    all_goals first | rfl | omega
