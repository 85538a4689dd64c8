/-! feed, end, install, boot, damage -/
set_option maxRecDepth 100000
theorem BT.f {n : Nat} {σ τ σ' τ' : St} (h : BT n σ τ) (f : Fr (mF [20] [] [(0, [1])] []) σ σ') (g : Fr (mF [50] [] [(14, [1])] []) τ τ') : BT (n + 1) σ' τ' := by
  obtain ⟨t, l, b, B, h1, h2, h3, h4, hZ, hF⟩ := h
  exact ⟨t, l, b, B, by omega, by omega, h3, by omega, hZ.o (hZ.nb.f f g) (hZ.rk.f f g) (Nat.le_refl _) f g (hZ.st.f f g), hF.f f g⟩
theorem GR.tray {n : Nat} {σ τ σ' τ' : St} (h : GR n σ τ) (f : Fr (mF [20] [] [(0, [1])] []) σ σ') (g : Fr (mF [50] [] [(14, [1])] []) τ τ') (hT : RT σ' τ') : GR (n + 1) σ' τ' := by
  refine GR.mk hT (h.rg.c (f _ _ _ rfl) (f.row fun _ => rfl) (g _ _ _ rfl) (g.row fun _ => rfl)) (by rw [f _ _ _ rfl]; exact h.r1) (by rw [f _ _ _ rfl]; exact h.r2) (h.pb.f f g) (by rw [f _ _ _ rfl, g _ _ _ rfl]; exact h.bo) (by rw [g _ _ _ rfl]; exact h.sy) (fun z => (h.bt ?_).f f g)
  rw [f _ _ _ rfl] at z
  exact z
theorem jg_feed {n : Nat} {σ τ : St} (ok : okS σ) (ok' : okS τ) (h : GR n σ τ) (a b c d e : Int32) : w0_feed σ a b c d e (fun r σ' => w14_feed τ a b c d e (fun r' τ' => r = r' ∧ GR (n + 1) σ' τ')) := by
  obtain ⟨r, σ', τ', g1, g2, k1, k2, f1, f2, hT⟩ := R_feed ok ok' h.rt a b c d e
  exact g1 _ (g2 _ ⟨rfl, h.tray f1 f2 hT⟩)
theorem jg_end {n : Nat} {σ τ : St} (ok : okS σ) (ok' : okS τ) (h : GR n σ τ) (a : Int32) : w0_end σ a (fun r σ' => w14_end τ a (fun r' τ' => r = r' ∧ GR (n + 1) σ' τ')) := by
  obtain ⟨r, σ', τ', g1, g2, k1, k2, f1, f2, hT⟩ := R_end ok ok' h.rt a
  exact g1 _ (g2 _ ⟨rfl, h.tray (f1.sub (mF_sub rfl sub_nil rfl sud_nil)) (f2.sub (mF_sub rfl sub_nil rfl sud_nil)) hT⟩)
theorem GR.fre {n : Nat} {σ τ : St} (h : GR n σ τ) : fre σ 21 := by
  refine ⟨?_, h.pb.sg.1⟩
  rw [h.r1, cl (by omega)]
  decide
theorem jg_install {n : Nat} {σ τ : St} (ok : okS σ) (ok' : okS τ) (h : GR n σ τ) : w0_install σ (fun r σ' => w14_install τ (fun r' τ' => r = r' ∧ GR (n + 1) σ' τ')) := by
  obtain ⟨r, σ', τ', g1, g2, k1, k2, f1, f2, hT, hG, p1, p2⟩ := R_install ok ok' h.rt h.rg h.fre
  refine g1 _ (g2 _ ⟨rfl, ?_⟩)
  by_cases c : r < 0
  · obtain ⟨rfl, rfl⟩ := p1 c
    exact h.up
  · obtain ⟨q1, q2⟩ := p2 c
    refine GR.mk hT hG (by rw [f1 _ _ _ rfl]; exact h.r1) (by rw [f1 _ _ _ rfl]; exact h.r2) (h.pb.f f1 f2 (a7 := fun i => by simp [mF])) (q1.trans q2.symm) (by rw [f2 _ _ _ rfl]; exact h.sy) (fun z => absurd q1 z)
/-- what has just been booted -/
theorem Beg.bt {σ' τ' : St} (hB : Beg σ' τ') (hM : RM σ' τ') (hX : RX σ' τ') (hG : RG σ' τ') (hp : PB σ' τ') (r1 : σ' 1 0 3 = nI 22) (r2 : σ' 1 0 103 = nI 0) : RZ σ' τ' 0 0 32 1 ∧ RF σ' τ' 0 0 := by
  obtain ⟨⟨b1, b2⟩, ⟨n1, n2⟩, ⟨s1, s2⟩, ⟨h1, h2⟩, ⟨w1, w2⟩, ⟨f1, f2⟩, ⟨i1, i2⟩, o1, g1, y1, ⟨c1, c2, c3, c4, c5, c6, c7, c8⟩, c9, pl⟩ := hB
  have hW := WS_le τ'
  constructor
  · refine RZ.mk ⟨0, 0, ⟨hM, ⟨n1, n2, s1, s2, fun k _ hk => by omega⟩, ⟨0, by omega, h1, fun k hk => by omega, fun k _ hk => h2 k hk⟩, ⟨0, by omega, w1, o1, cnt_none (fun j hj => w2 j hj), fun _ => 0, fun _ => 0, fun k hk => by omega, fun k k' _ hk => by omega, fun j hj hu => absurd (w2 j hj) hu, fun k k' hk => by omega⟩, hp.ra, hp.pm⟩, i1.trans i2.symm, by omega, by omega, by omega, y1, by omega⟩ ?_ hp.hd (c6.trans g1.symm) ⟨hG, hX, r1, r2⟩ (fun i hi => Or.inl ?_) hp.rm (fun i j hi hj _ z => absurd (pl i hi).1 z) hp.sg
    · exact ⟨c2.trans (c9 0 (by omega)).symm, c1.trans (c9 1 (by omega)).symm, c3.trans (c9 2 (by omega)).symm, c4.trans (c9 3 (by omega)).symm, c5.trans (c9 4 (by omega)).symm, c6.trans (c9 5 (by omega)).symm, c7.trans (c9 6 (by omega)).symm, c8.trans (c9 7 (by omega)).symm⟩
    · exact ⟨(pl i hi).1, (pl i hi).2.2.2, (pl i hi).2.1, (pl i hi).2.2.1, (pl i hi).2.2.2, hp.ro i hi⟩
  · exact ⟨0, fun _ => 0, fun _ => 0, by omega, f1, cnt_none (fun j hj => f2 j hj), fun k hk => by omega, fun k k' _ hk => by omega, fun j hj hu => absurd (f2 j hj) hu, fun k k' hk => by omega, hp.pf⟩
theorem jg_boot {n : Nat} {σ τ : St} (ok : okS σ) (ok' : okS τ) (h : GR n σ τ) (a b c d e : Int32) : w0_boot σ a b c d e (fun r σ' => w14_boot τ a b c d e (fun r' τ' => r = r' ∧ GR (n + 1) σ' τ')) := by
  obtain ⟨r, σ', h1, k1, f1, g1⟩ := e0_boot ok (j_boot ok ok' h.rt h.rg h.r1 h.r2 a b c d e)
  obtain ⟨r', τ', ⟨rfl, h2⟩, k2, f2, g2⟩ := e14_boot ok' h1
  refine g1 _ (g2 _ ⟨rfl, ?_⟩)
  rcases h2 with ⟨_, rfl, rfl⟩ | ⟨_, hT, hG, hX, hM, hB, r1, r2⟩
  · exact h.up
  · have hp : PB σ' τ' := h.pb.f f1 f2
    obtain ⟨z1, z2⟩ := hB.bt hM hX hG hp r1 r2
    exact GR.of z1 z2 hT (hB.1.1.trans hB.1.2.symm) (by omega) (by omega) (by omega) (by omega)
/-- a connection that has nothing to send and nothing on its way: the image may change -/
theorem RCn.dam {σ τ σ' τ' : St} {t i : Nat} {c : CK} (h : RCn σ τ t i c) (hq : (c 1) + (c 5) ≤ (c 2)) (f : Fr (mF [21] [] [] []) σ σ') (g : Fr (mF [51] [] [] []) τ τ') : RCn σ' τ' t i c := by
  have a1 : σ' 11 i = σ 11 i := f.row fun _ => rfl
  have a2 : σ' 12 i = σ 12 i := f.row fun _ => rfl
  have a3 : σ' 13 i = σ 13 i := f.row fun _ => rfl
  have a4 : σ' 42 i = σ 42 i := f.row fun _ => rfl
  have a5 : σ' 43 i = σ 43 i := f.row fun _ => rfl
  have a7 : σ' 90 (i + 1) 0 = σ 90 (i + 1) 0 := f _ _ _ rfl
  have b1 : τ' 15 i = τ 15 i := g.row fun _ => rfl
  have b3 : τ' 72 i = τ 72 i := g.row fun _ => rfl
  have b4 : τ' 73 i = τ 73 i := g.row fun _ => rfl
  have n1 : ∀ j, (c 2) ≤ (c 1) + j → j < (c 5) → (σ' 44 i) j = if j < (c 6) then (τ' 71 i) j else (τ' 51 0) ((c 7) + (j - (c 6))) := fun j x y => by omega
  obtain ⟨est, est', s1, s8, eip, ept, eiss, enx, ews, ewa, eun, eun', eat, eat', emx, emx', eba, eba', ua, ax, xe, syn, sy2, bu, bb, ewn, ewn', wn6, ems, ems', ms1, ms2, ecw, ecw', cw1, cw2, ess, ess', ss1, ss2, ert, ert', rt1, rt2, etr, etr', tr8, edu, erc, ehd, ehd', hd4, eft, etd, etd', td4, esk, esk', sk6, eow, efc, efn, eL, ehl, ebl, hL, bml, bmb, bmL, h5, epl, pl6, eab, eal, L6, ed, ed', d1, ef, ef', f1, fst, fin, eto, etm, tin, eti, etn, ets, eme, esr, eac, erow, ethr⟩ := id (h)
  apply RCn.mk <;> (try rw [a1]) <;> (try rw [a2]) <;> (try rw [a3]) <;> (try rw [a4]) <;> (try rw [a5]) <;> (try rw [a7]) <;> (try rw [b1]) <;> (try rw [b3]) <;> (try rw [b4]) <;> assumption
/-- busy -/
def bz (c : CK) : Prop := (c 4) ≠ (c 2) ∨ (2 ≤ (c 0) ∧ 0 < (c 1) + (c 5) + (c 17) - (c 3))
theorem s11_isBusy {σ τ : St} {t i : Nat} {c : CK} {Q : Int32 → Prop} (h : RCn σ τ t i c) (h1 : bz c → Q 1) (h0 : ¬ bz c → Q 0) : w11_isBusy σ i Q := by
  have q1 := h.s1
  have q8 := h.s8
  have q3 := h.bb
  have q4 := h.ax
  have q5 := h.xe
  have q6 := h.f1
  have q7 := h.ua
  have q9 := h.d1
  refine br_f (by rw [h.est]; exact nI_ne0 (by omega) (by omega)) ?_
  have e9 := so_9 ((τ 15 i 3)) (a := (c 4)) (b := (c 2)) (by omega) (by omega)
  have tail : ∀ v : Nat, v < 2147483648 → (0 < v ↔ 2 ≤ (c 0) ∧ 0 < (c 1) + (c 5) + (c 17) - (c 3)) → ((0 < nI v → Q 1) ∧ (¬ 0 < nI v → (((σ 11 i 11) = (σ 11 i 9) → Q 0) ∧ (¬ (σ 11 i 11) = (σ 11 i 9) → Q 1)))) := by
    intro v hv hi
    by_cases c1 : 0 < v
    · exact br_t (nI_lt (a := 0) c1 (by omega)) (h1 (Or.inr (hi.mp c1)))
    refine br_f (nI_nlt (a := 0) (by omega) (by omega)) ?_
    rw [h.emx, h.eun]
    by_cases c2 : (c 4) = (c 2)
    · exact br_t (e9.mpr c2) (h0 (fun z => z.elim (fun y => y c2) (fun y => c1 (hi.mpr y))))
    · exact br_f (fun z => c2 (e9.mp z)) (h1 (Or.inl c2))
  by_cases s2 : 2 ≤ (c 0)
  · exact s11_left h s2 (tail _ (by omega) ⟨fun z => ⟨s2, z⟩, fun z => z.2⟩)
  · refine br_f (by rw [h.est]; exact nI_ge (a := (c 0)) (b := 2) (by omega) (by omega)) (tail 0 (by omega) ⟨fun z => by omega, fun z => absurd z.1 s2⟩)
/-- one place, both sides -/
def quietC (σ : St) (k : Nat) : Prop := ∀ Q : Int32 → Prop, Q 0 → w11_isBusy σ k Q
def busyC (σ : St) (k : Nat) : Prop := ∀ Q : Int32 → Prop, Q 1 → w11_isBusy σ k Q
def quietM (τ : St) (k : Nat) : Prop := ∀ A B : Prop, A → (((τ 15 k 0) = 0 → A) ∧ (¬ (τ 15 k 0) = 0 → ((¬ (τ 15 k 4) = (τ 15 k 6) → B) ∧ ((τ 15 k 4) = (τ 15 k 6) → (w15_left τ k (τ 15 k 5) (fun r2 => ((r2 ≤ 0 → A) ∧ (¬ r2 ≤ 0 → B))))))))
def busyM (τ : St) (k : Nat) : Prop := ∀ A B : Prop, B → (((τ 15 k 0) = 0 → A) ∧ (¬ (τ 15 k 0) = 0 → ((¬ (τ 15 k 4) = (τ 15 k 6) → B) ∧ ((τ 15 k 4) = (τ 15 k 6) → (w15_left τ k (τ 15 k 5) (fun r2 => ((r2 ≤ 0 → A) ∧ (¬ r2 ≤ 0 → B))))))))
theorem place_q {σ τ : St} {t k B : Nat} (h : RC0 σ τ k ∨ RCB σ τ t k B) : (quietC σ k ∧ quietM τ k ∧ (RC0 σ τ k ∨ ∃ c, RCn σ τ t k c ∧ RCl σ τ t k c ∧ (c 1) + (c 5) ≤ B ∧ (c 1) + (c 5) ≤ (c 2))) ∨ (busyC σ k ∧ busyM τ k) := by
  rcases h with h | ⟨c, h, hl, hB⟩
  · exact Or.inl ⟨fun Q hq => br_t h.1 hq, fun A B ha => br_t h.2.1 ha, Or.inl h⟩
  have q1 := h.s1
  have q8 := h.s8
  have q3 := h.bb
  have q4 := h.ax
  have q5 := h.xe
  have q6 := h.f1
  have q7 := h.ua
  have q9 := h.d1
  have hs := h.syn
  have n0 : ¬ τ 15 k 0 = 0 := by rw [h.est']; exact nI_ne0 (by omega) (by omega)
  have e9 := so_9 ((τ 15 k 3)) (a := (c 2)) (b := (c 4)) (by omega) (by omega)
  have e9' : τ 15 k 4 = τ 15 k 6 ↔ (c 2) = (c 4) := by rw [h.eun', h.emx']; exact e9
  by_cases cb : bz c
  · refine Or.inr ⟨fun Q hq => s11_isBusy h (fun _ => hq) (fun z => absurd cb z), fun A B hb => br_f n0 ?_⟩
    by_cases c2 : (c 2) = (c 4)
    · refine br_u (e9'.mpr c2) (s15_left h (br_f ?_ hb))
      rcases cb with y | y
      · exact absurd c2.symm y
      · exact nI_nle y.2 (by omega)
    · exact br_v (fun z => c2 (e9'.mp z)) hb
  · have x1 : (c 4) = (c 2) := Classical.byContradiction fun z => cb (Or.inl z)
    have st2 : 2 ≤ (c 0) := by
      by_cases y : (c 0) = 1
      · have := hs y; omega
      · omega
    have x2 : ¬ 0 < (c 1) + (c 5) + (c 17) - (c 3) := fun z => cb (Or.inr ⟨st2, z⟩)
    refine Or.inl ⟨fun Q hq => s11_isBusy h (fun z => absurd z cb) (fun _ => hq), fun A B ha => br_f n0 (br_u (e9'.mpr x1.symm) (s15_left h (br_t ?_ ha))), Or.inr ⟨c, h, hl, hB, by omega⟩⟩
    rw [show (c 1) + (c 5) + (c 17) - (c 3) = 0 by omega]
    decide
theorem s0_damage_L {σ : St} {x1 x2 : Int32} {Q : Int32 → St → Prop} {A B : Prop} {p : Nat} (hon : ¬ σ 0 0 11 = 0) (hp : p ≤ 16) (hq : ∀ k, k < p → quietC σ k) (hA : p < 16 → busyC σ p ∧ A) (hB : p = 16 → B) : ∀ (m j : Nat), j + m = p → w0_damage_L20 σ x1 x2 Q A B (m + 1) (nI j) := by
  intro m
  induction m with
  | zero =>
    intro j hj
    obtain rfl : j = p := by omega
    by_cases c : j = 16
    · exact br_t (by rw [c]; decide) (hB c)
    · refine br_f (nI_ge (b := 16) (by omega) (by omega)) (fun _ => br_f hon ⟨vin (by omega) (by omega), ?_⟩)
      rw [cl (by omega)]
      exact (hA (by omega)).1 _ (br_f (by decide) (hA (by omega)).2)
  | succ m ih =>
    intro j hj
    refine br_f (nI_ge (b := 16) (by omega) (by omega)) (fun _ => br_f hon ⟨vin (by omega) (by omega), ?_⟩)
    rw [cl (by omega), nI_1]
    exact hq j (by omega) _ (br_t rfl (ih (j + 1) (by omega)))
theorem s14_damage_L {τ : St} {x1 x2 : Int32} {Q : Int32 → St → Prop} {A B : Prop} {p : Nat} (hon : ¬ τ 14 0 4 = 0) (hp : p ≤ 16) (hq : ∀ k, k < p → quietM τ k) (hA : p < 16 → busyM τ p ∧ A) (hB : p = 16 → B) : ∀ (m j : Nat), j + m = p → w14_damage_L16 τ x1 x2 Q A B (m + 1) (nI j) := by
  intro m
  induction m with
  | zero =>
    intro j hj
    obtain rfl : j = p := by omega
    by_cases c : j = 16
    · exact br_t (by rw [c]; decide) (hB c)
    · refine br_f (nI_ge (b := 16) (by omega) (by omega)) (fun _ => br_f hon ⟨vin (by omega) (by omega), ?_⟩)
      rw [cl (by omega)]
      exact (hA (by omega)).1 _ _ (hA (by omega)).2
  | succ m ih =>
    intro j hj
    refine br_f (nI_ge (b := 16) (by omega) (by omega)) (fun _ => br_f hon ⟨vin (by omega) (by omega), ?_⟩)
    rw [cl (by omega), nI_1]
    exact hq j (by omega) _ _ (ih (j + 1) (by omega))
theorem s0_damage_0 {σ : St} {x1 x2 : Int32} {Q : Int32 → St → Prop} {A B : Prop} (hoff : σ 0 0 11 = 0) (hB : B) : ∀ (m j : Nat), j + m = 16 → w0_damage_L20 σ x1 x2 Q A B (m + 1) (nI j) := by
  intro m
  induction m with
  | zero => intro j hj; exact br_t (nI_le (a := 16) (by omega) (by omega)) hB
  | succ m ih =>
    intro j hj
    refine br_f (nI_ge (b := 16) (by omega) (by omega)) (fun _ => br_t hoff ?_)
    rw [nI_1]
    exact ih (j + 1) (by omega)
theorem RG.dam {σ τ σ' τ' : St} {X n : Nat} {v : Int32} (h : ∀ j, j < n → (σ 21 0) j = (τ 51 0) j) (hn : n ≤ 65535) (e1 : σ 90 0 0 = nI n) (e2 : (τ 14 0 3) = nI n) (d1 : σ' = up3 σ 21 0 X v) (d2 : τ' = up3 τ 51 0 X v) : RG σ' τ' := by
  refine ⟨n, hn, by rw [d1, up3_g, if_neg (by omega)]; exact e1, by rw [d2, up3_g, if_neg (by omega)]; exact e2, fun j hj => ?_⟩
  rw [d1, d2, up3_g, up3_g]
  by_cases c : j = X
  · rw [if_pos ⟨rfl, rfl, c⟩, if_pos ⟨rfl, rfl, c⟩]
  · rw [if_neg (fun z => c z.2.2), if_neg (fun z => c z.2.2)]
    exact h j hj
theorem jg_damage {n : Nat} {σ τ : St} (ok : okS σ) (ok' : okS τ) (h : GR n σ τ) (x y : Int32) : w0_damage σ x y (fun r σ' => w14_damage τ x y (fun r' τ' => r = r' ∧ GR (n + 1) σ' τ')) := by
  obtain ⟨N, hN, e1, e2, e3⟩ := id h.rg
  have e2' : τ 14 0 3 = nI N := e2
  by_cases c1 : x < 0
  · exact br_t c1 (br_t c1 ⟨rfl, h.up⟩)
  obtain ⟨X, hX, rfl⟩ := nI_of c1
  refine br_f c1 ?_
  rw [e1, cl (by omega)]
  have m1 : ∀ Q : Int32 → St → Prop, _ → w14_damage τ (nI X) y Q := fun Q hq => br_f c1 hq
  rw [e2', cl (by omega)] at m1
  by_cases c2 : X < N
  rotate_left
  · have z : ¬ nI X < nI N := nI_nlt (by omega) (by omega)
    exact br_f z (m1 _ (br_f z ⟨rfl, h.up⟩))
  have z2 : nI X < nI N := nI_lt c2 (by omega)
  have m2 : ∀ Q : Int32 → St → Prop, _ → w14_damage τ (nI X) y Q := fun Q hq => m1 Q (br_t z2 hq)
  refine br_t z2 ?_
  rw [cl (by omega)]
  have vC : vp_in (nI X) N := vin c2 (by omega)
  have vM : vp_in (nI X) 65535 := vin (by omega) (by omega)
  by_cases c : σ 0 0 11 = 0
  · refine ⟨17, s0_damage_0 c ⟨vC, fun σ6 d1 => m2 _ ⟨1, br_f (by decide) (fun _ => br_t (h.bo0 c) ⟨vM, fun τ6 d2 => ⟨rfl, ?_⟩⟩)⟩⟩ 16 0 (by omega)⟩
    have F : Fr (mF [21] [] [] []) σ σ6 := by rw [d1]; exact fr_u rfl
    have G : Fr (mF [51] [] [] []) τ τ6 := by rw [d2]; exact fr_u rfl
    exact GR.mk (h.rt.c (F _ _ _ rfl) (F.row fun _ => rfl) (G _ _ _ rfl) (G.row fun _ => rfl)) (RG.dam e3 hN e1 e2 d1 d2) (by rw [F _ _ _ rfl]; exact h.r1) (by rw [F _ _ _ rfl]; exact h.r2) (h.pb.f F G) (by rw [F _ _ _ rfl, G _ _ _ rfl]; exact h.bo) (by rw [G _ _ _ rfl]; exact h.sy) (fun z => absurd (by rw [F _ _ _ rfl]; exact c) z)
  obtain ⟨t, l, b, B, b1, b2, b3, b4, hZ, hF⟩ := h.bt c
  have pq := fun k (hk : k < 16) => place_q (hZ.pl k hk)
  by_cases cb : ∃ k, k < 16 ∧ busyC σ k ∧ busyM τ k
  · obtain ⟨p, hp, ⟨p1, p2⟩, p3⟩ := least 16 cb
    have qq : ∀ k, k < p → quietC σ k ∧ quietM τ k := fun k hk => by
      rcases pq k (by omega) with y | y
      · exact ⟨y.1, y.2.1⟩
      · exact absurd y (p3 k hk)
    exact ⟨p + 1, s0_damage_L c (by omega) (fun k hk => (qq k hk).1) (fun _ => ⟨p1, m2 _ ⟨p + 1, s14_damage_L (h.bo1 c) (by omega) (fun k hk => (qq k hk).2) (fun _ => ⟨p2, rfl, h.up⟩) (fun z => by omega) p 0 (by omega)⟩⟩) (fun z => by omega) p 0 (by omega)⟩
  · have qq : ∀ k, k < 16 → quietC σ k ∧ quietM τ k ∧ (RC0 σ τ k ∨ ∃ c, RCn σ τ t k c ∧ RCl σ τ t k c ∧ (c 1) + (c 5) ≤ B ∧ (c 1) + (c 5) ≤ (c 2)) := fun k hk => by
      rcases pq k hk with y | y
      · exact y
      · exact absurd ⟨k, hk, y⟩ cb
    refine ⟨17, s0_damage_L (p := 16) c (by omega) (fun k hk => (qq k hk).1) (fun z => by omega) (fun _ => ⟨vC, fun σ6 d1 => m2 _ ⟨17, s14_damage_L (p := 16) (h.bo1 c) (by omega) (fun k hk => (qq k hk).2.1) (fun z => by omega) (fun _ => ⟨vM, fun τ6 d2 => ⟨rfl, ?_⟩⟩) 16 0 (by omega)⟩⟩) 16 0 (by omega)⟩
    have F : Fr (mF [21] [] [] []) σ σ6 := by rw [d1]; exact fr_u rfl
    have G : Fr (mF [51] [] [] []) τ τ6 := by rw [d2]; exact fr_u rfl
    have hG6 : RG σ6 τ6 := RG.dam e3 hN e1 e2 d1 d2
    have hX6 : RX σ6 τ6 := hZ.st.2.1.c (F _ _ _ rfl) (F.row fun _ => rfl) (G _ _ _ rfl) (G _ _ _ rfl) (G.row fun _ => rfl) (G.row fun _ => rfl) (G.row fun _ => rfl) (G.row fun _ => rfl)
    have hZ6 : RZ σ6 τ6 t l b B := by
      refine RZ.mk (hZ.nb.f F G) (hZ.rk.f F G) (by rw [F.row (k := 40) fun _ => rfl, G.row (k := 66) fun _ => rfl]; exact hZ.hd) (by rw [F _ _ _ rfl, G _ _ _ rfl]; exact hZ.bg) ⟨hG6, hX6, by rw [F _ _ _ rfl]; exact h.r1, by rw [F _ _ _ rfl]; exact h.r2⟩ (fun k hk => ?_) (fun k hk => by rw [F _ _ _ rfl]; exact hZ.rm k hk) (fun i j hi hj hne => by rw [F.row (k := 11) fun _ => rfl, F.row (k := 11) fun _ => rfl]; exact hZ.uq i j hi hj hne) (hZ.sg.f F (Or.inl rfl))
      rcases (qq k hk).2.2 with y | ⟨c, y1, y2, y3, y4⟩
      · left
        unfold RC0 at y ⊢
        rw [F.row (k := 11) fun _ => rfl, F.row (k := 42) fun _ => rfl, F.row (k := 43) fun _ => rfl, G.row (k := 15) fun _ => rfl, G.row (k := 72) fun _ => rfl, G.row (k := 73) fun _ => rfl]
        exact y
      · exact Or.inr ⟨c, y1.dam y4 F G, y2.c (F.row fun _ => rfl) (G.row fun _ => rfl), y3⟩
    exact GR.of hZ6 (hF.f F G) (h.rt.c (F _ _ _ rfl) (F.row fun _ => rfl) (G _ _ _ rfl) (G.row fun _ => rfl)) (by rw [F _ _ _ rfl, G _ _ _ rfl]; exact h.bo) (by omega) (by omega) b3 (by omega)
