/-! what is answered to a right head -/
set_option maxRecDepth 100000
theorem tail_last {τ : St} {i s : Nat} {x5 x6 : Int32} {stays : Bool} {Q : St → Prop} (hs : s = 400 ∨ s = 413 ∨ s = 501) (hst : (τ 14 0 43) = nI s)
    (hstay : x5 = 0 ∧ stays = false ∨ x5 ≠ 0 ∧ ((τ 14 0 45) = 0 ∧ stays = decide ((τ 14 0 46) = 0) ∨ (τ 14 0 45) ≠ 0 ∧ stays = decide ((τ 14 0 47) ≠ 0 ∧ (τ 14 0 46) = 0)))
    (hq : w14_make τ i x6 1 (fun s28 => mskip s28 i Q)) : w14_answer_J204 τ i x5 x6 Q := by
  refine s14_tail (by omega) hst hstay ?_
  rw [if_pos hs, decide_eq_true (show s = 400 ∨ s = 413 ∨ s = 500 ∨ s = 501 by omega)]
  exact hq
theorem tail_500 {τ : St} {i : Nat} {x5 x6 : Int32} {stays : Bool} {Q : St → Prop} (hst : (τ 14 0 43) = 500)
    (hstay : x5 = 0 ∧ stays = false ∨ x5 ≠ 0 ∧ ((τ 14 0 45) = 0 ∧ stays = decide ((τ 14 0 46) = 0) ∨ (τ 14 0 45) ≠ 0 ∧ stays = decide ((τ 14 0 47) ≠ 0 ∧ (τ 14 0 46) = 0)))
    (hq : w14_make (up3 τ 15 i 38 ((τ 14 0 51))) i x6 1 (fun s28 => mskip s28 i Q)) : w14_answer_J204 τ i x5 x6 Q := by
  refine s14_tail (s := 500) (by omega) hst hstay ?_
  rw [if_neg (by decide), decide_eq_true (by decide)]
  exact hq
theorem tail_keep {τ : St} {i s : Nat} {x5 x6 : Int32} {stays : Bool} {Q : St → Prop} (hs : s = 200 ∨ s = 304 ∨ s = 404 ∨ s = 405) (hst : (τ 14 0 43) = nI s)
    (hstay : x5 = 0 ∧ stays = false ∨ x5 ≠ 0 ∧ ((τ 14 0 45) = 0 ∧ stays = decide ((τ 14 0 46) = 0) ∨ (τ 14 0 45) ≠ 0 ∧ stays = decide ((τ 14 0 47) ≠ 0 ∧ (τ 14 0 46) = 0)))
    (hq : w14_make (up3 τ 15 i 38 ((τ 14 0 51))) i x6 (if !stays then 1 else 0) (fun s28 => mskip s28 i Q)) : w14_answer_J204 τ i x5 x6 Q := by
  refine s14_tail (by omega) hst hstay ?_
  rw [if_neg (by omega), decide_eq_false (show ¬ (s = 400 ∨ s = 413 ∨ s = 500 ∨ s = 501) by omega), Bool.false_or]
  exact hq
theorem c122 {t : St} {s : Nat} {R : Int32 → St → Prop} (hs : 0 < s) (hs2 : s < 1000) (hr : R (-1) (up3 t 14 0 43 (nI s))) : ∀ σ1, σ1 = up3 t 14 0 43 (nI s) → w14_chosen_J122 σ1 R := by
  intro σ1 e1
  subst e1
  exact br_f (by rw [up3_g, if_pos ⟨rfl, rfl, rfl⟩]; exact nI_ne0 (by omega) (by omega)) hr
theorem c221 {t : St} {s : Nat} {x : Int32} {R : Int32 → St → Prop} (hs : s < 1000) (h2 : s ≠ 200) (h3 : s ≠ 304) (hr : R (-1) (up3 t 14 0 43 (nI s))) : ∀ σ1, σ1 = up3 t 14 0 43 (nI s) → w14_chosen_J221 σ1 x R := by
  intro σ1 e1
  subst e1
  have v : up3 t 14 0 43 (nI s) 14 0 43 = nI s := by rw [up3_g, if_pos ⟨rfl, rfl, rfl⟩]
  unfold w14_chosen_J221
  rw [v]
  exact br_f (fun z => h2 ((nI_eq (b := 200) (by omega) (by omega)).mp z)) (br_v (fun z => h3 ((nI_eq (b := 304) (by omega) (by omega)).mp z)) hr)
theorem c221f {t : St} {s : Nat} {x : Int32} {R : Int32 → St → Prop} (hs : s = 200 ∨ s = 304) (hr : R x (up3 t 14 0 43 (nI s))) : ∀ σ1, σ1 = up3 t 14 0 43 (nI s) → w14_chosen_J221 σ1 x R := by
  intro σ1 e1
  subst e1
  have v : up3 t 14 0 43 (nI s) 14 0 43 = nI s := by rw [up3_g, if_pos ⟨rfl, rfl, rfl⟩]
  unfold w14_chosen_J221
  rw [v]
  rcases hs with z | z
  · exact br_t (by rw [z]; rfl) hr
  · exact br_f (by rw [z]; decide) (br_u (by rw [z]; rfl) hr)
theorem FL.c {σ τ σ' τ' : St} {e n p l : Nat} (h : FL σ τ e n p l) (a : σ' 22 0 = σ 22 0) (b2 : τ' 52 0 = τ 52 0) (b3 : τ' 53 0 = τ 53 0) (b4 : τ' 54 0 = τ 54 0) (b5 : τ' 55 0 = τ 55 0) : FL σ' τ' e n p l := by
  exact FL.mk (by rw [a]; exact h.rig) (by rw [a, b2]; exact h.nm) (by rw [a]; exact h.pl1) (by rw [b3]; exact h.pl2) (by rw [a]; exact h.ln1) (by rw [b4]; exact h.ln2) (by rw [a, b5]; exact h.mk1) h.sum
theorem fndf_i {P P' : Nat → Prop} {c : Nat} {r : Int32} (h : ∀ e, e < c → (P e ↔ P' e)) (g : fndf P c r) : fndf P' c r := by
  rcases g with ⟨e, a1, a2, a3, a4⟩ | ⟨a1, a2⟩
  · exact Or.inl ⟨e, a1, a2, (h e a1).mp a3, fun x hx y => a4 x hx ((h x (by omega)).mpr y)⟩
  · exact Or.inr ⟨a1, fun x hx y => a2 x hx ((h x hx).mpr y)⟩
abbrev ansC (σ22 : St) (i : Nat) (Q : Int32 → St → Prop) : Prop := bo (σ22 9 0 6) → (((σ22 9 0 6) = 0 → (((σ22 9 0 7) ≤ 1 → w9_answer_J178 σ22 i i Q) ∧ (¬ (σ22 9 0 7) ≤ 1 → (w9_bad σ22 i (fun r40 σ40 => (Q r40 σ40)))))) ∧ (¬ (σ22 9 0 6) = 0 → (((σ22 9 0 7) = 1 → w9_answer_J178 σ22 i i Q) ∧ (¬ (σ22 9 0 7) = 1 → (w9_bad σ22 i (fun r41 σ41 => (Q r41 σ41)))))))
theorem j_disp {τ0 σ τ : St} {i a b sk : Nat} {N : Nat → Nat} {nw hd : Bool} {M : (St → Prop) → Prop} (hi : i < 16) (ok : okS σ) (ok' : okS τ) (h1 : nC σ = N) (h2 : nM τ = N) (hP : PS σ τ 4100) (hSt : RSt σ τ) (hrm : σ 90 (i + 1) 0 = 0 ∨ σ 90 (i + 1) 0 = 66047) (hfre : fre σ 44) (hsk : (σ 12 i 3) = nI sk) (hsk' : (τ 15 i 38) = nI sk) (hsk6 : sk ≤ 65536) (hat : (τ 15 i 5) = (τ0 15 i 5)) (hct : τ 56 0 = τ0 56 0) (hfr : Fr anG τ0 τ)
    (hnw : (σ 9 0 6) = if nw then 1 else 0) (hov : (τ 14 0 45) = if nw then 0 else 1) (hhd : (σ 9 0 5) = if hd then 1 else 0) (hhd' : (τ 14 0 44) = if hd then 1 else 0) (hhw : hd = true ↔ isW N 0 a 12) (hoth : (τ 14 0 60) = 0 ∧ (isW N 0 a 12 ∨ isW N 0 a 15) ∨ (τ 14 0 60) = 1 ∧ ¬ (isW N 0 a 12 ∨ isW N 0 a 15)) (hst0 : (τ 14 0 43) = 0)
    (e1 : (σ 9 0 3) = nI a) (e2 : (σ 9 0 4) = nI b) (e3 : (τ 14 0 56) = nI (a + 1)) (e4 : (τ 14 0 57) = nI b) (ha16 : a ≤ 16) (hb : b ≤ 4096) (hsl : N (a + 1) = 47) (hab : a + 1 < b) (vs : ∀ k, a < k → k < b → 33 ≤ N k ∧ N k ≤ 126)
    (hup : ∀ Q', w14_chosen τ (fun r27 σ27 => (w14_answer_J204 σ27 i 1 r27 Q')) → M Q') :
    ansC σ i (fun r σ' => (r = 1 ∨ r = 2) ∧ ∃ τ', AnP τ0 i r σ' τ' ∧ ∀ Q', mskip τ' i Q' → M Q') := by
  obtain ⟨hk, hk1, hk2, hk3⟩ := hP.hosts
  obtain ⟨ln, ln1, ln2, ln3, ln4, ln5⟩ := hP.ln
  -- whether the connection stays
  obtain ⟨stays, hstays⟩ : ∃ s : Bool, s = decide (if nw then (τ 14 0 46) = 0 else (τ 14 0 47) ≠ 0 ∧ (τ 14 0 46) = 0) := ⟨_, rfl⟩
  have hstay : ∀ t : St, t 14 0 45 = (τ 14 0 45) → t 14 0 46 = (τ 14 0 46) → t 14 0 47 = (τ 14 0 47) → ((1 : Int32) = 0 ∧ stays = false ∨ (1 : Int32) ≠ 0 ∧ (t 14 0 45 = 0 ∧ stays = decide (t 14 0 46 = 0) ∨ t 14 0 45 ≠ 0 ∧ stays = decide (t 14 0 47 ≠ 0 ∧ t 14 0 46 = 0))) := by
    intro t x1 x2 x3
    refine Or.inr ⟨by decide, ?_⟩
    rw [x1, x2, x3, hov]
    cases nw with
    | true => exact Or.inl ⟨rfl, by rw [hstays]; simp⟩
    | false => exact Or.inr ⟨by decide, by rw [hstays]; simp⟩
  -- a state of the model with a status
  have mks : ∀ (t : St) (s : Nat), okS t → Fr (mF [67] [] [(14, [59])] []) τ t → MkS τ0 (up3 t 14 0 43 (nI s)) i s sk hd := by
    intro t s okt f
    have fr : Fr anG τ0 (up3 t 14 0 43 (nI s)) := (hfr.tr (f.sub (mF_sub rfl sub_nil rfl sud_nil))).up rfl
    refine MkS.mk ?_ ?_ ?_ hsk6 ?_ ?_ fr (ok_n okt rfl)
    · rw [up3_g, if_pos ⟨rfl, rfl, rfl⟩]
    · rw [up3_g, if_neg (by omega), f _ _ _ rfl]; exact hhd'
    · rw [up3_g, if_neg (by omega), f _ _ _ rfl]; exact hsk'
    · rw [up3_g, if_neg (by omega), f _ _ _ rfl]; exact hat
    · rw [up3_r, if_neg (by omega), f.row (k := 56) fun _ => rfl]; exact hct
  have mks2 : ∀ (t : St) (s v : Nat), okS t → Fr (mF [67] [] [(14, [59])] []) τ t → v ≤ 65536 → MkS τ0 (up3 (up3 t 14 0 43 (nI s)) 15 i 38 (nI v)) i s v hd := by
    intro t s v okt f hv
    have h := mks t s okt f
    refine MkS.mk ?_ ?_ ?_ hv ?_ ?_ (h.fr.up rfl) (ok_n h.okm rfl)
    · rw [up3_g, if_neg (by omega)]; exact h.st
    · rw [up3_g, if_neg (by omega)]; exact h.hh
    · rw [up3_g, if_pos ⟨rfl, rfl, rfl⟩]
    · rw [up3_g, if_neg (by omega)]; exact h.at2
    · rw [up3_r, if_neg (by omega)]; exact h.ct
  have fld : ∀ (t : St) (s : Nat) (j : Nat), Fr (mF [67] [] [(14, [59])] []) τ t → j ≠ 43 → j ≠ 59 → up3 t 14 0 43 (nI s) 14 0 j = τ 14 0 j := by
    intro t s j f n1 n2
    rw [up3_g, if_neg (fun z => n1 z.2.2), f _ _ _ (by simp [mF, n2])]
  have s43 : ∀ (t : St) (s : Nat), up3 t 14 0 43 (nI s) 14 0 43 = nI s := fun t s => by rw [up3_g, if_pos ⟨rfl, rfl, rfl⟩]
  have cks : ∀ (σ4 : St), Fr (mF [41] [] [(9, [18])] []) σ σ4 → CkS σ4 i sk hd := by
    intro σ4 f
    refine CkS.mk ?_ ?_ ?_ ?_
    · rw [f _ _ _ rfl]; exact hrm
    · unfold fre; rw [f _ _ _ rfl, f _ _ _ rfl]; exact hfre
    · rw [f _ _ _ rfl]; exact hhd
    · rw [f _ _ _ rfl]; exact hsk
  have cks2 : ∀ (σ4 : St) (v : Nat), Fr (mF [41] [] [(9, [18])] []) σ σ4 → CkS (up3 σ4 12 i 3 (nI v)) i v hd := by
    intro σ4 v f
    have h := cks σ4 f
    refine CkS.mk ?_ ?_ ?_ ?_
    · rw [up3_g, if_neg (by omega)]; exact h.rm
    · unfold fre; rw [up3_g, if_neg (by omega), up3_g, if_neg (by omega)]; exact h.fr4
    · rw [up3_g, if_neg (by omega)]; exact h.hh
    · rw [up3_g, if_pos ⟨rfl, rfl, rfl⟩]
  -- last answers
  have lastH : ∀ (σ4 t4 : St) (s t : Nat), okS t4 → Fr (mF [41] [] [(9, [18])] []) σ σ4 → Fr (mF [67] [] [(14, [59])] []) τ t4 → (s = 400 ∧ t = 19 ∨ s = 413 ∧ t = 14 ∨ s = 501 ∧ t = 13) → (∀ Q', w14_answer_J204 (up3 t4 14 0 43 (nI s)) i 1 (-1) Q' → M Q') → w9_plain σ4 i (nI s) t 1 (fun σ' => ((2 : Int32) = 1 ∨ (2 : Int32) = 2) ∧ ∃ τ', AnP τ0 i 2 σ' τ' ∧ ∀ Q', mskip τ' i Q' → M Q') := by
    intro σ4 t4 s t okt f f4 hs hM
    have htt : t < 83 ∧ tl t = tl (phr s) := by
      rcases hs with ⟨z1, z2⟩ | ⟨z1, z2⟩ | ⟨z1, z2⟩ <;> rw [z1, z2] <;> exact ⟨by decide, by decide⟩
    refine j_plain (d := true) hi (cks σ4 f) (mks t4 s okt f4) (by omega) (by omega) htt.1 htt.2 (fun σ' ⟨τ', ha, h⟩ => ⟨Or.inr rfl, τ', ha, fun Q' hk => hM Q' ?_⟩)
    exact tail_last (stays := stays) (by omega) (s43 _ _) (hstay _ (fld _ _ _ f4 (by decide) (by decide)) (fld _ _ _ f4 (by decide) (by decide)) (fld _ _ _ f4 (by decide) (by decide))) (h Q' hk)
  -- the length of the body
  have len : ln ≤ 1 → ((σ 9 0 13) = 0 ∧ (τ 14 0 52) = 1 ∨ (σ 9 0 13) = 1 ∧ (τ 14 0 52) = 0 ∧ ∃ v : Nat, v < 1000000000 ∧ (σ 9 0 9) = nI v ∧ (v ≤ 65536 ∧ (τ 14 0 53) = 0 ∧ (τ 14 0 51) = nI v ∨ 65536 < v ∧ (τ 14 0 53) = 1)) := by
    intro hl
    by_cases c : ln = 0
    · obtain ⟨z1, z2, z3, z4, z5⟩ := ln4 c
      exact Or.inr ⟨z1, z3, 0, by omega, z2, Or.inl ⟨by omega, z4, z5⟩⟩
    · exact ln5 (by omega)
  -- the kept answers
  have keptH : ∀ (σ4 t4 : St) (s t v : Nat), okS t4 → Fr (mF [41] [] [(9, [18])] []) σ σ4 → Fr (mF [67] [] [(14, [59])] []) τ t4 → (s = 404 ∧ t = 17 ∨ s = 405 ∧ t = 16) → v ≤ 65536 → (σ4 9 0 9) = nI v → (τ 14 0 51) = nI v → (∀ Q', w14_answer_J204 (up3 t4 14 0 43 (nI s)) i 1 (-1) Q' → M Q') → w9_kept σ4 i i (nI s) t (if !stays then 1 else 0) (fun r σ' => (r = 1 ∨ r = 2) ∧ ∃ τ', AnP τ0 i r σ' τ' ∧ ∀ Q', mskip τ' i Q' → M Q') := by
    intro σ4 t4 s t v okt f f4 hs hv b1 b2 hM s1 d1
    rw [b1] at d1
    subst d1
    have htt : t < 83 ∧ tl t = tl (phr s) := by
      rcases hs with ⟨z1, z2⟩ | ⟨z1, z2⟩ <;> rw [z1, z2] <;> exact ⟨by decide, by decide⟩
    refine j_plain (d := !stays) hi (cks2 σ4 v f) (mks2 t4 s v okt f4 hv) (by omega) (by omega) htt.1 htt.2 (fun σ' h => ?_)
    have fin : ∃ τ', AnP τ0 i (nI ((if (!stays) = true then 1 else 0) + 1)) σ' τ' ∧ ∀ Q', mskip τ' i Q' → M Q' := by
      obtain ⟨τ', ha, h⟩ := h
      refine ⟨τ', ha, fun Q' hk => ?_⟩
      refine hM Q' (tail_keep (stays := stays) (by omega) (s43 _ _) (hstay _ (fld _ _ _ f4 (by decide) (by decide)) (fld _ _ _ f4 (by decide) (by decide)) (fld _ _ _ f4 (by decide) (by decide))) ?_)
      rw [fld _ _ 51 f4 (by decide) (by decide), b2]
      exact h Q' hk
    cases stays with
    | true => exact br_t rfl ⟨Or.inl rfl, fin⟩
    | false => exact br_f (by decide) ⟨Or.inr rfl, fin⟩
  -- a file, or none, at last
  have j307 : ∀ v : Nat, v ≤ 65536 → (σ 9 0 9) = nI v → (τ 14 0 51) = nI v → (isW N 0 a 12 ∨ isW N 0 a 15) → (∀ Q', w14_unfolded τ (fun r11 σ11 => ((¬ r11 = 0 → w14_chosen_J122 σ11 (fun r27 σ27 => (w14_answer_J204 σ27 i 1 r27 Q'))) ∧ (r11 = 0 → (∀ σ12, σ12 = up3 σ11 14 0 43 400 → (w14_chosen_J122 σ12 (fun r27 σ27 => (w14_answer_J204 σ27 i 1 r27 Q'))))))) → M Q') → w9_answer_J307 σ i i (if !stays then 1 else 0) (fun r σ' => (r = 1 ∨ r = 2) ∧ ∃ τ', AnP τ0 i r σ' τ' ∧ ∀ Q', mskip τ' i Q' → M Q') := by
    intro v hv b1 b2 _ hM
    obtain ⟨r, σ1, τ1, g1, g2, k1, k2, f1, f2, hr⟩ := R_decode ok ok' h1 h2 hb hsl hab vs e1 e2 e3 e4
    refine g1 _ ?_
    rcases hr with z0 | ⟨z1, pl, pl1, pl2, pl3, pl4, pl5⟩
    · subst z0
      exact br_u rfl (lastH σ1 τ1 400 19 k2 f1 f2 (Or.inl ⟨rfl, rfl⟩) (fun Q' hq => hM Q' (g2 _ (br_u rfl (c122 (s := 400) (by omega) (by omega) hq)))))
    subst z1
    refine br_v (by decide) ?_
    have st0 : τ1 14 0 43 = 0 := by rw [f2 _ _ _ rfl]; exact hst0
    have mo : ∀ Q', w14_found τ1 (fun r2 => ((0 ≤ r2 → (vp_in r2 64 ∧ (vp_in r2 64 ∧ (vp_in r2 64 ∧ (w14_check τ1 (τ1 53 0 r2.toNatClampNeg) ((τ1 53 0 r2.toNatClampNeg) + (τ1 54 0 r2.toNatClampNeg)) (fun r3 => (vp_in r2 64 ∧ ((r3 = (τ1 55 0 r2.toNatClampNeg) → ((¬ (τ1 14 0 50) = 1 → (∀ σ4, σ4 = up3 τ1 14 0 43 200 → (w14_chosen_J221 σ4 r2 (fun r27 σ27 => (w14_answer_J204 σ27 i 1 r27 Q'))))) ∧ ((τ1 14 0 50) = 1 → (w14_fits τ1 r2 (fun r5 => ((r5 = 0 → (∀ σ6, σ6 = up3 τ1 14 0 43 200 → (w14_chosen_J221 σ6 r2 (fun r27 σ27 => (w14_answer_J204 σ27 i 1 r27 Q'))))) ∧ (¬ r5 = 0 → (∀ σ7, σ7 = up3 τ1 14 0 43 304 → (w14_chosen_J221 σ7 r2 (fun r27 σ27 => (w14_answer_J204 σ27 i 1 r27 Q'))))))))))) ∧ (¬ r3 = (τ1 55 0 r2.toNatClampNeg) → (∀ σ8, σ8 = up3 τ1 14 0 43 500 → (w14_chosen_J221 σ8 r2 (fun r27 σ27 => (w14_answer_J204 σ27 i 1 r27 Q'))))))))))))) ∧ (¬ 0 ≤ r2 → (∀ σ9, σ9 = up3 τ1 14 0 43 404 → (w14_chosen_J221 σ9 r2 (fun r27 σ27 => (w14_answer_J204 σ27 i 1 r27 Q'))))))) → M Q' := fun Q' hq => hM Q' (g2 _ (br_v (by decide) (br_t st0 hq)))
    have hSt1 : RSt σ1 τ1 := hSt.f f1 f2
    obtain ⟨n, c, n1, c2, n9, him, cf, cf', hr22, hfl⟩ := hSt1.fl
    have bl1 : σ1 9 0 9 = nI v := by rw [f1 _ _ _ rfl]; exact b1
    -- nothing is found
    have nf : (∀ (R : Int32 → Prop), R (-1) → w14_found τ1 R) → w9_answer_J348 σ1 i i (if !stays then 1 else 0) (-1) (fun r σ' => (r = 1 ∨ r = 2) ∧ ∃ τ', AnP τ0 i r σ' τ' ∧ ∀ Q', mskip τ' i Q' → M Q') := by
      intro hf
      exact br_f (by decide) (keptH σ1 τ1 404 17 v k2 f1 f2 (Or.inl ⟨rfl, rfl⟩) hv bl1 b2 (fun Q' hq => mo Q' (hf _ (br_f (by decide) (c221 (s := 404) (by omega) (by omega) (by omega) hq)))))
    rw [pl3]
    by_cases c47 : pl ≤ 47
    rotate_left
    · exact br_f (nI_ge (a := 47) (by omega) (by omega)) (nf (fun R hR => s14_found cf' c2 pl4 (by omega) (fun _ => hR) (fun z => by omega)))
    refine br_t (nI_le (b := 47) c47 (by omega)) (s1_find hr22 cf c2 (by omega) (fun r hfd => ?_))
    have eqv : ∀ e, e < c → (named (σ1 22 0) e (σ1 41 0) 0 pl ↔ ∀ k, k < 48 → τ1 52 0 (48 * e + k) = if pl ≤ k then 0 else τ1 67 0 k) := by
      intro e he
      obtain ⟨p, l, hF⟩ := hfl e he
      exact same_n k1 hF (by omega) (fun j hj => pl5 j hj (by omega))
    have hf' : ∀ (R : Int32 → Prop), R r → w14_found τ1 R := fun R hR => s14_found cf' c2 pl4 (by omega) (fun z => by omega) (fun _ r' hr' => by rw [← fndf_u (fndf_i eqv hfd) hr']; exact hR)
    rcases hfd with ⟨e, ec, er, _, _⟩ | ⟨er, _⟩
    rotate_left
    · rw [er] at hf' ⊢
      exact nf hf'
    rw [er] at hf' ⊢
    obtain ⟨p, l, hF⟩ := hfl e ec
    have hsum := hF.sum
    refine br_t (nI_le (a := 0) (by omega) (by omega)) (fun s27 d27 => ?_)
    rw [bl1] at d27
    have o27 : ∀ k i', k ≠ 12 → s27 k i' = σ1 k i' := fun k i' hk => by rw [d27, up3_r, if_neg (fun z => hk z.1)]
    have hr27 : rowIs s27 22 := rowIs_f hr22 (o27 _ _ (by decide))
    have ec64 : e < 64 := by omega
    have hC27 : CkS s27 i v hd := by rw [d27]; exact cks2 σ1 v f1
    -- the model, from where the file is found
    have mo2 : ∀ Q', ((crc (τ1 51 0) p l = τ1 55 0 e → ((¬ (τ1 14 0 50) = 1 → (∀ σ4, σ4 = up3 τ1 14 0 43 200 → (w14_chosen_J221 σ4 (nI e) (fun r27 σ27 => (w14_answer_J204 σ27 i 1 r27 Q'))))) ∧ ((τ1 14 0 50) = 1 → (w14_fits τ1 (nI e) (fun r5 => ((r5 = 0 → (∀ σ6, σ6 = up3 τ1 14 0 43 200 → (w14_chosen_J221 σ6 (nI e) (fun r27 σ27 => (w14_answer_J204 σ27 i 1 r27 Q'))))) ∧ (¬ r5 = 0 → (∀ σ7, σ7 = up3 τ1 14 0 43 304 → (w14_chosen_J221 σ7 (nI e) (fun r27 σ27 => (w14_answer_J204 σ27 i 1 r27 Q'))))))))))) ∧ (¬ crc (τ1 51 0) p l = τ1 55 0 e → (∀ σ8, σ8 = up3 τ1 14 0 43 500 → (w14_chosen_J221 σ8 (nI e) (fun r27 σ27 => (w14_answer_J204 σ27 i 1 r27 Q')))))) → M Q' := by
      intro Q' hq
      refine mo Q' (hf' _ (br_t (nI_le (a := 0) (by omega) (by omega)) ?_))
      rw [cl (by omega), hF.pl2, hF.ln2, nI_add]
      exact ⟨vin (by omega) (by omega), vin (by omega) (by omega), vin (by omega) (by omega), s14_check (by omega) ⟨vin (by omega) (by omega), hq⟩⟩
    have ecrc : crc (s27 21 0) p l = crc (τ1 51 0) p l := by
      rw [o27 _ _ (by decide)]
      exact crc_ext (fun j hj => him _ (by omega))
    have b51 : ∀ s, up3 τ1 14 0 43 (nI s) 14 0 51 = nI v := fun s => by rw [fld _ _ 51 f2 (by decide) (by decide)]; exact b2
    have stf : ∀ s, _ := fun (s : Nat) => hstay (up3 τ1 14 0 43 (nI s)) (fld _ _ _ f2 (by decide) (by decide)) (fld _ _ _ f2 (by decide) (by decide)) (fld _ _ _ f2 (by decide) (by decide))
    refine s1_place hr27 (by omega) (by show _ ≤ 4104; omega) (s1_length hr27 (by omega) (by show _ ≤ 4104; omega) ?_)
    rw [o27 22 _ (by decide), hF.pl1, hF.ln1]
    refine s1_check (by omega) (by omega) (by rw [o27 90 _ (by decide), n9, cl (by omega)]; omega) (s1_mark hr27 (by omega) (by show _ ≤ 4104; omega) ?_)
    rw [o27 22 _ (by decide), hF.mk1, ecrc]
    by_cases cw : crc (τ1 51 0) p l = τ1 55 0 e
    rotate_left
    · -- damaged
      refine br_v cw (br_u rfl ?_)
      refine j_plain (s := 500) (t := 18) (d := true) hi hC27 (mks2 τ1 500 v k2 f2 hv) (by omega) (by omega) (by decide) (by decide) (fun σ' ⟨τ', ha, h⟩ => ⟨Or.inr rfl, τ', ha, fun Q' hk => mo2 Q' (br_f cw (c221 (s := 500) (by omega) (by omega) (by omega) ?_))⟩)
      refine tail_500 (stays := stays) (s43 _ _) (stf 500) ?_
      rw [b51]
      exact h Q' hk
    refine br_u cw (br_v (by decide) ?_)
    have hFx : ∀ s, FL s27 (up3 (up3 τ1 14 0 43 (nI s)) 15 i 38 (nI v)) e n p l := by
      intro s
      refine hF.c (o27 _ _ (by decide)) ?_ ?_ ?_ ?_ <;> rw [up3_r, if_neg (by omega), up3_r, if_neg (by omega)]
    -- the file
    have j429 : (∀ Q', (∀ σ4, σ4 = up3 τ1 14 0 43 200 → (w14_chosen_J221 σ4 (nI e) (fun r27 σ27 => (w14_answer_J204 σ27 i 1 r27 Q')))) → M Q') → w9_answer_J429 s27 i (if !stays then 1 else 0) (nI e) (fun r σ' => (r = 1 ∨ r = 2) ∧ ∃ τ', AnP τ0 i r σ' τ' ∧ ∀ Q', mskip τ' i Q' → M Q') := by
      intro hM4
      refine j_file (d := !stays) (hd := hd) hi hC27 (mks2 τ1 200 v k2 f2 hv) hr27 ec64 (hFx 200) n1 (by rw [o27 90 _ (by decide)]; exact n9) (fun j hj => by rw [o27 21 _ (by decide), up3_r, if_neg (by omega), up3_r, if_neg (by omega)]; exact him j hj) (fun σ' h => ?_)
      have fin : ∃ τ', AnP τ0 i (nI ((if (!stays) = true then 1 else 0) + 1)) σ' τ' ∧ ∀ Q', mskip τ' i Q' → M Q' := by
        obtain ⟨τ', ha, h⟩ := h
        refine ⟨τ', ha, fun Q' hk => ?_⟩
        refine hM4 Q' (c221f (s := 200) (Or.inl rfl) (tail_keep (stays := stays) (Or.inl rfl) (s43 _ _) (stf 200) ?_))
        rw [b51]
        exact h Q' hk
      cases stays with
      | true => exact br_t rfl ⟨Or.inl rfl, fin⟩
      | false => exact br_f (by decide) ⟨Or.inr rfl, fin⟩
    have m10 : s27 9 0 10 = (σ 9 0 10) := by rw [o27 _ _ (by decide), f1 _ _ _ rfl]
    have m50 : τ1 14 0 50 = (σ 9 0 10) := by rw [f2 _ _ _ rfl]; exact hP.marks.symm
    rw [m10]
    by_cases cm : (σ 9 0 10) = 1
    rotate_left
    · exact br_v cm (j429 (fun Q' hq => mo2 Q' (br_t cw (br_v (by rw [m50]; exact cm) hq))))
    refine br_u cm ?_
    obtain ⟨ma, mb, y1, y2, y3, y4, y5, y6⟩ := hP.mk2 (by rw [cm]; decide)
    have n27 : nC s27 = N := by rw [← h1]; unfold nC; rw [o27 _ _ (by decide), f1.row (k := 40) fun _ => rfl]
    have nt1 : nM τ1 = N := by rw [← h2]; unfold nM; rw [f2.row (k := 66) fun _ => rfl]
    have sf : ∀ (R : Int32 → Prop), (mkfd N ma mb (τ1 55 0 e) → R 1) → (¬ mkfd N ma mb (τ1 55 0 e) → R 0) → w14_fits τ1 (nI e) R := fun R r1 r0 => s14_fits (a := ma) (b := mb) ec64 rfl (by rw [f2 _ _ _ rfl]; exact y2) (by rw [f2 _ _ _ rfl]; exact y4) y5 y6 (by rw [nt1]; exact r1) (by rw [nt1]; exact r0)
    refine s9_isMarked (v := τ1 55 0 e) (a := ma) (b := mb) hr27 ec64 (by rw [o27 22 _ (by decide)]; exact hF.mk1) (by rw [o27 9 _ (by decide), f1 _ _ _ rfl]; exact y1) (by rw [o27 9 _ (by decide), f1 _ _ _ rfl]; exact y3) y5 y6 (fun w => ?_) (fun w => ?_)
    · rw [n27] at w
      refine br_f (by decide) (j_same (d := !stays) (hd := hd) hi hC27 (mks2 τ1 304 v k2 f2 hv) hr27 ec64 (hFx 304) n1 (fun σ' h => ?_))
      have fin : ∃ τ', AnP τ0 i (nI ((if (!stays) = true then 1 else 0) + 1)) σ' τ' ∧ ∀ Q', mskip τ' i Q' → M Q' := by
        obtain ⟨τ', ha, h⟩ := h
        refine ⟨τ', ha, fun Q' hk => ?_⟩
        refine mo2 Q' (br_t cw (br_u (by rw [m50]; exact cm) (sf _ (fun _ => br_f (by decide) (c221f (s := 304) (Or.inr rfl) (tail_keep (stays := stays) (Or.inr (Or.inl rfl)) (s43 _ _) (stf 304) ?_))) (fun z => absurd w z))))
        rw [b51]
        exact h Q' hk
      cases stays with
      | true => exact br_t rfl ⟨Or.inl rfl, fin⟩
      | false => exact br_f (by decide) ⟨Or.inr rfl, fin⟩
    · rw [n27] at w
      exact br_t rfl (j429 (fun Q' hq => mo2 Q' (br_t cw (br_u (by rw [m50]; exact cm) (sf _ (fun z => absurd z w) (fun _ => br_t rfl hq))))))
  -- the method
  have j270 : ∀ v : Nat, v ≤ 65536 → (σ 9 0 9) = nI v → (τ 14 0 51) = nI v → (∀ Q', (bo ((τ 14 0 60)) → (((τ 14 0 60) = 0 → (w14_unfolded τ (fun r11 σ11 => ((¬ r11 = 0 → w14_chosen_J122 σ11 (fun r27 σ27 => (w14_answer_J204 σ27 i 1 r27 Q'))) ∧ (r11 = 0 → (∀ σ12, σ12 = up3 σ11 14 0 43 400 → (w14_chosen_J122 σ12 (fun r27 σ27 => (w14_answer_J204 σ27 i 1 r27 Q'))))))))) ∧ (¬ (τ 14 0 60) = 0 → (∀ σ13, σ13 = up3 τ 14 0 43 405 → (w14_chosen_J122 σ13 (fun r27 σ27 => (w14_answer_J204 σ27 i 1 r27 Q'))))))) → M Q') → w9_answer_J270 σ i i (if !stays then 1 else 0) (fun r σ' => (r = 1 ∨ r = 2) ∧ ∃ τ', AnP τ0 i r σ' τ' ∧ ∀ Q', mskip τ' i Q' → M Q') := by
    intro v hv b1 b2 hM _
    have go : (isW N 0 a 12 ∨ isW N 0 a 15) → w9_answer_J307 σ i i (if !stays then 1 else 0) (fun r σ' => (r = 1 ∨ r = 2) ∧ ∃ τ', AnP τ0 i r σ' τ' ∧ ∀ Q', mskip τ' i Q' → M Q') := by
      intro hw
      refine j307 v hv b1 b2 hw (fun Q' hq => hM Q' (fun _ => ?_))
      rcases hoth with ⟨z1, z2⟩ | ⟨z1, z2⟩
      · exact br_t z1 hq
      · exact absurd hw z2
    rw [hhd]
    cases hd with
    | true => exact br_v (by decide) (go (Or.inl (hhw.mp rfl)))
    | false =>
      refine br_u (by decide) ?_
      rw [e1]
      refine s9_isExactly (a := 0) (by decide) (by omega) (by omega) (fun w => br_v (by decide) (go (Or.inr (by rw [h1] at w; exact w)))) (fun w => br_u rfl ?_)
      rw [h1] at w
      have nw12 : ¬ isW N 0 a 12 := fun z => absurd (hhw.mpr z) (by decide)
      refine keptH σ τ 405 16 v ok' Fr.rf Fr.rf (Or.inr ⟨rfl, rfl⟩) hv b1 b2 (fun Q' hq => hM Q' (fun _ => ?_))
      rcases hoth with ⟨z1, z2⟩ | ⟨z1, z2⟩
      · exact absurd z2 (fun z => z.elim nw12 w)
      · exact br_f (by rw [z1]; decide) (c122 (s := 405) (by omega) (by omega) hq)
  -- codings, lengths
  have j178 : (∀ Q', w14_chosen_J32 τ (fun r27 σ27 => (w14_answer_J204 σ27 i 1 r27 Q')) → M Q') → w9_answer_J178 σ i i (fun r σ' => (r = 1 ∨ r = 2) ∧ ∃ τ', AnP τ0 i r σ' τ' ∧ ∀ Q', mskip τ' i Q' → M Q') := by
    intro hM _
    by_cases c1 : (σ 9 0 14) = 0
    rotate_left
    · refine br_f c1 (lastH σ τ 501 13 ok' Fr.rf Fr.rf (Or.inr (Or.inr ⟨rfl, rfl⟩)) (fun Q' hq => hM Q' (fun _ => br_f (by rw [← hP.cod]; exact c1) (c122 (s := 501) (by omega) (by omega) hq))))
    refine br_t c1 ?_
    have c1' : (τ 14 0 54) = 0 := by rw [← hP.cod]; exact c1
    rw [ln2]
    by_cases c2 : 1 < ln
    · refine br_t (nI_lt (a := 1) c2 (by omega)) (lastH σ τ 400 19 ok' Fr.rf Fr.rf (Or.inl ⟨rfl, rfl⟩) (fun Q' hq => hM Q' (fun _ => br_t c1' ?_)))
      rw [ln3]
      exact br_t (nI_lt (a := 1) c2 (by omega)) (c122 (s := 400) (by omega) (by omega) hq)
    refine br_f (nI_nlt (a := 1) (by omega) (by omega)) (fun _ => ?_)
    have hM2 : ∀ Q', (bo ((τ 14 0 52)) → (((τ 14 0 52) = 0 → (bo ((τ 14 0 53)) → (((τ 14 0 53) = 0 → (bo ((τ 14 0 60)) → (((τ 14 0 60) = 0 → (w14_unfolded τ (fun r11 σ11 => ((¬ r11 = 0 → w14_chosen_J122 σ11 (fun r27 σ27 => (w14_answer_J204 σ27 i 1 r27 Q'))) ∧ (r11 = 0 → (∀ σ12, σ12 = up3 σ11 14 0 43 400 → (w14_chosen_J122 σ12 (fun r27 σ27 => (w14_answer_J204 σ27 i 1 r27 Q'))))))))) ∧ (¬ (τ 14 0 60) = 0 → (∀ σ13, σ13 = up3 τ 14 0 43 405 → (w14_chosen_J122 σ13 (fun r27 σ27 => (w14_answer_J204 σ27 i 1 r27 Q')))))))) ∧ (¬ (τ 14 0 53) = 0 → (∀ σ14, σ14 = up3 τ 14 0 43 413 → (w14_chosen_J122 σ14 (fun r27 σ27 => (w14_answer_J204 σ27 i 1 r27 Q')))))))) ∧ (¬ (τ 14 0 52) = 0 → (∀ σ15, σ15 = up3 τ 14 0 43 400 → (w14_chosen_J122 σ15 (fun r27 σ27 => (w14_answer_J204 σ27 i 1 r27 Q'))))))) → M Q' := by
      intro Q' hq
      refine hM Q' (fun _ => br_t c1' ?_)
      rw [ln3]
      exact br_f (nI_nlt (a := 1) (by omega) (by omega)) hq
    rcases len (by omega) with ⟨z1, z2⟩ | ⟨z1, z2, v, v1, v2, v3⟩
    · rw [z1]
      exact br_u rfl (lastH σ τ 400 19 ok' Fr.rf Fr.rf (Or.inl ⟨rfl, rfl⟩) (fun Q' hq => hM2 Q' (fun _ => br_f (by rw [z2]; decide) (c122 (s := 400) (by omega) (by omega) hq))))
    rw [z1, v2]
    refine br_v (by decide) ?_
    rcases v3 with ⟨y1, y2, y3⟩ | ⟨y1, y2⟩
    rotate_left
    · exact br_f (nI_ge (a := 65536) (by omega) (by omega)) (lastH σ τ 413 14 ok' Fr.rf Fr.rf (Or.inr (Or.inl ⟨rfl, rfl⟩)) (fun Q' hq => hM2 Q' (fun _ => br_t z2 (fun _ => br_f (by rw [y2]; decide) (c122 (s := 413) (by omega) (by omega) hq)))))
    refine br_t (nI_le (b := 65536) y1 (by omega)) (fun _ => ?_)
    have fin := j270 v y1 v2 y3 (fun Q' hq => hM2 Q' (fun _ => br_t z2 (fun _ => br_t y2 hq)))
    rw [hnw]
    rw [← hP.clo, ← hP.kp] at hstays
    cases nw with
    | false =>
      refine br_t (by decide) (fun _ => ?_)
      by_cases d1 : (σ 9 0 15) = 0
      · refine br_u d1 (fun _ => ?_)
        by_cases d2 : (σ 9 0 16) = 0
        · have : stays = false := by rw [hstays]; simp [d2]
          rw [this] at fin
          exact br_u d2 fin
        · have : stays = true := by rw [hstays]; simp [d1, d2]
          rw [this] at fin
          exact br_v d2 fin
      · have : stays = false := by rw [hstays]; simp [d1]
        rw [this] at fin
        exact br_v d1 fin
    | true =>
      refine br_f (by decide) (fun hbo => ?_)
      rcases hbo with d1 | d1
      · have : stays = true := by rw [hstays]; simp [d1]
        rw [this] at fin
        rw [d1]
        exact fin
      · have : stays = false := by rw [hstays]; simp [d1]
        rw [this] at fin
        rw [d1]
        exact fin
  -- the host
  intro _
  rw [hnw, hk2]
  have badH : (∀ Q', w14_answer_J204 (up3 τ 14 0 43 (nI 400)) i 1 (-1) Q' → M Q') → w9_bad σ i (fun r σ' => (r = 1 ∨ r = 2) ∧ ∃ τ', AnP τ0 i r σ' τ' ∧ ∀ Q', mskip τ' i Q' → M Q') := fun hM => lastH σ τ 400 19 ok' Fr.rf Fr.rf (Or.inl ⟨rfl, rfl⟩) hM
  cases nw with
  | false =>
    refine br_t (by decide) ?_
    by_cases c : hk ≤ 1
    · refine br_t (nI_le (b := 1) c (by omega)) (j178 (fun Q' hq => hup Q' ?_))
      refine br_f (by rw [hk3]; exact nI_nlt (a := 1) (by omega) (by omega)) (fun _ => br_v (by rw [hov]; decide) hq)
    · refine br_f (nI_ge (a := 1) (by omega) (by omega)) (badH (fun Q' hq => hup Q' ?_))
      exact br_t (by rw [hk3]; exact nI_lt (a := 1) (by omega) (by omega)) (c122 (s := 400) (by omega) (by omega) hq)
  | true =>
    refine br_f (by decide) ?_
    by_cases c : hk = 1
    · refine br_t (by rw [c]; rfl) (j178 (fun Q' hq => hup Q' ?_))
      refine br_f (by rw [hk3]; exact nI_nlt (a := 1) (by omega) (by omega)) (fun _ => br_u (by rw [hov]; rfl) (br_v (by rw [hk3, c]; decide) hq))
    · refine br_f (fun z => c ((nI_eq (b := 1) (by omega) (by omega)).mp z)) (badH (fun Q' hq => hup Q' ?_))
      by_cases c2 : 1 < hk
      · exact br_t (by rw [hk3]; exact nI_lt (a := 1) c2 (by omega)) (c122 (s := 400) (by omega) (by omega) hq)
      · refine br_f (by rw [hk3]; exact nI_nlt (a := 1) (by omega) (by omega)) (fun _ => br_u (by rw [hov]; rfl) (br_u (by rw [hk3, show hk = 0 by omega]; rfl) (c122 (s := 400) (by omega) (by omega) hq)))
