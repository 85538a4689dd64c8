/-! a whole head is answered -/
set_option maxRecDepth 100000
abbrev ansM (t : St) (i : Nat) (Q : St → Prop) : Prop := w14_lineEnd t 0 (fun r19 => (w14_shown t 0 r19 (fun r20 => (w14_requestLine t 0 r20 (fun r21 σ21 => (∃ z25, w14_answer_L127 i r21 (-1) Q (fun σ26 x4_26 => (¬ x4_26 = 0 → (w14_chosen σ26 (fun r27 σ27 => (w14_answer_J204 σ27 i r21 r27 Q)))) ∧ (x4_26 = 0 → (∀ σ33, σ33 = up3 σ26 14 0 43 400 → (w14_answer_J204 σ33 i r21 (-1) Q)))) z25 σ21 r19 r21))))))
/-- the model's fields where a head begins -/
def Rst0 (τ : St) : Prop := (τ 14 0 43) = 0 ∧ (τ 14 0 44) = 0 ∧ (τ 14 0 46) = 0 ∧ (τ 14 0 47) = 0 ∧ (τ 14 0 48) = 0 ∧ (τ 14 0 49) = 0 ∧ (τ 14 0 50) = 0 ∧ (τ 14 0 51) = 0 ∧ (τ 14 0 52) = 0 ∧ (τ 14 0 53) = 0 ∧ (τ 14 0 54) = 0
theorem j_ans {σ τ : St} {i n sk : Nat} {N : Nat → Nat} (hi : i < 16) (ok : okS σ) (ok' : okS τ) (h1 : nC σ = N) (h2 : nM τ = N) (hn : 0 < n) (hn4 : n ≤ 4096) (hL : HL N n) (hSt : RSt σ τ) (hrm : σ 90 (i + 1) 0 = 0 ∨ σ 90 (i + 1) 0 = 66047) (hfre : fre σ 44) (hsk : (σ 12 i 3) = nI sk) (hsk' : (τ 15 i 38) = nI sk) (hsk6 : sk ≤ 65536) (h42 : τ 14 0 42 = nI n) (h0 : Rst0 τ) :
    w9_answer σ i i (fun r σ' => (r = 1 ∨ r = 2) ∧ ∃ τ', AnP τ i r σ' τ' ∧ ∀ Q', mskip τ' i Q' → ansM τ i Q') := by
  obtain ⟨z43, z44, z46, z47, z48, z49, z50, z51, z52, z53, z54⟩ := h0
  obtain ⟨e0, a1, a2, a3, a4, a5⟩ := hL 0 (Or.inl rfl) hn
  have tl0 := te_le (N := N) (f := 0) (e := e0) (Nat.zero_le _)
  have tem := te_emp (N := N) (f := 0) (e := e0) (Nat.zero_le _)
  intro s1 d1
  have f1 : Fr (mF [] [] [(9, [5])] []) σ s1 := by rw [d1]; exact fr_u rfl
  have n1 : nC s1 = N := by rw [← h1]; unfold nC; rw [f1.row (k := 40) fun _ => rfl]
  have ok1 : okS s1 := by rw [d1]; exact ok_z ok rfl (Or.inl rfl)
  have v5 : s1 9 0 5 = 0 := by rw [d1, up3_g, if_pos ⟨rfl, rfl, rfl⟩]
  refine s9_lineEnd (f := 0) (e := e0) (Nat.zero_le _) (by omega) (by rw [n1]; exact a3) (by rw [n1]; exact a4) (s9_textEnd (f := 0) (Nat.zero_le _) (by omega) ?_)
  rw [n1]
  -- the model, up to the request line
  have mo : ∀ Q', w14_requestLine τ 0 (nI (te N 0 e0)) (fun r21 σ21 => (∃ z25, w14_answer_L127 i r21 (-1) Q' (fun σ26 x4_26 => (¬ x4_26 = 0 → (w14_chosen σ26 (fun r27 σ27 => (w14_answer_J204 σ27 i r21 r27 Q')))) ∧ (x4_26 = 0 → (∀ σ33, σ33 = up3 σ26 14 0 43 400 → (w14_answer_J204 σ33 i r21 (-1) Q')))) z25 σ21 (nI e0) r21)) → ansM τ i Q' := by
    intro Q' hq
    refine s14_lineEnd (f := 0) (e := e0) (Nat.zero_le _) (by omega) (by rw [h2]; exact a3) (by rw [h2]; exact a4) (s14_shown (f := 0) (Nat.zero_le _) (by omega) ?_)
    rw [h2]
    exact hq
  obtain ⟨r4, s4, hq4, ok4, f4, g4⟩ := e9_isRequestLine (Q := fun r s => (r = 1 ∧ ∃ a b nw, RL N (te N 0 e0) a b nw ∧ s 9 0 3 = nI a ∧ s 9 0 4 = nI b ∧ s 9 0 6 = (if nw then 1 else 0)) ∨ (r = 0 ∧ ∀ a b nw, ¬ RL N (te N 0 e0) a b nw)) ok1 (s9_isRequestLine (e := te N 0 e0) (by omega) (fun a b nw s hR f x1 x2 x3 => Or.inl ⟨rfl, a, b, nw, by rw [n1] at hR; exact hR, x1, x2, x3⟩) (fun s hR f => Or.inr ⟨rfl, by rw [n1] at hR; exact hR⟩))
  refine g4 _ ?_
  have f14 : Fr (mF [] [] [(9, [3, 4, 5, 6])] []) σ s4 := (f1.sub (mF_sub rfl sub_nil rfl sud_nil)).tr (f4.sub (mF_sub rfl sub_nil rfl sud_nil))
  rcases hq4 with ⟨r1, a, b, nw, hR, g3, g4', g6⟩ | ⟨r0, hR⟩
  rotate_left
  · -- no request line
    subst r0
    have hC : CkS s4 i sk false := by
      refine CkS.mk ?_ ?_ ?_ ?_
      · rw [f14 _ _ _ rfl]; exact hrm
      · unfold fre; rw [f14 _ _ _ rfl, f14 _ _ _ rfl]; exact hfre
      · rw [f4 _ _ _ rfl]; exact v5
      · rw [f14 _ _ _ rfl]; exact hsk
    have hM : MkS τ (up3 τ 14 0 43 (nI 400)) i 400 sk false := by
      refine MkS.mk ?_ ?_ ?_ hsk6 ?_ ?_ (fr_u rfl) (ok_n ok' rfl)
      · rw [up3_g, if_pos ⟨rfl, rfl, rfl⟩]
      · rw [up3_g, if_neg (by omega)]; exact z44
      · rw [up3_g, if_neg (by omega)]; exact hsk'
      · rw [up3_g, if_neg (by omega)]
      · rw [up3_r, if_neg (by omega)]
    refine br_u rfl (j_plain (s := 400) (t := 19) (d := true) hi hC hM (by omega) (by omega) (by decide) (by decide) (fun σ' ⟨τ', ha, h⟩ => ⟨Or.inr rfl, τ', ha, fun Q' hk => mo Q' ?_⟩))
    refine s14_requestLine (by omega) (fun a b nw s hR' => absurd (by rw [h2] at hR'; exact hR') (hR a b nw)) (fun _ => ⟨1, br_t rfl (br_u rfl (fun s33 e33 => ?_))⟩)
    rw [e33]
    exact tail_last (s := 400) (stays := false) (Or.inl rfl) (by rw [up3_g, if_pos ⟨rfl, rfl, rfl⟩]; rfl) (Or.inl ⟨rfl, rfl⟩) (h Q' hk)
  subst r1
  refine br_v (by decide) ?_
  have q1 := hR.be
  have q2 := hR.ab
  have q3 := hR.a16
  have n4 : nC s4 = N := by rw [← h1]; unfold nC; rw [f14.row (k := 40) fun _ => rfl]
  obtain ⟨hd, hhw⟩ : ∃ hd : Bool, hd = true ↔ isW N 0 a 12 := by
    by_cases c : isW N 0 a 12
    · exact ⟨true, fun _ => c, fun _ => rfl⟩
    · exact ⟨false, fun z => absurd z (by decide), fun z => absurd z c⟩
  -- the model's request line
  obtain ⟨r21, t21, hq21, ok21, f21, g21⟩ := e14_requestLine (Q := fun r s => r = 1 ∧ s 14 0 45 = (if nw then 0 else 1) ∧ s 14 0 44 = (if hd then 1 else 0) ∧ (s 14 0 60 = 0 ∧ (isW N 0 a 12 ∨ isW N 0 a 15) ∨ s 14 0 60 = 1 ∧ ¬ (isW N 0 a 12 ∨ isW N 0 a 15)) ∧ s 14 0 56 = nI (a + 1) ∧ s 14 0 57 = nI b) ok' (s14_requestLine (e := te N 0 e0) (by omega) (fun a' b' nw' s hR' f x1 x2 x3 x4 x5 => by
    rw [h2] at hR' x2 x3
    obtain ⟨u1, u2, u3⟩ := hR.u hR'
    subst u1
    subst u2
    subst u3
    refine ⟨rfl, x1, ?_, x3, x4, x5⟩
    rcases x2 with ⟨y1, y2⟩ | ⟨y1, y2⟩
    · rw [y1, if_pos (hhw.mpr y2)]
    · rw [y1, if_neg (fun z => y2 (hhw.mp z))]) (fun hR' => absurd (by rw [h2]; exact hR) (hR' a b nw)))
  obtain ⟨r21e, w45, w44, w60, w56, w57⟩ := hq21
  subst r21e
  rw [g3]
  have key : ∀ (R : Int32 → Prop), R (if hd then 1 else 0) → w9_isExactly s4 0 (nI a) 12 R := by
    intro R hr
    refine s9_isExactly (a := 0) (by decide) (by omega) (by omega) (fun w => ?_) (fun w => ?_)
    · rw [n4] at w
      rw [if_pos (hhw.mpr w)] at hr
      exact hr
    · rw [n4] at w
      rw [if_neg (fun z => w (hhw.mp z))] at hr
      exact hr
  refine key _ ⟨by cases hd <;> first | exact Or.inl rfl | exact Or.inr rfl, fun s6 d6 s7 d7 s8 d8 s9 d9 s10 d10 s11 d11 s12 d12 s13 d13 s14 d14 => ?_⟩
  have hbo : bo (if hd then (1 : Int32) else 0) := by cases hd <;> first | exact Or.inl rfl | exact Or.inr rfl
  have ok14 : okS s14 := by
    rw [d14, d13, d12, d11, d10, d9, d8, d7, d6]
    exact ok_z (ok_z (ok_z (ok_z (ok_n (ok_n (ok_n (ok_n (ok_z ok4 rfl hbo) rfl) rfl) rfl) rfl) rfl (Or.inr rfl)) rfl (Or.inl rfl)) rfl (Or.inl rfl)) rfl (Or.inl rfl)
  have F14 : Fr (mF [] [] [(9, [5, 7, 8, 9, 10, 13, 14, 15, 16])] []) s4 s14 := by
    rw [d14, d13, d12, d11, d10, d9, d8, d7, d6]
    exact ((((((((fr_u rfl).up rfl).up rfl).up rfl).up rfl).up rfl).up rfl).up rfl).up rfl
  have p5 : s14 9 0 5 = if hd then 1 else 0 := by rw [d14, d13, d12, d11, d10, d9, d8, d7, d6]; simp only [up3_g]; simp
  have p7 : s14 9 0 7 = 0 := by rw [d14, d13, d12, d11, d10, d9, d8, d7]; simp only [up3_g]; simp
  have p8 : s14 9 0 8 = 0 := by rw [d14, d13, d12, d11, d10, d9, d8]; simp only [up3_g]; simp
  have p9 : s14 9 0 9 = 0 := by rw [d14, d13, d12, d11, d10, d9]; simp only [up3_g]; simp
  have p10 : s14 9 0 10 = 0 := by rw [d14, d13, d12, d11, d10]; simp only [up3_g]; simp
  have p13 : s14 9 0 13 = 1 := by rw [d14, d13, d12, d11]; simp only [up3_g]; simp
  have p14 : s14 9 0 14 = 0 := by rw [d14, d13, d12]; simp only [up3_g]; simp
  have p15 : s14 9 0 15 = 0 := by rw [d14, d13]; simp only [up3_g]; simp
  have p16 : s14 9 0 16 = 0 := by rw [d14]; simp only [up3_g]; simp
  have n14 : nC s14 = N := by rw [← n4]; unfold nC; rw [F14.row (k := 40) fun _ => rfl]
  have n21 : nM t21 = N := by rw [← h2]; unfold nM; rw [f21.row (k := 66) fun _ => rfl]
  have hP : PS s14 t21 0 := by
    refine PS.mk ⟨0, Nat.le_refl _, p7, by rw [f21 _ _ _ rfl]; exact z48⟩ ?_ (fun z => absurd p10 z) ?_ ?_ ?_ ⟨0, Nat.le_refl _, p8, by rw [f21 _ _ _ rfl]; exact z49, fun _ => ⟨p13, p9, ?_, ?_, ?_⟩, fun z => absurd z (by omega)⟩
    · rw [p10, f21 _ _ _ rfl, z50]
    · rw [p14, f21 _ _ _ rfl, z54]
    · rw [p15, f21 _ _ _ rfl, z46]
    · rw [p16, f21 _ _ _ rfl, z47]
    · rw [f21 _ _ _ rfl]; exact z52
    · rw [f21 _ _ _ rfl]; exact z53
    · rw [f21 _ _ _ rfl]; exact z51
  -- the second line
  have ne0 : e0 + 1 < n := by
    rcases Nat.lt_or_ge (e0 + 1) n with z | z
    · exact z
    · have := tem.mpr (a5.mpr (by omega)); omega
  obtain ⟨e1, b1, b2, b3, b4, b5⟩ := hL (e0 + 1) (Or.inr (by rw [Nat.add_sub_cancel]; exact a3)) ne0
  rw [nI_1]
  refine s9_lineEnd (f := e0 + 1) (e := e1) b1 (by omega) (by rw [n14]; exact b3) (by rw [n14]; exact b4) ?_
  obtain ⟨σ', τ', ok5, ok6, F', G', hres⟩ := LR_l (i := i) hn4 hL (n - (e0 + 1)) (e0 + 1) e1 s14 t21 0 rfl (by omega) ne0 (by rw [Nat.add_sub_cancel]; exact a3) b1 b2 b3 b4 b5 ok14 ok21 n14 n21 (by rw [f21 _ _ _ rfl]; exact h42) hP (by omega)
  rw [Nat.add_sub_cancel] at hres
  -- all frames
  have FC : Fr (mF [] [] [(9, [3, 4, 5, 6, 7, 8, 9, 10, 11, 12, 13, 14, 15, 16])] []) σ σ' := ((f14.sub (mF_sub rfl sub_nil rfl sud_nil)).tr (F14.sub (mF_sub rfl sub_nil rfl sud_nil))).tr (F'.sub (mF_sub rfl sub_nil rfl sud_nil))
  have GM : Fr (mF [] [] [(14, [44, 45, 46, 47, 48, 49, 50, 51, 52, 53, 54, 56, 57, 60, 61, 62])] []) τ τ' := (f21.sub (mF_sub rfl sub_nil rfl sud_nil)).tr (G'.sub (mF_sub rfl sub_nil rfl sud_nil))
  have hh5 : σ' 9 0 5 = if hd then 1 else 0 := by rw [F' _ _ _ rfl]; exact p5
  have hh44 : τ' 14 0 44 = if hd then 1 else 0 := by rw [G' _ _ _ rfl]; exact w44
  have st0 : τ' 14 0 43 = 0 := by rw [GM _ _ _ rfl]; exact z43
  have rm' : σ' 90 (i + 1) 0 = 0 ∨ σ' 90 (i + 1) 0 = 66047 := by rw [FC _ _ _ rfl]; exact hrm
  have fre' : fre σ' 44 := by unfold fre; rw [FC _ _ _ rfl, FC _ _ _ rfl]; exact hfre
  have sk1 : σ' 12 i 3 = nI sk := by rw [FC _ _ _ rfl]; exact hsk
  have sk2 : τ' 15 i 38 = nI sk := by rw [GM _ _ _ rfl]; exact hsk'
  have fr' : Fr anG τ τ' := GM.sub (mF_sub rfl sub_nil rfl sud_nil)
  have at' : τ' 15 i 5 = (τ 15 i 5) := GM _ _ _ rfl
  have ct' : τ' 56 0 = τ 56 0 := GM.row fun _ => rfl
  rcases hres with ⟨u1, u2⟩ | ⟨u1, u2, u3⟩
  · -- a bad field
    refine u1 _ _ _ ?_
    have hC : CkS σ' i sk hd := CkS.mk rm' fre' hh5 sk1
    have hM : MkS τ (up3 τ' 14 0 43 (nI 400)) i 400 sk hd := by
      refine MkS.mk ?_ ?_ ?_ hsk6 ?_ ?_ (fr'.up rfl) (ok_n ok6 rfl)
      · rw [up3_g, if_pos ⟨rfl, rfl, rfl⟩]
      · rw [up3_g, if_neg (by omega)]; exact hh44
      · rw [up3_g, if_neg (by omega)]; exact sk2
      · rw [up3_g, if_neg (by omega)]; exact at'
      · rw [up3_r, if_neg (by omega)]; exact ct'
    refine j_plain (s := 400) (t := 19) (d := true) hi hC hM (by omega) (by omega) (by decide) (by decide) (fun σ'' ⟨τ'', ha, h⟩ => ⟨Or.inr rfl, τ'', ha, fun Q' hk => mo Q' (g21 _ (u2 Q' _ 1 (-1) (br_u rfl (fun s33 e33 => ?_))))⟩)
    rw [e33]
    have ov : up3 τ' 14 0 43 400 14 0 45 = (if nw then 0 else 1) := by rw [up3_g, if_neg (by omega), G' _ _ _ rfl]; exact w45
    refine tail_last (s := 400) (stays := decide (if nw then up3 τ' 14 0 43 400 14 0 46 = 0 else up3 τ' 14 0 43 400 14 0 47 ≠ 0 ∧ up3 τ' 14 0 43 400 14 0 46 = 0)) (Or.inl rfl) (by rw [up3_g, if_pos ⟨rfl, rfl, rfl⟩]; rfl) (Or.inr ⟨by decide, ?_⟩) (h Q' hk)
    rw [ov]
    cases nw with
    | true => exact Or.inl ⟨rfl, by simp⟩
    | false => exact Or.inr ⟨by decide, by simp⟩
  · -- a right head
    refine u1 _ _ _ ?_
    refine j_disp (τ0 := τ) (σ := σ') (τ := τ') (a := a) (b := b) (N := N) (nw := nw) (hd := hd) (sk := sk) hi ok5 ok6 (by rw [← n14]; unfold nC; rw [F'.row (k := 40) fun _ => rfl]) (by rw [← n21]; unfold nM; rw [G'.row (k := 66) fun _ => rfl]) u3 (hSt.f FC GM) rm' fre' sk1 sk2 hsk6 at' ct' fr' ?_ (by rw [G' _ _ _ rfl]; exact w45) hh5 hh44 hhw ?_ st0 ?_ ?_ (by rw [G' _ _ _ rfl]; exact w56) (by rw [G' _ _ _ rfl]; exact w57) q3 (by omega) hR.sl q2 hR.vs (fun Q' hq => mo Q' (g21 _ (u2 Q' _ 1 (-1) (br_v (by decide) hq))))
    · rw [F' _ _ _ rfl, F14 _ _ _ rfl]; exact g6
    · rw [G' _ _ _ rfl]; exact w60
    · rw [F' _ _ _ rfl, F14 _ _ _ rfl]; exact g3
    · rw [F' _ _ _ rfl, F14 _ _ _ rfl]; exact g4'
