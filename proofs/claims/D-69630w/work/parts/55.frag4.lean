/-! fragments: the two side by side -/
set_option maxRecDepth 100000
theorem s14_frag_good {τ : St} {x1 x2 more : Int32} {o0 off n at_ : Nat} {Q : St → Prop} (ok' : okS τ) (ho : o0 < 4) (hno : off + n ≤ 4096) (hat : at_ + n ≤ 65540) (he : (τ 18 o0 4) = -1 ∨ ∃ e : Nat, (τ 18 o0 4) = nI e ∧ e ≤ 4096)
    (h1 : ∀ τ1, okS τ1 → Fr (mF [] [(69, o0), (70, o0)] [] [(18, o0, [4])]) τ τ1 → τ1 18 o0 4 = (if more = 0 then nI (off + n) else (τ 18 o0 4)) → (∀ a, τ1 70 o0 a = if off ≤ a ∧ a < off + n then 1 else τ 70 o0 a) → (∀ a, τ1 69 o0 a = if off ≤ a ∧ a < off + n ∧ τ 70 o0 a = 0 then τ 50 0 (at_ + (a - off)) else τ 69 o0 a) → ((τ1 18 o0 4 = -1 ∨ ∃ e : Nat, τ1 18 o0 4 = nI e ∧ e ≤ 4096 ∧ ¬ allT (τ1 70 o0) e) → Q τ1) ∧ ∀ e : Nat, τ1 18 o0 4 = nI e → e ≤ 4096 → allT (τ1 70 o0) e → ∀ τ2, okS τ2 → Fr (mF [64] [] [(14, [30])] [(18, o0, [0]), (56, 0, [1])]) τ1 τ2 → τ2 18 o0 0 = 0 → τ2 56 0 1 = τ1 56 0 1 + 1 → (∀ a, a < e → τ2 64 0 a = τ1 69 o0 a) → τ2 14 0 30 = x1 → w14_taken τ2 x2 (nI e) Q) :
    w14_fragment_J279 τ x1 x2 (nI off) (nI at_) (nI n) more o0 (nI (off + n)) 0 Q := by
  have rest : ∀ τ0, okS τ0 → Fr (mF [] [] [] [(18, o0, [4])]) τ τ0 → τ0 18 o0 4 = (if more = 0 then nI (off + n) else (τ 18 o0 4)) → ∃ z20, w14_fragment_L306 x1 x2 (nI off) (nI at_) (nI n) o0 Q (fun σ21 => (0 ≤ (σ21 18 o0 4) → (∃ z22, w14_fragment_L375 σ21 x1 x2 o0 Q (Q σ21) (∀ σ25, σ25 = up3 σ21 18 o0 0 0 → (vp_in 1 8 ∧ (vp_in 1 8 ∧ (∀ σ26, σ26 = up3 σ25 56 0 (1 : Int32).toNatClampNeg ((σ25 56 0 (1 : Int32).toNatClampNeg) + 1) → (∃ z28, w14_fragment_L422 x1 x2 o0 Q (fun σ29 => ∀ σ30, σ30 = up3 σ29 14 0 30 x1 → (w14_taken σ30 x2 (σ30 18 o0 4) (fun σ31 => (Q σ31)))) z28 σ26 0))))) z22 0)) ∧ (¬ 0 ≤ (σ21 18 o0 4) → Q σ21)) z20 τ0 0 := by
    intro τ0 ok0 f0 he0
    have hl := s14_fragment_L306 (x1 := x1) (x2 := x2) (Q := Q) (o0 := o0) (K := fun s => (∀ a, s 70 o0 a = if off ≤ a ∧ a < off + n then 1 else τ0 70 o0 a) ∧ (∀ a, s 69 o0 a = if off ≤ a ∧ a < off + n ∧ τ0 70 o0 a = 0 then τ0 50 0 (at_ + (a - off)) else τ0 69 o0 a)) τ0 hno hat (fun s _ a b => ⟨a, b⟩) (fun a => ok_bo ok0 (tyk_a 70 1 (by decide) (by decide) a)) n 0 τ0 (by omega) Fr.rf (fun a => by rw [if_neg (by omega)]) (fun a => by rw [if_neg (by omega)])
    obtain ⟨t1, ⟨k1, k2⟩, okT1, f1, g1⟩ := e14_fragment_L306 ho (n + 1) ok0 hl
    refine ⟨n + 1, g1 _ _ ?_⟩
    have r70 : τ0 70 o0 = τ 70 o0 := f0.row (fun j => by simp [mF])
    have r69 : τ0 69 o0 = τ 69 o0 := f0.row (fun j => by simp [mF])
    have r50 : τ0 50 0 = τ 50 0 := f0.row (fun j => by simp [mF])
    rw [r70] at k1 k2
    rw [r69, r50] at k2
    have he1 : t1 18 o0 4 = (if more = 0 then nI (off + n) else (τ 18 o0 4)) := by rw [f1 _ _ _ (by simp [mF])]; exact he0
    have F1 : Fr (mF [] [(69, o0), (70, o0)] [] [(18, o0, [4])]) τ t1 := by
      refine Fr.tr (f0.sub (fun k' i' j' z => ?_)) (f1.sub (fun k' i' j' z => ?_))
      · simp [mF] at z ⊢
        exact z.2
      · simp [mF] at z ⊢
        exact z.1
    obtain ⟨ha, hb⟩ := h1 t1 okT1 F1 he1 k1 k2
    have hen : t1 18 o0 4 = -1 ∨ ∃ e : Nat, t1 18 o0 4 = nI e ∧ e ≤ 4096 := by
      rw [he1]
      by_cases c : more = 0
      · rw [if_pos c]; exact Or.inr ⟨off + n, rfl, hno⟩
      · rw [if_neg c]; exact he
    rcases hen with z | ⟨e, z1, z2⟩
    · refine br_f (by rw [z]; decide) (ha (Or.inl z))
    · refine br_t (by rw [z1]; exact nI_le (a := 0) (by omega) (by omega)) ⟨e + 1, s14_fragment_L375 z1 z2 e 0 (by omega) (fun a ha => by omega) (fun hall => ?_) (fun hall => ha (Or.inr ⟨e, z1, z2, hall⟩))⟩
      intro s25 e25
      refine ⟨vin (n := 1) (by omega) (by omega), vin (n := 1) (by omega) (by omega), fun s26 e26 => ?_⟩
      rw [show (1 : Int32).toNatClampNeg = 1 by decide] at e26
      have en26 : s26 18 o0 4 = nI e := by rw [e26, up3_g, if_neg (by omega), e25, up3_g, if_neg (by omega)]; exact z1
      refine ⟨e + 1, s14_fragment_L422 z2 e 0 s26 en26 (by omega) (fun s30 e30 => ?_)⟩
      have en30 : s30 18 o0 4 = nI e := by rw [e30, up3_g, if_neg (by omega), row3_g, if_neg (by omega)]; exact en26
      rw [en30]
      have r69 : s26 69 o0 = t1 69 o0 := by rw [e26, up3_r, if_neg (by omega), e25, up3_r, if_neg (by omega)]
      refine hb e z1 z2 hall s30 ?_ ?_ ?_ ?_ (fun a ha => ?_) ?_
      · rw [e30]
        refine ok_n (ok_rowb ?_ (tyk_a 64 2 (by decide) (by decide)) (by_cpy ?_ ?_)) rfl
        · rw [e26, e25]; exact ok_n (ok_z okT1 rfl (Or.inl rfl)) rfl
        · rw [r69]; exact fun j => ok_by okT1 (tyk_a 69 2 (by decide) (by decide)) j
        · rw [e26, up3_r, if_neg (by omega), e25, up3_r, if_neg (by omega)]; exact fun j => ok_by okT1 (tyk_a 64 2 (by decide) (by decide)) j
      · rw [e30]
        refine Fr.up ?_ (by simp [mF])
        refine Fr.tr ?_ (fr_r (fun _ => rfl))
        rw [e26, e25]
        exact ((fr_u (by simp [mF]))).up (by simp [mF])
      · rw [e30, up3_g, if_neg (by omega), row3_g, if_neg (by omega), e26, up3_g, if_neg (by omega), e25, up3_g, if_pos ⟨rfl, rfl, rfl⟩]
      · rw [e30, up3_g, if_neg (by omega), row3_g, if_neg (by omega), e26, up3_g, if_pos ⟨rfl, rfl, rfl⟩, e25, up3_g, if_neg (by omega)]
      · rw [e30, up3_g, if_neg (by omega), row3_s, pk_cpy_in (by omega) (by omega), r69, Nat.sub_zero, Nat.zero_add]
      · rw [e30, up3_g, if_pos ⟨rfl, rfl, rfl⟩]
  refine br_t rfl ?_
  by_cases c : more = 0
  · exact br_u c (fun s32 e32 => rest s32 (by rw [e32]; exact ok_n ok' rfl) (by rw [e32]; exact fr_u (by simp [mF])) (by rw [e32, up3_g, if_pos ⟨rfl, rfl, rfl⟩, if_pos c]))
  · exact br_v c (rest τ ok' Fr.rf (by rw [if_neg c]))
abbrev frF : Nat → Nat → Nat → Bool := mF [37, 38, 39] [] [(6, [1, 2]), (7, [0, 1, 2, 3, 6, 7])] []
abbrev frG : Nat → Nat → Nat → Bool := mF [64, 69, 70] [] [(14, [25, 30]), (18, [0, 1, 2, 3, 4, 5, 6]), (56, [1])] []
/-- behind a fragment -/
def FP (σ τ : St) (t b : Nat) (σ' τ' : St) : Prop := okS σ' ∧ okS τ' ∧ (∃ l', NB σ' τ' t l' b ∧ RF σ' τ' t l') ∧ RK σ' τ' ∧ Fr frF σ σ' ∧ Fr frG τ τ'
theorem s7_isWhole {σ : St} {o0 : Nat} {Q : Int32 → Prop} (he : (σ 7 o0 7) = -1 ∨ ∃ e : Nat, (σ 7 o0 7) = nI e ∧ e ≤ 4096) (h1 : ∀ e : Nat, (σ 7 o0 7) = nI e → e ≤ 4096 → allT (σ 39 o0) e → Q 1) (h0 : ((σ 7 o0 7) = -1 ∨ ∃ e : Nat, (σ 7 o0 7) = nI e ∧ e ≤ 4096 ∧ ¬ allT (σ 39 o0) e) → Q 0) : w7_isWhole σ o0 Q := by
  rcases he with z | ⟨e, z1, z2⟩
  · exact ⟨1, br_t (by rw [z]; decide) (br_t (by rw [z]; decide) (h0 (Or.inl z)))⟩
  · refine ⟨e + 1, s7_isWhole_L z1 z2 e 0 (by omega) (fun a ha => by omega) (fun hall => br_f (by rw [z1]; exact nI_nlt (b := 0) (by omega) (by omega)) (h1 e z1 z2 hall)) (fun hall => h0 (Or.inr ⟨e, z1, z2, hall⟩))⟩
theorem j_frag1 {σ0 τ0 σ τ : St} {t l b z k n off at_ : Nat} {q r : Nat → Nat} {from_ pr isL more : Int32} {Q : Option Nat → St → St → Prop} (ok : okS σ) (ok' : okS τ) (hN : NB σ τ t l b) (hF : RFx σ τ t l z q r) (hk : k < z) (hK : RK σ τ) (F0 : Fr frF σ0 σ) (G0 : Fr frG τ0 τ) (htr : σ 20 0 = τ 50 0) (hno : off + n ≤ 4096) (hat : at_ + n ≤ 65540) (hm : isL = 0 ↔ ¬ more = 0) (hn0 : ¬ more = 0 → 0 < n)
    (hn : ∀ σ' τ', FP σ0 τ0 t b σ' τ' → Q none σ' τ')
    (hs : ∀ (i e : Nat) σ' τ', FP σ0 τ0 t b σ' τ' → i < 4 → e ≤ 4096 → (σ' 7 i 7) = nI e → (∀ j, j < e → σ' 38 i j = τ' 64 0 j) → (τ' 14 0 30) = from_ → w14_taken τ' pr (nI e) (Q (some i) σ')) :
    w6_take_J87 σ 20 0 (nI at_) (nI n) (nI off) isL (nI k) (fun p σ' => w14_fragment_J184 τ from_ pr (nI off) (nI at_) (nI n) more (q k) (Q p σ')) := by
  obtain ⟨z1, z2, z3, z4, z5, z6, z7, z8⟩ := id hF
  obtain ⟨b1, b2, b3, b4, b5⟩ := z4 k hk
  have hp4 := z8.1 k (by omega)
  have hbad := bad_iff b5 hno hm
  refine ⟨vin (by omega) (by omega), ?_⟩
  rw [cl (by omega)]
  refine ⟨hp4, ?_⟩
  show w7_add σ (frw σ k) 20 0 (nI at_) (nI off) (nI n) isL _
  have hadd : w7_add σ (frw σ k) 20 0 (nI at_) (nI off) (nI n) isL (fun rr σ' => rr = 0 ∧ σ' = σ ∧ badC ((σ 7 (frw σ k) 7)) ((σ 7 (frw σ k) 6)) (off + n) isL ∨ rr = 1 ∧ ¬ badC ((σ 7 (frw σ k) 7)) ((σ 7 (frw σ k) 6)) (off + n) isL ∧ (σ' 7 (frw σ k) 7) = (if isL = 0 then (σ 7 (frw σ k) 7) else nI (off + n)) ∧ (σ' 7 (frw σ k) 6) = imax ((σ 7 (frw σ k) 6)) (nI (off + n)) ∧ (∀ a, σ' 39 (frw σ k) a = if off ≤ a ∧ a < off + n then 1 else σ 39 (frw σ k) a) ∧ (∀ a, σ' 38 (frw σ k) a = if off ≤ a ∧ a < off + n ∧ σ 39 (frw σ k) a = 0 then σ 20 0 (at_ + (a - off)) else σ 38 (frw σ k) a)) :=
    s7_add ⟨by decide, by decide, by decide⟩ (by show 65540 < 100000; omega) hno (by show _ ≤ 65540; omega) (fun h => Or.inl ⟨rfl, rfl, h⟩) (fun h σ' _ a b c d => Or.inr ⟨rfl, h, a, b, c, d⟩)
  obtain ⟨rr, s3, hq, ok3, f3, g3⟩ := e7_add hp4 rfl ok hadd
  refine g3 _ ?_
  have f37 : s3 37 0 = σ 37 0 := f3.row (fun j => by simp [mF])
  have sz3 : s3 6 0 1 = nI z := by rw [f3 _ _ _ (by simp [mF])]; exact z2
  have hrm : w6_remove s3 (nI k) (fun s' => s' 6 0 1 = nI (z - 1) ∧ ∀ i, i < 4 → frw s' i = rm (frw s3) k z i) := s6_remove z1 hk sz3 (z8.c f37) (fun s' _ a b => ⟨a, b⟩)
  obtain ⟨s5, ⟨c1, c2⟩, ok5, f5, g5⟩ := e6_remove ok3 hrm
  rcases hq with ⟨r0, e0, hb⟩ | ⟨r1, hnb, a1, a2, a3, a4⟩
  · subst r0
    subst e0
    refine br_u rfl (g5 _ (s14_fragment_J184 hno (fun _ => hn _ _ ?_) (fun h => absurd (hbad.mp hb) h)))
    have okt : okS (up3 τ 18 (q k) 0 0) := ok_z ok' rfl (Or.inl rfl)
    have ft : Fr (mF [] [] [(18, [0])] []) τ (up3 τ 18 (q k) 0 0) := fr_u rfl
    refine ⟨ok5, okt, ⟨l, hN.f f5 ft, RF_del hF hk c2 c1 (f5.kind fun _ _ => rfl) (f5.kind fun _ _ => rfl) (f5.kind fun _ _ => rfl) (fun j hj => by rw [up3_r, if_neg (fun z => hj z.2)]) (ft.kind fun _ _ => rfl) (ft.kind fun _ _ => rfl) (by rw [up3_g, if_pos ⟨rfl, rfl, rfl⟩])⟩, hK.f f5 ft, F0.tr (f5.sub (mF_sub rfl sub_nil rfl sud_nil)), G0.tr (ft.sub (mF_sub rfl sub_nil rfl sud_nil))⟩
  · subst r1
    refine br_v (by decide) ?_
    have F3 : Fr frF σ s3 := f3.sub (mF_sub rfl (sub_c (Or.inl rfl) (sub_c (Or.inl rfl) sub_nil)) rfl (sud_c (Or.inl ⟨_, List.mem_of_getElem? (i := 1) rfl, rfl⟩) sud_nil))
    have e3 : (s3 7 (frw σ k) 7) = -1 ∨ ∃ e : Nat, (s3 7 (frw σ k) 7) = nI e ∧ e ≤ 4096 := by
      rw [a1]
      by_cases c : isL = 0
      · rw [if_pos c]
        obtain ⟨_, _, _, _, p5, _, _, u, rr, _, _, _, _, _, _, r4⟩ := b5
        rw [p5]
        rcases r4 with y | ⟨e, y1, y2, _⟩
        · exact Or.inl y.1
        · exact Or.inr ⟨e, y1, y2⟩
      · rw [if_neg c]; exact Or.inr ⟨off + n, rfl, hno⟩
    have eτ : (τ 18 (q k) 4) = -1 ∨ ∃ e : Nat, (τ 18 (q k) 4) = nI e ∧ e ≤ 4096 := by
      obtain ⟨_, _, _, _, p5, _, _, u, rr, _, _, _, _, _, _, r4⟩ := b5
      rcases r4 with y | ⟨e, y1, y2, _⟩
      · exact Or.inl y.1
      · exact Or.inr ⟨e, y1, y2⟩
    -- what the model has behind it
    have after : ∀ t1 : St, Fr (mF [] [(69, q k), (70, q k)] [] [(18, q k, [4])]) τ t1 → t1 18 (q k) 4 = (if more = 0 then nI (off + n) else (τ 18 (q k) 4)) → (∀ a, t1 70 (q k) a = if off ≤ a ∧ a < off + n then 1 else τ 70 (q k) a) → (∀ a, t1 69 (q k) a = if off ≤ a ∧ a < off + n ∧ τ 70 (q k) a = 0 then τ 50 0 (at_ + (a - off)) else τ 69 (q k) a) → RFx s3 t1 t l z q r ∧ NB s3 t1 t l b ∧ RK s3 t1 ∧ Fr frG τ t1 := by
      intro t1 ft he ht hb
      have hp : fpair s3 t1 t (frw σ k) (q k) := fpair_add b5 hno hm hn0 hnb htr (fun f h6 h7 => f3 _ _ _ (by simp [mF, h6, h7])) a1 a2 a3 a4 (fun f h4 => ft _ _ _ (by simp [mF, h4])) he ht hb
      have g1 : Fr frG τ t1 := ft.sub (mF_sub rfl (sub_c (Or.inl rfl) (sub_c (Or.inl rfl) sub_nil)) rfl (sud_c (Or.inl ⟨_, List.mem_of_getElem? (i := 1) rfl, rfl⟩) sud_nil))
      have f3' : Fr (mF [38, 39] [] [(7, [6, 7])] []) σ s3 := f3.sub (mF_sub rfl (sub_c (Or.inl rfl) (sub_c (Or.inl rfl) sub_nil)) rfl (sud_c (Or.inl ⟨_, List.mem_of_getElem? (i := 0) rfl, rfl⟩) sud_nil))
      have ft' : Fr (mF [69, 70] [] [(18, [4])] []) τ t1 := ft.sub (mF_sub rfl (sub_c (Or.inl rfl) (sub_c (Or.inl rfl) sub_nil)) rfl (sud_c (Or.inl ⟨_, List.mem_of_getElem? (i := 0) rfl, rfl⟩) sud_nil))
      refine ⟨RF_at hF hk (f3'.row fun _ => rfl) (f3' _ _ _ rfl) (fun p hp => ⟨f3.row (fun j => by simp [mF, Ne.symm hp]), f3.row (fun j => by simp [mF, Ne.symm hp]), f3.row (fun j => by simp [mF, Ne.symm hp])⟩) (fun j hj => ⟨ft.row (fun i => by simp [mF, Ne.symm hj]), ft.row (fun i => by simp [mF, Ne.symm hj]), ft.row (fun i => by simp [mF, Ne.symm hj])⟩) (fun f hf => ft _ _ _ (by simp [mF, hf])) hp, hN.f f3' ft', hK.f f3' ft', g1⟩
    have same : ∀ t1 : St, RFx s3 t1 t l z q r → s3 7 (frw σ k) 7 = t1 18 (q k) 4 ∧ (∀ e, e ≤ 4096 → (allT (s3 39 (frw σ k)) e ↔ allT (t1 70 (q k)) e)) ∧ ∀ e, e ≤ 4096 → allT (t1 70 (q k)) e → ∀ a, a < e → s3 38 (frw σ k) a = t1 69 (q k) a := by
      intro t1 hx
      have hrw3 : frw s3 k = frw σ k := frw_c f37 k
      obtain ⟨_, _, _, _, p5, p6, p7, _⟩ := (hx.2.2.2.1 k hk).2.2.2.2
      rw [hrw3] at p5 p6 p7
      refine ⟨p5, fun e he => ⟨fun h a ha => ?_, fun h a ha => ?_⟩, fun e he h a ha => p7 a (by omega) (h a ha)⟩
      · rw [← p6 a (by omega)]; exact h a ha
      · rw [p6 a (by omega)]; exact h a ha
    show w7_isWhole s3 (frw σ k) _
    refine s7_isWhole e3 (fun e y1 y2 hall => br_v (by decide) ?_) (fun hpart => br_u rfl ?_)
    · refine g5 _ (fun s6 e6 => ?_)
      show w14_fragment_J184 τ from_ pr (nI off) (nI at_) (nI n) more (q k) (Q (some (frw σ k)) s6)
      refine s14_fragment_J184 hno (fun h => absurd (hbad.mpr h) hnb) (fun _ => s14_frag_good ok' b1 hno hat eτ (fun t1 okt1 ft he ht hb => ?_))
      obtain ⟨x1, x2, x3, x4⟩ := after t1 ft he ht hb
      obtain ⟨q1, q2, q3⟩ := same t1 x1
      refine ⟨fun hpart => ?_, fun e' w1 w2 hall' t2 okt2 ft2 hu hcnt hwh hsn => ?_⟩
      · exfalso
        rcases hpart with w | ⟨e', w1, w2, w3⟩
        · rw [← q1, y1] at w
          have := nI_nlt (a := e) (b := 0) (by omega) (by omega)
          rw [w] at this
          exact this (by decide)
        · rw [← q1, y1] at w1
          have : e = e' := (nI_eq (by omega) (by omega)).mp w1
          subst this
          exact w3 ((q2 e y2).mp hall)
      · have ee : e' = e := by
          rw [← q1, y1] at w1
          exact ((nI_eq (by omega) (by omega)).mp w1).symm
        subst ee
        have ok6 : okS s6 := by rw [e6]; exact ok_n ok5 rfl
        have f6 : Fr (mF [37] [] [(6, [1, 2])] []) s3 s6 := by
          rw [e6]
          exact (f5.sub (mF_sub rfl sub_nil rfl sud_nil)).up rfl
        have g2 : Fr (mF [64] [] [(14, [30]), (18, [0]), (56, [1])] []) t1 t2 := ft2.sub (mF_sub rfl sub_nil rfl (sud_c (Or.inl ⟨_, List.mem_of_getElem? (i := 1) rfl, rfl⟩) (sud_c (Or.inl ⟨_, List.mem_of_getElem? (i := 2) rfl, rfl⟩) sud_nil)))
        have hN2 : NB s6 t2 t l b := x2.f f6 g2
        have hF2 : RF s6 t2 t l := RF_del x1 hk (fun i hi => by rw [frw_c (show s6 37 0 = s5 37 0 by rw [e6, up3_r, if_neg (by omega)])]; exact c2 i hi) (by rw [e6, up3_g, if_neg (by omega)]; exact c1) (f6.kind fun _ _ => rfl) (f6.kind fun _ _ => rfl) (f6.kind fun _ _ => rfl) (fun j hj => ft2.row (fun f => by simp [mF, Ne.symm hj])) (g2.kind fun _ _ => rfl) (g2.kind fun _ _ => rfl) hu
        have hK2 : RK s6 t2 := by
          obtain ⟨w0, w1, w2, w3, w4, w5, w6, w7⟩ := x3
          have ec : ∀ j, j ≠ 1 → t2 56 0 j = t1 56 0 j := fun j hj => g2 _ _ _ (by simp [mF, hj])
          unfold RK
          rw [ec 0 (by decide), ec 2 (by decide), ec 3 (by decide), ec 4 (by decide), ec 5 (by decide), ec 6 (by decide), ec 7 (by decide), hcnt, f6.row (k := 8) (fun _ => rfl), f6.row (k := 0) (fun _ => rfl)]
          refine ⟨w0, ?_, w2, w3, w4, w5, w6, w7⟩
          rw [e6, up3_g, if_pos ⟨rfl, rfl, rfl⟩, f5 _ _ _ rfl, w1]
        refine hs (frw σ k) e' s6 t2 ⟨ok6, okt2, ⟨l, hN2, hF2⟩, hK2, (F0.tr F3).tr (f6.sub (mF_sub rfl sub_nil rfl sud_nil)), (G0.tr x4).tr (g2.sub (mF_sub rfl sub_nil rfl sud_nil))⟩ hp4 y2 (by rw [f6 _ _ _ rfl]; exact y1) (fun a ha => ?_) hsn
        rw [hwh a ha, f6 _ _ _ rfl]
        exact q3 e' y2 hall' a ha
    · refine s14_fragment_J184 hno (fun h => absurd (hbad.mpr h) hnb) (fun _ => s14_frag_good ok' b1 hno hat eτ (fun t1 okt1 ft he ht hb => ?_))
      obtain ⟨x1, x2, x3, x4⟩ := after t1 ft he ht hb
      obtain ⟨q1, q2, q3⟩ := same t1 x1
      refine ⟨fun _ => hn _ _ ⟨ok3, okt1, ⟨l, x2, z, q, r, x1⟩, x3, F0.tr F3, G0.tr x4⟩, fun e y1 y2 hall => ?_⟩
      exfalso
      rcases hpart with w | ⟨e', w1, w2, w3⟩
      · rw [q1, y1] at w
        have := nI_nlt (a := e) (b := 0) (by omega) (by omega)
        rw [w] at this
        exact this (by decide)
      · rw [q1, y1] at w1
        have : e = e' := (nI_eq (by omega) (by omega)).mp w1
        subst this
        exact w3 ((q2 e y2).mpr hall)
