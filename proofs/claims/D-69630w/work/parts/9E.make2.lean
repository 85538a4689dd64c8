/-! answers of files: the model -/
set_option maxRecDepth 100000
theorem s14_etag {t0 : St} {i b e : Nat} {l : List Nat} {v x3 x4 : Int32} {Q K : St → Prop} (he : e < 64) (hv : t0 55 0 e = v) (hl : l.length ≤ b) (hb : b ≤ 300) (hq : (l ++ ETL v).length ≤ b + 60 → K (aM t0 i 0 (l ++ ETL v))) : w14_say (aM t0 i 0 l) i 80 (fun σ26 => (∃ z29, w14_make_L164 i (nI e) x3 x4 Q (fun σ30 => w14_code σ30 i 34 (fun σ31 => (w14_line σ31 i (fun σ32 => K σ32)))) z29 σ26 0)) := by
  refine q_say hl (by omega) (by decide) (fun h1 => ⟨9, ?_⟩)
  have h8 := hxl_len v 8 0
  have L := s14_mk_L164 (i := i) (e := e) (x3 := x3) (x4 := x4) (Q := Q) (K := fun σ30 => w14_code σ30 i 34 (fun σ31 => (w14_line σ31 i (fun σ32 => K σ32)))) he v 8 0 (aM t0 i 0 (l ++ tl 80)) (l ++ tl 80).length (by omega) (by rw [aM_o (by decide) (by decide)]; exact hv) aM_l (by omega) ?_
  · exact L
  · rw [aM_p]
    have h2 : (l ++ tl 80 ++ hxl v 0 8).length ≤ b + 39 := by rw [List.length_append]; omega
    refine q_code (u := 34) h2 (by omega) (by omega) (fun h3 => q_line h3 (by omega) (fun h4 => ?_))
    have e1 : l ++ tl 80 ++ hxl v 0 8 ++ [34] ++ [13, 10] = l ++ ETL v := by
      unfold ETL
      rw [t80]
      simp only [List.append_assoc]
    rw [e1] at h4 ⊢
    exact hq (Nat.le_trans h4 (by omega))
/-- the end of an answer of a file -/
theorem s14_make_f {t0 : St} {i e p ln : Nat} {l : List Nat} {by_ : Bool} {Q : St → Prop} (he : e < 64) (hp : t0 53 0 e = nI p) (hq : Q (aM (up3 (up3 t0 15 i 27 (nI p)) 15 i 28 (nI (if by_ then ln else 0))) i 0 l)) : w14_make_J272 (aM t0 i 0 l) i (nI e) (nI ln) (if by_ then 1 else 0) Q := by
  have nn : ¬ nI e < 0 := nI_nlt (b := 0) (by omega) (by omega)
  refine br_f nn ?_
  rw [cl (by omega)]
  refine ⟨vin (by omega) (by omega), fun s21 e21 => ?_⟩
  rw [aM_o (by decide) (by decide), hp, aM_up (by decide)] at e21
  subst e21
  cases by_ with
  | false =>
    refine br_t rfl (fun s15 e15 => br_t rfl ?_)
    rw [aM_up (by decide)] at e15
    rw [e15]
    exact hq
  | true =>
    refine br_f (by decide) (br_f nn (fun s15 e15 => br_f (by decide) (br_t (nI_le (a := 0) (by omega) (by omega)) ?_)))
    rw [aM_up (by decide)] at e15
    rw [e15]
    exact hq
/-- 304 -/
theorem s14_make304 {τ : St} {i e p ln : Nat} {x3 v : Int32} {d hd : Bool} {Q : St → Prop} (he : e < 64) (hst : (τ 14 0 43) = 304) (hhd : (τ 14 0 44) = if hd then 1 else 0) (hx : x3 = if d then 1 else 0) (hv : τ 55 0 e = v) (hp : τ 53 0 e = nI p) (hln : τ 54 0 e = nI ln) (hq : (SML v d).length ≤ 300 → Q (aM (up3 (up3 (mk0 τ i x3) 15 i 27 (nI p)) 15 i 28 (nI 0)) i 0 (SML v d))) : w14_make τ i (nI e) x3 Q := by
  have nn : ¬ nI e < 0 := nI_nlt (b := 0) (by omega) (by omega)
  have hbo : bo x3 := by rw [hx]; cases d with
    | true => exact Or.inr rfl
    | false => exact Or.inl rfl
  have m14 : mk0 τ i x3 14 0 = τ 14 0 := mk0_f.row (k := 14) fun _ => rfl
  have m53 : mk0 τ i x3 53 0 = τ 53 0 := mk0_f.row (k := 53) fun _ => rfl
  have m54 : mk0 τ i x3 54 0 = τ 54 0 := mk0_f.row (k := 54) fun _ => rfl
  have m55 : mk0 τ i x3 55 0 = τ 55 0 := mk0_f.row (k := 55) fun _ => rfl
  have h43 : ∀ l, aM (mk0 τ i x3) i 0 l 14 0 43 = 304 := fun l => by rw [aM_o (by decide) (by decide), m14]; exact hst
  refine s14_make_b (s := 304) (t := 30) (by omega) hst hbo (by decide) (fun σ10 e10 h0 => br_f nn ?_)
  subst e10
  rw [cl (by omega), aM_o (by decide) (by decide), m54, hln]
  refine ⟨vin (by omega) (by omega), br_t (h43 _) (br_f nn (s14_etag (v := v) he (by rw [m55]; exact hv) h0 (by omega) (fun h1 => ?_)))⟩
  refine s14_make_e (s := 304) (hd := hd) (b := 140) (by omega) (by rw [m14]; exact hst) (by rw [m14]; exact hhd) hx (Nat.le_trans h1 (by omega)) (by omega) (fun h2 => ?_)
  have e1 : BG 304 30 ++ ETL v ++ (if 304 = 405 then tl 28 ++ [13, 10] else []) ++ FN d = SML v d := by
    rw [if_neg (by decide), List.append_nil]
    rfl
  rw [e1] at h2 ⊢
  have fin := s14_make_f (i := i) (t0 := mk0 τ i x3) (e := e) (p := p) (ln := ln) (l := SML v d) (by_ := false) (Q := Q) he (by rw [m53]; exact hp) (hq (by omega))
  exact ⟨fun _ => fin, fun z => absurd (Or.inr rfl) z⟩
/-- 200 -/
theorem s14_make200 {τ : St} {i e p ln tC tM : Nat} {x3 v : Int32} {d hd : Bool} {Q : St → Prop} (he : e < 64) (hst : (τ 14 0 43) = 200) (hhd : (τ 14 0 44) = if hd then 1 else 0) (hx : x3 = if d then 1 else 0) (hv : τ 55 0 e = v) (hp : τ 53 0 e = nI p) (hln : τ 54 0 e = nI ln) (hl5 : ln < 100000) (hC : tC < 83) (hM : tM < 83) (htt : tl tC = tl tM) (hty : ∀ τ', τ' 52 0 = τ 52 0 → ∀ R : Nat → Prop, R tM → w14_type τ' (nI e) R) (hq : (FLL ln tC v d).length ≤ 400 → Q (aM (up3 (up3 (mk0 τ i x3) 15 i 27 (nI p)) 15 i 28 (nI (if hd then 0 else ln))) i 0 (FLL ln tC v d))) : w14_make τ i (nI e) x3 Q := by
  have nn : ¬ nI e < 0 := nI_nlt (b := 0) (by omega) (by omega)
  have hbo : bo x3 := by rw [hx]; cases d with
    | true => exact Or.inr rfl
    | false => exact Or.inl rfl
  have m14 : mk0 τ i x3 14 0 = τ 14 0 := mk0_f.row (k := 14) fun _ => rfl
  have m52 : mk0 τ i x3 52 0 = τ 52 0 := mk0_f.row (k := 52) fun _ => rfl
  have m53 : mk0 τ i x3 53 0 = τ 53 0 := mk0_f.row (k := 53) fun _ => rfl
  have m54 : mk0 τ i x3 54 0 = τ 54 0 := mk0_f.row (k := 54) fun _ => rfl
  have m55 : mk0 τ i x3 55 0 = τ 55 0 := mk0_f.row (k := 55) fun _ => rfl
  have h43 : ∀ l, aM (mk0 τ i x3) i 0 l 14 0 43 = 200 := fun l => by rw [aM_o (by decide) (by decide), m14]; exact hst
  refine s14_make_b (s := 200) (t := 42) (by omega) hst hbo (by decide) (fun σ10 e10 h0 => br_f nn ?_)
  subst e10
  rw [cl (by omega), aM_o (by decide) (by decide), m54, hln]
  refine ⟨vin (by omega) (by omega), br_f (by rw [h43]; decide) (q_say h0 (by omega) (by decide) (fun h1 => q_num h1 (by omega) hl5 (fun h2 => q_line h2 (by omega) (fun h3 => q_say h3 (by omega) (by decide) (fun h4 => hty _ (by rw [aM_o (by decide) (by decide), m52]) _ ⟨hM, q_say h4 (by omega) hM (fun h5 => q_line h5 (by omega) (fun h6 => br_f nn ?_))⟩)))))⟩
  have e6 : BG 200 42 ++ tl 78 ++ dgs ln ++ [13, 10] ++ tl 79 ++ tl tM ++ [13, 10] = BG 200 42 ++ LN ln ++ tl 43 ++ (tl tC ++ [13, 10]) := by
    unfold LN
    rw [t78, t79, htt]
    simp only [List.append_assoc]
  rw [e6] at h6 ⊢
  refine s14_etag (b := 180) (v := v) he (by rw [m55]; exact hv) (Nat.le_trans h6 (by omega)) (by omega) (fun h7 => ?_)
  refine s14_make_e (s := 200) (hd := hd) (b := 240) (by omega) (by rw [m14]; exact hst) (by rw [m14]; exact hhd) hx (Nat.le_trans h7 (by omega)) (by omega) (fun h8 => ?_)
  have e1 : BG 200 42 ++ LN ln ++ tl 43 ++ (tl tC ++ [13, 10]) ++ ETL v ++ (if 200 = 405 then tl 28 ++ [13, 10] else []) ++ FN d = FLL ln tC v d := by
    rw [if_neg (by decide), List.append_nil]
    rfl
  rw [e1] at h8 ⊢
  have hq := hq (by omega)
  cases hd with
  | true => exact ⟨fun _ => s14_make_f (by_ := false) he (by rw [m53]; exact hp) hq, fun z => absurd (Or.inl rfl) z⟩
  | false => exact ⟨fun z => absurd z (by decide), fun _ => s14_make_f (by_ := true) he (by rw [m53]; exact hp) hq⟩
