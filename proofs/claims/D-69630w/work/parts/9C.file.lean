/-! answers of files: the component -/
set_option maxRecDepth 100000
theorem rowIs_f {σ σ' : St} {k : Nat} (h : rowIs σ k) (e : σ' 1 0 = σ 1 0) : rowIs σ' k := by
  unfold rowIs
  rw [e]
  exact h
def ETL (v : Int32) : List Nat := tl 29 ++ ([34] ++ hxl v 0 8 ++ [34]) ++ [13, 10]
theorem p_etag {s0 : St} {i b e : Nat} {l : List Nat} {v : Int32} {Q : St → Prop} (h : wC s0 i 0) (hr : rowIs s0 22) (he : e < 64) (hv : four (s0 22 0) (8 + 64 * e + 56) = v) (hl : l.length ≤ b) (hb : b ≤ 340) (hq : (l ++ ETL v).length ≤ b + 74 → Q (aC s0 i 0 (l ++ ETL v))) : w9_mark (aC s0 i 0 l) i (nI e) Q := by
  unfold ETL at hq
  refine p_say h hl (by omega) (by decide) (fun h1 => s1_mark (k := 22) (rowIs_f hr (aC_o (by decide) (by decide))) (by omega) (by show _ ≤ 4104; omega) ?_)
  rw [aC_o (by decide) (by decide), hv]
  refine p_mark h h1 (by omega) (fun h2 => p_line h h2 (by omega) (by decide) (fun h3 => ?_))
  rw [tl25] at h3 ⊢
  have e1 : l ++ tl 29 ++ ([34] ++ hxl v 0 8 ++ [34]) ++ ([] ++ [13, 10]) = l ++ (tl 29 ++ ([34] ++ hxl v 0 8 ++ [34]) ++ [13, 10]) := by simp only [List.append_assoc, List.nil_append]
  rw [e1] at h3 ⊢
  exact hq (Nat.le_trans h3 (by omega))
/-- 304 -/
def SML (v : Int32) (d : Bool) : List Nat := BG 304 30 ++ ETL v ++ FN d
theorem s9_same {σ : St} {i e : Nat} {v x3 : Int32} {d : Bool} {Q : St → Prop} (hroom : σ 90 (i + 1) 0 = 0 ∨ σ 90 (i + 1) 0 = 66047) (hfre : fre σ 44) (hr : rowIs σ 22) (he : e < 64) (hv : four (σ 22 0) (8 + 64 * e + 56) = v) (hx : x3 = if d then 1 else 0) (hq : ∀ s0, wC s0 i 0 → Fr (bgF i) σ s0 → (SML v d).length ≤ 300 → Q (aC s0 i 0 (SML v d))) : w9_same σ i (nI e) x3 Q := by
  refine s9_begin (n := 304) (t := 30) hroom hfre (by omega) (by decide) (fun s0 h f h0 => ?_)
  have r1 : s0 1 0 = σ 1 0 := f.row (fun j => by simp [mF])
  have r2 : s0 22 0 = σ 22 0 := f.row (fun j => by simp [mF])
  refine p_etag (v := v) h (rowIs_f hr r1) he (by rw [r2]; exact hv) h0 (by omega) (fun h1 => p_fin h h1 (by omega) hx (fun h2 => ?_))
  exact hq s0 h f (by unfold SML; omega)
/-- the head of 200 -/
def FLL (ln ty : Nat) (v : Int32) (d : Bool) : List Nat := BG 200 42 ++ LN ln ++ tl 43 ++ (tl ty ++ [13, 10]) ++ ETL v ++ FN d
/-- behind the bytes of a file -/
def fbC (s : St) (i h p m : Nat) : St := up3 (row3 s 44 i (va_cpy (s 21 0) (s 44 i) p h m)) 13 i 1 (nI (h + m))
theorem s13_putb {σ : St} {i L : Nat} {x : Int32} {Q : St → Prop} (h : wC σ i L) (hL : L < 66047) (hb : by8 x) (hq : Q (up3 (up3 σ 44 i L x) 13 i 1 (nI (L + 1)))) : w13_put σ i x Q := by
  unfold w13_put
  rw [h.1, h.2, cl (by omega)]
  refine ⟨vin (N := (66047 : Int32).toNatClampNeg) (by show L < 66047; omega) (by omega), fun s1 e1 s2 e2 => ?_⟩
  rw [show x.toInt8.toInt32 = x from hb, show x.toInt8.toInt32 = x from hb] at e1
  have v : s1 13 i 1 = nI L := by rw [e1, up3_g, if_neg (by omega)]; exact h.1
  rw [v, nI_1, e1] at e2
  rw [e2]
  exact hq
theorem s9_fi_L73 {i e p ln n : Nat} {Q K : St → Prop} (he : e < 64) (hn : n ≤ 65535) (hpl : p + ln ≤ n) : ∀ (m j : Nat) (σ : St) (L : Nat), j + m = ln → wC σ i L → L + m ≤ 66047 → rowIs σ 22 → four (σ 22 0) (8 + 64 * e + 52) = nI ln → σ 90 0 0 = nI n → K (fbC σ i L (p + j) m) → w9_file_L73 i (nI e) (nI p) Q K (m + 1) σ (nI j) := by
  intro m
  induction m with
  | zero =>
    intro j σ L hj h hL hr hf h9 hK
    refine s1_length hr (by omega) (by show _ ≤ 4104; omega) ?_
    rw [hf]
    unfold fbC at hK
    rw [cpy_0, row3_self, Nat.add_zero, up_self h.1] at hK
    exact br_t (nI_le (by omega) (by omega)) hK
  | succ m ih =>
    intro j σ L hj h hL hr hf h9 hK
    refine s1_length hr (by omega) (by show _ ≤ 4104; omega) ?_
    rw [hf]
    refine br_f (nI_ge (by omega) (by omega)) ?_
    rw [nI_add, cl (by omega), h9, cl (by omega), nI_1]
    refine ⟨vin (by omega) (by omega), fun hby => s13_putb h (by omega) hby ?_⟩
    generalize hs : up3 (up3 σ 44 i L (σ 21 0 (p + j))) 13 i 1 (nI (L + 1)) = s
    have o1 : ∀ k i', k ≠ 44 → k ≠ 13 → s k i' = σ k i' := fun k i' a b => by rw [← hs, up3_r, if_neg (fun z => b z.1), up3_r, if_neg (fun z => a z.1)]
    refine ih (j + 1) s (L + 1) (by omega) ⟨by rw [← hs, up3_g, if_pos ⟨rfl, rfl, rfl⟩], by rw [o1 _ _ (by decide) (by decide)]; exact h.2⟩ (by omega) (rowIs_f hr (o1 _ _ (by decide) (by decide))) (by rw [o1 _ _ (by decide) (by decide)]; exact hf) (by rw [o1 _ _ (by decide) (by decide)]; exact h9) ?_
    have e44 : s 44 i = va_up (σ 44 i) L (σ 21 0 (p + j)) := by rw [← hs, up3_r, if_neg (by omega), up3_r, if_pos ⟨rfl, rfl⟩]
    unfold fbC at hK ⊢
    rw [e44, o1 21 _ (by decide) (by decide), ← Nat.add_assoc, cpy_s, show L + 1 + m = L + (m + 1) by omega]
    have e2 : up3 (row3 s 44 i (va_cpy (σ 21 0) (σ 44 i) (p + j) L (m + 1))) 13 i 1 (nI (L + (m + 1))) = up3 (row3 σ 44 i (va_cpy (σ 21 0) (σ 44 i) (p + j) L (m + 1))) 13 i 1 (nI (L + (m + 1))) := by
      funext k' i'
      by_cases c1 : k' = 13 ∧ i' = i
      · rw [up3_r, if_pos c1, up3_r, if_pos c1, row3_o (by omega), row3_o (by omega), ← hs, up3_r, if_pos ⟨rfl, rfl⟩, up3_r, if_neg (by omega), vu_vu]
      · rw [up3_r, if_neg c1, up3_r, if_neg c1, row3_r, row3_r]
        by_cases c2 : k' = 44 ∧ i' = i
        · rw [if_pos c2, if_pos c2]
        · rw [if_neg c2, if_neg c2, ← hs, up3_r, if_neg c1, up3_r, if_neg c2]
    rw [e2]
    exact hK
theorem s9_file {σ τ : St} {i e n p ln : Nat} {x3 : Int32} {d hd : Bool} {Q : St → Prop} (hroom : σ 90 (i + 1) 0 = 0 ∨ σ 90 (i + 1) 0 = 66047) (hfre : fre σ 44) (hr : rowIs σ 22) (he : e < 64) (hF : FL σ τ e n p ln) (hn : n ≤ 65535) (h9 : σ 90 0 0 = nI n) (hx : x3 = if d then 1 else 0) (hhd : (σ 9 0 5) = if hd then 1 else 0)
    (hq : ∀ s0 tC tM, wC s0 i 0 → Fr (bgF i) σ s0 → tC < 83 → tM < 83 → tl tC = tl tM → (∀ τ', τ' 52 0 = τ 52 0 → ∀ R : Nat → Prop, R tM → w14_type τ' (nI e) R) → (FLL ln tC (τ 55 0 e) d).length ≤ 400 → Q (if hd then aC s0 i 0 (FLL ln tC (τ 55 0 e) d) else fbC (aC s0 i 0 (FLL ln tC (τ 55 0 e) d)) i (FLL ln tC (τ 55 0 e) d).length p ln)) : w9_file σ i (nI e) x3 Q := by
  have hsum := hF.sum
  refine s9_begin (n := 200) (t := 42) hroom hfre (by omega) (by decide) (fun s0 h f h0 => ?_)
  have r1 : s0 1 0 = σ 1 0 := f.row (fun j => by simp [mF])
  have r2 : s0 22 0 = σ 22 0 := f.row (fun j => by simp [mF])
  have r9 : s0 90 0 0 = nI n := by rw [f _ _ _ (by simp [mF])]; exact h9
  have hr0 := rowIs_f hr r1
  have q1 : ∀ l, rowIs (aC s0 i 0 l) 22 := fun l => rowIs_f hr0 (aC_o (by decide) (by decide))
  have q2 : ∀ l, aC s0 i 0 l 22 0 = σ 22 0 := fun l => by rw [aC_o (by decide) (by decide)]; exact r2
  refine s1_length (q1 _) (by omega) (by show _ ≤ 4104; omega) ?_
  rw [q2, hF.ln1]
  refine p_len h h0 (by omega) (by omega) (fun h1 => p_say h h1 (by omega) (by decide) (fun h2 => ?_))
  generalize hl2 : BG 200 42 ++ LN ln ++ tl 43 = l2 at h2
  have hF' : FL (aC s0 i 0 l2) τ e n p ln := by
    obtain ⟨rig, nm, pl1, pl2, ln1, ln2, mk1, sum⟩ := id (hF)
    refine FL.mk ?_ ?_ ?_ pl2 ?_ ln2 ?_ sum
    · rw [q2]; exact rig
    · rw [q2]; exact nm
    · rw [q2]; exact pl1
    · rw [q2]; exact ln1
    · rw [q2]; exact mk1
  refine R_kind (τ := τ) (q1 _) he hF' (fun tC tM b1 b2 b3 b4 b5 => ⟨b1, p_line h h2 (by omega) b1 (fun h3 => ?_)⟩)
  refine p_etag (v := τ 55 0 e) h hr0 he (by rw [r2]; exact hF.mk1) h3 (by omega) (fun h4 => p_fin h h4 (by omega) hx (fun h5 _ => ?_))
  have hh : ∀ l, aC s0 i 0 l 9 0 5 = if hd then 1 else 0 := fun l => by rw [aC_o (by decide) (by decide), f.row (fun j => by simp [mF])]; exact hhd
  rw [hh, ← hl2]
  have eF : BG 200 42 ++ LN ln ++ tl 43 ++ (tl tC ++ [13, 10]) ++ ETL (τ 55 0 e) ++ FN d = FLL ln tC (τ 55 0 e) d := rfl
  rw [← hl2, eF] at h5
  rw [eF]
  have := hq s0 tC tM h f b1 b2 b3 b5 (by omega)
  cases hd with
  | true => exact br_f (by decide) this
  | false =>
    refine br_t rfl (s1_place (q1 _) (by omega) (by show _ ≤ 4104; omega) ?_)
    rw [q2, hF.pl1]
    refine ⟨ln + 1, s9_fi_L73 (n := n) he hn hsum ln 0 _ (FLL ln tC (τ 55 0 e) d).length (by omega) h.p (by omega) (q1 _) (by rw [q2]; exact hF.ln1) (by rw [aC_o (by decide) (by decide)]; exact r9) ?_⟩
    exact this
