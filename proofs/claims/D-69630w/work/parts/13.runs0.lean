/-! runs: what a run may change, and that states keep their types -/
set_option maxRecDepth 100000
def okS (σ : St) : Prop := ∀ k i j, okv (tyk k j) (σ k i j)
def mF (A : List Nat) (B : List (Nat × Nat)) (C : List (Nat × List Nat)) (D : List (Nat × Nat × List Nat)) (k i j : Nat) : Bool :=
  A.contains k || B.any (fun e => e.1 == k && e.2 == i) || C.any (fun e => e.1 == k && e.2.contains j) || D.any (fun e => e.1 == k && e.2.1 == i && e.2.2.contains j)
def mR (K I k i : Nat) (_ : Nat) : Bool := k == K && i == I
def Fr (M : Nat → Nat → Nat → Bool) (σ σ' : St) : Prop := ∀ k i j, M k i j = false → σ' k i j = σ k i j
theorem Fr.rf {M : Nat → Nat → Nat → Bool} {σ : St} : Fr M σ σ := fun _ _ _ _ => rfl
theorem Fr.tr {M : Nat → Nat → Nat → Bool} {σ σ1 σ2 : St} (h : Fr M σ σ1) (h' : Fr M σ1 σ2) : Fr M σ σ2 := fun k i j z => (h' k i j z).trans (h k i j z)
theorem Fr.sub {M M1 : Nat → Nat → Nat → Bool} {σ σ1 : St} (h : Fr M1 σ σ1) (hs : ∀ k i j, M k i j = false → M1 k i j = false) : Fr M σ σ1 := fun k i j z => h k i j (hs k i j z)
theorem Fr.row {M : Nat → Nat → Nat → Bool} {σ σ' : St} (h : Fr M σ σ') {k i : Nat} (hm : ∀ j, M k i j = false) : σ' k i = σ k i := funext fun j => h k i j (hm j)
theorem Fr.kind {M : Nat → Nat → Nat → Bool} {σ σ' : St} (h : Fr M σ σ') {k : Nat} (hm : ∀ i j, M k i j = false) : σ' k = σ k := funext fun i => funext fun j => h k i j (hm i j)
theorem up3_j {σ : St} {k i j k' i' j' : Nat} {v : Int32} (h : ¬ (k' = k ∧ i' = i ∧ j' = j)) : up3 σ k i j v k' i' j' = σ k' i' j' := by
  by_cases e : k' = k ∧ i' = i
  · obtain ⟨rfl, rfl⟩ := e
    have : j' ≠ j := fun z => h ⟨rfl, rfl, z⟩
    simp [up3, va_up, this]
  · rw [up3_i e]
theorem Fr.up {M : Nat → Nat → Nat → Bool} {σ s : St} {k i j : Nat} {v : Int32} (h : Fr M σ s) (hm : M k i j = true) : Fr M σ (up3 s k i j v) := fun k' i' j' z => by
  rw [up3_j (fun e => by rw [e.1, e.2.1, e.2.2, hm] at z; cases z)]
  exact h k' i' j' z
theorem Fr.nw21 {M : Nat → Nat → Nat → Bool} {σ s : St} {n : Int32} (h : Fr M σ s) (h1 : ∀ j, M 21 0 j = true) (h2 : M 90 0 0 = true) : Fr M σ (nw21 s n) := fun k' i' j' z => by
  have h3 : Fr M σ (row3 s 21 0 (fun _ => 0)) := fun k' i' j' z => by
    rw [row3_o (fun e => by rw [e.1, e.2, h1 j'] at z; cases z)]
    exact h k' i' j' z
  exact Fr.up h3 h2 k' i' j' z
theorem Fr.nw44 {M : Nat → Nat → Nat → Bool} {σ s : St} {i : Nat} {n : Int32} (h : Fr M σ s) (h1 : ∀ j, M 44 i j = true) (h2 : M 90 (i + 1) 0 = true) : Fr M σ (nw44 s i n) := fun k' i' j' z => by
  have h3 : Fr M σ (row3 s 44 i (fun _ => 0)) := fun k' i' j' z => by
    rw [row3_o (fun e => by rw [e.1, e.2, h1 j'] at z; cases z)]
    exact h k' i' j' z
  exact Fr.up h3 h2 k' i' j' z
theorem mR_s {k i j : Nat} : mR k i k i j = true := by simp [mR]
section MF
variable {A A' : List Nat} {B B' : List (Nat × Nat)} {C C' : List (Nat × List Nat)} {D D' : List (Nat × Nat × List Nat)} {k i j : Nat}
theorem mF_A (h : A.contains k = true) : mF A B C D k i j = true := by simp only [mF, h, Bool.true_or]
theorem mF_B (h : (k, i) ∈ B) : mF A B C D k i j = true := by
  have : B.any (fun e => e.1 == k && e.2 == i) = true := List.any_eq_true.mpr ⟨(k, i), h, by simp⟩
  simp only [mF, this, Bool.or_true, Bool.true_or]
theorem mF_C {fs : List Nat} (h : (k, fs) ∈ C) (hj : fs.contains j = true) : mF A B C D k i j = true := by
  have : C.any (fun e => e.1 == k && e.2.contains j) = true := List.any_eq_true.mpr ⟨(k, fs), h, by rw [hj]; simp⟩
  simp only [mF, this, Bool.or_true, Bool.true_or]
theorem mF_D {fs : List Nat} (h : (k, i, fs) ∈ D) (hj : fs.contains j = true) : mF A B C D k i j = true := by
  have : D.any (fun e => e.1 == k && e.2.1 == i && e.2.2.contains j) = true := List.any_eq_true.mpr ⟨(k, i, fs), h, by rw [hj]; simp⟩
  simp only [mF, this, Bool.or_true]
theorem mF_mR {K I : Nat} (h : A.contains K = true ∨ (K, I) ∈ B) : ∀ k i j, mF A B C D k i j = false → mR K I k i j = false := by
  intro k i j z
  cases hm : mR K I k i j with
  | false => rfl
  | true =>
    simp only [mR, Bool.and_eq_true, beq_iff_eq] at hm
    rw [hm.1, hm.2] at z
    rcases h with h | h
    · rw [mF_A h] at z
      cases z
    · rw [mF_B h] at z
      cases z
def Sub9 (A : List Nat) (B es : List (Nat × Nat)) : Prop := ∀ e ∈ es, A.contains e.1 = true ∨ e ∈ B
theorem sub_nil : Sub9 A B [] := fun e h => by cases h
theorem sub_c {es : List (Nat × Nat)} {e : Nat × Nat} (h : A.contains e.1 = true ∨ e ∈ B) (r : Sub9 A B es) : Sub9 A B (e :: es) := fun x hx => by
  rcases List.mem_cons.mp hx with rfl | hx
  · exact h
  · exact r x hx
def sin (fs fs' : List Nat) : Bool := fs.all (fun k => fs'.contains k)
def Sud9 (C : List (Nat × List Nat)) (D es : List (Nat × Nat × List Nat)) : Prop := ∀ e ∈ es, (∃ fs, (e.1, fs) ∈ C ∧ sin e.2.2 fs = true) ∨ ∃ fs, (e.1, e.2.1, fs) ∈ D ∧ sin e.2.2 fs = true
theorem sud_nil : Sud9 C D [] := fun e h => by cases h
theorem sud_c {es : List (Nat × Nat × List Nat)} {e : Nat × Nat × List Nat} (h : (∃ fs, (e.1, fs) ∈ C ∧ sin e.2.2 fs = true) ∨ ∃ fs, (e.1, e.2.1, fs) ∈ D ∧ sin e.2.2 fs = true) (r : Sud9 C D es) : Sud9 C D (e :: es) := fun x hx => by
  rcases List.mem_cons.mp hx with rfl | hx
  · exact h
  · exact r x hx
theorem sin_m {fs fs' : List Nat} (h : sin fs fs' = true) (hj : fs.contains j = true) : fs'.contains j = true := by
  rw [sin, List.all_eq_true] at h
  exact h j (by simpa using hj)
theorem mF_sub (ha : sin A' A = true) (hb : Sub9 A B B') (hc : C'.all (fun e => C.any (fun f => f.1 == e.1 && sin e.2 f.2)) = true) (hd : Sud9 C D D') : ∀ k i j, mF A B C D k i j = false → mF A' B' C' D' k i j = false := by
  intro k i j z
  cases hm : mF A' B' C' D' k i j with
  | false => rfl
  | true =>
    rw [mF, Bool.or_eq_true, Bool.or_eq_true, Bool.or_eq_true] at hm
    rcases hm with ((hm | hm) | hm) | hm
    · rw [mF_A (sin_m ha hm)] at z
      cases z
    · obtain ⟨e, h2, h3⟩ := List.any_eq_true.mp hm
      simp only [Bool.and_eq_true, beq_iff_eq] at h3
      obtain ⟨rfl, rfl⟩ := h3
      rcases hb e h2 with h4 | h4
      · rw [mF_A h4] at z
        cases z
      · rw [mF_B h4] at z
        cases z
    · obtain ⟨e, h2, h3⟩ := List.any_eq_true.mp hm
      simp only [Bool.and_eq_true, beq_iff_eq] at h3
      obtain ⟨rfl, h3⟩ := h3
      rw [List.all_eq_true] at hc
      obtain ⟨f, h4, h5⟩ := List.any_eq_true.mp (hc e h2)
      simp only [Bool.and_eq_true, beq_iff_eq] at h5
      obtain ⟨f1, f2⟩ := f
      obtain ⟨h5, h6⟩ := h5
      simp only at h5 h6
      subst h5
      rw [mF_C h4 (sin_m h6 h3)] at z
      cases z
    · obtain ⟨e, h2, h3⟩ := List.any_eq_true.mp hm
      simp only [Bool.and_eq_true, beq_iff_eq] at h3
      obtain ⟨⟨rfl, rfl⟩, h3⟩ := h3
      rcases hd e h2 with ⟨fs, h4, h5⟩ | ⟨fs, h4, h5⟩
      · rw [mF_C h4 (sin_m h5 h3)] at z
        cases z
      · rw [mF_D h4 (sin_m h5 h3)] at z
        cases z
end MF
theorem ok_n {σ : St} {k i j : Nat} {v : Int32} (ok : okS σ) (h : tyk k j = 0) : okS (up3 σ k i j v) := okv_up ok (okv_n h)
theorem ok_z {σ : St} {k i j : Nat} {v : Int32} (ok : okS σ) (h : tyk k j = 1) (hv : bo v) : okS (up3 σ k i j v) := okv_up ok (okv_z h hv)
theorem ok_b {σ : St} {k i j : Nat} {v : Int32} (ok : okS σ) (h : tyk k j = 2) : okS (up3 σ k i j v.toInt8.toInt32) := okv_up ok (by rw [h]; exact ⟨fun h => absurd h (by decide), fun _ => by simp [by8]⟩)
theorem ok_row {σ : St} {K I : Nat} (ok : okS σ) : okS (row3 σ K I (fun _ => 0)) := by
  intro k i j
  by_cases e2 : k = K ∧ i = I
  · rw [e2.1, e2.2, row3_s]
    exact ⟨fun _ => Or.inl rfl, fun _ => rfl⟩
  · rw [row3_o e2]
    exact ok k i j
theorem ok_nw21 {σ : St} {n : Int32} (ok : okS σ) : okS (nw21 σ n) := ok_n (ok_row ok) (by decide)
theorem ok_nw44 {σ : St} {i : Nat} {n : Int32} (ok : okS σ) : okS (nw44 σ i n) := ok_n (ok_row ok) (tyk_a 90 0 (by decide) (by decide) _)
theorem im_n {a b : Prop} (z : b) : a → b := fun _ => z
theorem nm_n {α : Sort _} {a e : α} {P : α → Prop} (ea : a = e) (h : P a) : ∀ x, x = e → P x := fun x hx => by rw [hx, ← ea]; exact h
theorem br_u {c A B : Prop} (h : c) (b : B) : (¬ c → A) ∧ (c → B) := ⟨fun n => absurd h n, fun _ => b⟩
theorem br_v {c A B : Prop} (h : ¬ c) (a : A) : (¬ c → A) ∧ (c → B) := ⟨fun _ => a, fun n => absurd n h⟩
theorem opt_or (p : Option Nat) : p = none ∨ ∃ i, p = some i := by cases p with
  | none => exact Or.inl rfl
  | some i => exact Or.inr ⟨i, rfl⟩
theorem po_n {p : Option Nat} {A : Prop} {B : Nat → Prop} (hp : p = none) (z : A) : (p = none → A) ∧ (∀ y, p = some y → B y) := ⟨fun _ => z, fun y e => by rw [hp] at e; cases e⟩
theorem po_s {p : Option Nat} {A : Prop} {B : Nat → Prop} {i : Nat} (hp : p = some i) (z : B i) : (p = none → A) ∧ (∀ y, p = some y → B y) := by
  subst hp
  exact ⟨(fun e => by cases e), (fun y e => by cases e; exact z)⟩
