/-! the lexer: rows of a tape -/
set_option maxRecDepth 100000
abbrev isL (x : Int32) : Prop := ¬ x < 97 ∧ ¬ 122 < x
abbrev isD (x : Int32) : Prop := ¬ x < 48 ∧ ¬ 57 < x
abbrev isB (x : Int32) : Prop := x = 32 ∨ x = 9 ∨ x = 10 ∨ x = 13
/-- where a run of such bytes ends -/
def runE (P : Int32 → Prop) [DecidablePred P] (c : Nat → Int32) (p k : Nat) : Nat := if k < p ∧ P (c k) then runE P c p (k + 1) else k
termination_by p - k
theorem runE_at {P : Int32 → Prop} [DecidablePred P] {c : Nat → Int32} {p k : Nat} (h : ¬ (k < p ∧ P (c k))) : runE P c p k = k := by rw [runE, if_neg h]
theorem runE_go {P : Int32 → Prop} [DecidablePred P] {c : Nat → Int32} {p k : Nat} (h : k < p) (h2 : P (c k)) : runE P c p k = runE P c p (k + 1) := by rw [runE, if_pos ⟨h, h2⟩]
theorem runE_ge {P : Int32 → Prop} [DecidablePred P] {c : Nat → Int32} {p : Nat} : ∀ m k, p - k = m → k ≤ runE P c p k := by
  intro m
  induction m with
  | zero => intro k h; rw [runE_at (by omega)]; exact Nat.le_refl _
  | succ m ih =>
    intro k h
    by_cases q : k < p ∧ P (c k)
    · rw [runE_go q.1 q.2]; have := ih (k + 1) (by omega); omega
    · rw [runE_at q]; exact Nat.le_refl _
theorem runE_le {P : Int32 → Prop} [DecidablePred P] {c : Nat → Int32} {p : Nat} : ∀ m k, p - k = m → k ≤ p → runE P c p k ≤ p := by
  intro m
  induction m with
  | zero => intro k h hk; rw [runE_at (by omega)]; exact hk
  | succ m ih =>
    intro k h hk
    by_cases q : k < p ∧ P (c k)
    · rw [runE_go q.1 q.2]; exact ih (k + 1) (by omega) (by omega)
    · rw [runE_at q]; exact hk
theorem runE_in {P : Int32 → Prop} [DecidablePred P] {c : Nat → Int32} {p : Nat} : ∀ m k, p - k = m → ∀ j, k ≤ j → j < runE P c p k → j < p ∧ P (c j) := by
  intro m
  induction m with
  | zero => intro k h j hj h2; rw [runE_at (by omega)] at h2; omega
  | succ m ih =>
    intro k h j hj h2
    by_cases q : k < p ∧ P (c k)
    · rw [runE_go q.1 q.2] at h2
      by_cases e : j = k
      · subst e; exact q
      · exact ih (k + 1) (by omega) j (by omega) h2
    · rw [runE_at q] at h2; omega
/-- what is left of a run, from its middle -/
theorem runE_mid {P : Int32 → Prop} [DecidablePred P] {c : Nat → Int32} {p k : Nat} : ∀ d, (∀ j, k ≤ j → j < k + d → j < p ∧ P (c j)) → runE P c p k = runE P c p (k + d) := by
  intro d
  induction d with
  | zero => intro _; rfl
  | succ d ih =>
    intro h
    rw [ih (fun j h1 h2 => h j h1 (by omega))]
    have := h (k + d) (by omega) (by omega)
    rw [runE_go this.1 this.2]; rfl
theorem runE_eq {P : Int32 → Prop} [DecidablePred P] {c : Nat → Int32} {p k e : Nat} (hk : k ≤ e) (h : ∀ j, k ≤ j → j < e → j < p ∧ P (c j)) (hn : ¬ (e < p ∧ P (c e))) : runE P c p k = e := by
  have := runE_mid (P := P) (c := c) (p := p) (k := k) (e - k) (fun j h1 h2 => h j h1 (by omega))
  rw [this, show k + (e - k) = e by omega, runE_at hn]
/-! the words -/
def wchs : Nat → List Int32
  | 0 => [103, 114, 97, 105, 110]
  | 1 => [104, 111, 108, 101]
  | 2 => [114, 97, 116]
  | 3 => [108, 111, 97, 100]
  | 4 => [101, 97, 116, 115]
  | 5 => [101, 114, 114, 115]
  | 6 => [119, 97, 110, 116, 115]
  | 7 => [108, 97, 109, 112]
  | 8 => [111, 100, 100]
  | 9 => [115, 101, 101, 100]
  | 10 => [105, 102]
  | 11 => [116, 104, 101, 110]
  | 12 => [101, 108, 115, 101]
  | 13 => [104, 117, 110, 103, 101, 114]
  | 14 => [102, 97, 116]
  | 15 => [109, 117, 99, 104]
  | 16 => [100, 97, 114, 107]
  | 17 => [102, 97, 114]
  | 18 => [107, 110, 111, 119]
  | _ => [116, 114, 105, 112, 115]
/-- the bytes from a to b -/
def cutL (c : Nat → Int32) (a b : Nat) : List Int32 := (List.range (b - a)).map (fun i => c (a + i))
def wordFrom (l : List Int32) : Nat → Nat → Option Nat
  | 0, _ => none
  | f + 1, w => if l = wchs w then some w else wordFrom l f (w + 1)
def wordOf (l : List Int32) : Option Nat := wordFrom l 20 0
theorem wchs_len (w : Nat) : (wchs w).length ≤ 6 := by
  unfold wchs; split <;> decide
def signK (x : Int32) : Nat := if x = 59 then 4 else if x = 61 then 5 else if x = 40 then 6 else if x = 41 then 7 else if x = 43 then 8 else if x = 45 then 9 else if x = 42 then 10 else if x = 60 then 13 else if x = 47 then 15 else 3
/-- the row that begins at k: its kind, its end -/
def tokAt (c : Nat → Int32) (p k : Nat) : Nat × Nat :=
  if isL (c k) then
    (match wordOf (cutL c k (runE isL c p (k + 1))) with
     | some w => 20 + w
     | none => if 8 < runE isL c p (k + 1) - k then 3 else 1, runE isL c p (k + 1))
  else if isD (c k) then (if 4 < runE isD c p (k + 1) - k then 3 else 2, runE isD c p (k + 1))
  else (signK (c k), k + 1)
theorem signK_ne0 (x : Int32) : signK x ≠ 0 := by
  unfold signK
  repeat' split
  all_goals omega
theorem tokAt_ne0 (c : Nat → Int32) (p k : Nat) : (tokAt c p k).1 ≠ 0 := by
  unfold tokAt
  by_cases h : isL (c k)
  · rw [if_pos h]
    show (match wordOf (cutL c k (runE isL c p (k + 1))) with
     | some w => 20 + w
     | none => if 8 < runE isL c p (k + 1) - k then 3 else 1) ≠ 0
    cases wordOf (cutL c k (runE isL c p (k + 1))) with
    | some w => show 20 + w ≠ 0; omega
    | none => show (if 8 < runE isL c p (k + 1) - k then 3 else 1) ≠ 0; split <;> omega
  · rw [if_neg h]
    by_cases h2 : isD (c k)
    · rw [if_pos h2]
      show (if 4 < runE isD c p (k + 1) - k then 3 else 2) ≠ 0
      split <;> omega
    · rw [if_neg h2]; exact signK_ne0 _
theorem tokAt_gt (c : Nat → Int32) (p k : Nat) : k < (tokAt c p k).2 := by
  unfold tokAt
  by_cases h : isL (c k)
  · rw [if_pos h]; exact runE_ge _ _ rfl
  · rw [if_neg h]
    by_cases h2 : isD (c k)
    · rw [if_pos h2]; exact runE_ge _ _ rfl
    · rw [if_neg h2]; exact Nat.lt_succ_self k
theorem tokAt_le (c : Nat → Int32) {p k : Nat} (h : k < p) : (tokAt c p k).2 ≤ p := by
  unfold tokAt
  by_cases h1 : isL (c k)
  · rw [if_pos h1]; exact runE_le _ _ rfl h
  · rw [if_neg h1]
    by_cases h2 : isD (c k)
    · rw [if_pos h2]; exact runE_le _ _ rfl h
    · rw [if_neg h2]; exact h
abbrev ROW := Nat × Nat × Nat
/-- the rows from k on: kind, from, to; the last one is the end -/
def LX (c : Nat → Int32) (p k : Nat) : List ROW :=
  if h : p ≤ k then [(0, k, k)]
  else if isB (c k) then LX c p (k + 1)
  else ((tokAt c p k).1, k, (tokAt c p k).2) :: LX c p (tokAt c p k).2
termination_by p - k
decreasing_by
  · omega
  · have := tokAt_gt c p k; omega
theorem LX_end {c : Nat → Int32} {p k : Nat} (h : p ≤ k) : LX c p k = [(0, k, k)] := by rw [LX, dif_pos h]
theorem LX_sp {c : Nat → Int32} {p k : Nat} (h : k < p) (h2 : isB (c k)) : LX c p k = LX c p (k + 1) := by rw [LX, dif_neg (by omega), if_pos h2]
theorem LX_tok {c : Nat → Int32} {p k : Nat} (h : k < p) (h2 : ¬ isB (c k)) : LX c p k = ((tokAt c p k).1, k, (tokAt c p k).2) :: LX c p (tokAt c p k).2 := by rw [LX, dif_neg (by omega), if_neg h2]
theorem LX_len {c : Nat → Int32} {p : Nat} : ∀ m k, p - k = m → (LX c p k).length ≤ m + 1 := by
  intro m
  induction m using Nat.strongRecOn with
  | ind m ih =>
    intro k h
    by_cases q : p ≤ k
    · rw [LX_end q]; simp
    · by_cases b : isB (c k)
      · rw [LX_sp (by omega) b]; have := ih (m - 1) (by omega) (k + 1) (by omega); omega
      · rw [LX_tok (by omega) b]
        have h1 := tokAt_gt c p k
        have h2 := tokAt_le c (show k < p by omega)
        have := ih (p - (tokAt c p k).2) (by omega) _ rfl
        simp only [List.length_cons]; omega
/-- the rows' places -/
theorem LX_ne {c : Nat → Int32} {p : Nat} : ∀ m k, p - k = m → LX c p k ≠ [] := by
  intro m
  induction m using Nat.strongRecOn with
  | ind m ih =>
    intro k h
    by_cases q : p ≤ k
    · rw [LX_end q]; simp
    · by_cases b : isB (c k)
      · rw [LX_sp (by omega) b]; exact ih (m - 1) (by omega) (k + 1) (by omega)
      · rw [LX_tok (by omega) b]; simp
theorem LX_pl {c : Nat → Int32} {p : Nat} : ∀ m k, p - k = m → k ≤ p → ∀ i r, (LX c p k)[i]? = some r → k ≤ r.2.1 ∧ r.2.1 ≤ r.2.2 ∧ r.2.2 ≤ p ∧ (r.1 = 0 → i + 1 = (LX c p k).length) ∧ (i + 1 = (LX c p k).length → r = (0, p, p)) := by
  intro m
  induction m using Nat.strongRecOn with
  | ind m ih =>
    intro k h hk i r hi
    by_cases q : p ≤ k
    · rw [LX_end q] at hi ⊢
      cases i with
      | zero => cases hi; exact ⟨Nat.le_refl _, Nat.le_refl _, hk, fun _ => rfl, fun _ => by rw [show k = p by omega]⟩
      | succ i => simp at hi
    · by_cases b : isB (c k)
      · rw [LX_sp (by omega) b] at hi ⊢
        have := ih (m - 1) (by omega) (k + 1) (by omega) (by omega) i r hi
        exact ⟨by omega, this.2⟩
      · rw [LX_tok (by omega) b] at hi ⊢
        have h1 := tokAt_gt c p k
        have h2 := tokAt_le c (show k < p by omega)
        cases i with
        | zero =>
          cases hi
          have hne : 0 < (LX c p (tokAt c p k).2).length := Nat.pos_of_ne_zero (fun z => LX_ne (c := c) (p := p) _ _ rfl (List.eq_nil_of_length_eq_zero z))
          refine ⟨Nat.le_refl _, Nat.le_of_lt h1, h2, fun z => ?_, fun z => ?_⟩
          · exact absurd z (tokAt_ne0 c p k)
          · simp only [List.length_cons] at z; omega
        | succ i =>
          have hi : (LX c p (tokAt c p k).2)[i]? = some r := hi
          have := ih (p - (tokAt c p k).2) (by omega) _ rfl h2 i r hi
          refine ⟨by omega, this.2.1, this.2.2.1, fun z => ?_, fun z => ?_⟩
          · have := this.2.2.2.1 z; simp only [List.length_cons]; omega
          · simp only [List.length_cons] at z; exact this.2.2.2.2 (by omega)
