/-! what the questions answer -/
set_option maxRecDepth 100000
noncomputable def zi {α : Type} (P : Prop) (a b : α) : α := @ite α P (Classical.propDecidable P) a b
theorem zi_t {α : Type} {P : Prop} (h : P) (a b : α) : zi P a b = a := if_pos h
theorem zi_f {α : Type} {P : Prop} (h : ¬ P) (a b : α) : zi P a b = b := if_neg h
theorem zi_congr {α : Type} {P P' : Prop} (h : P ↔ P') (a b : α) : zi P a b = zi P' a b := by rw [propext h]
def bitP (set : Int32) (k : Nat) : Prop := (set >>> (nI k &&& 31)) &&& 1 = 1
noncomputable def feesTo (t : tab) (set : Int32) : Nat → Int32
  | 0 => 0
  | k + 1 => zi (bitP set k) (feesTo t set k + t 7 k) (feesTo t set k)
noncomputable def paysTo (t : tab) (set : Int32) : Nat → Int32
  | 0 => 0
  | k + 1 => zi (bitP set k) (paysTo t set k + t 8 k) (paysTo t set k)
def want1 (t : tab) (m g : Nat) (a : Int32) : Nat → Int32
  | 0 => a
  | i + 1 => if t 10 (4 * m + i) = nI g then want1 t m g a i + t 11 (4 * m + i) else want1 t m g a i
noncomputable def wantTo (t : tab) (set : Int32) (g : Nat) : Nat → Int32
  | 0 => 0
  | m + 1 => zi (bitP set m) (want1 t m g (wantTo t set g m) (t 9 m).toNatClampNeg) (wantTo t set g m)
def ownTo (t σ : tab) (g : Nat) : Nat → Int32
  | 0 => 0
  | h + 1 => if t 3 h = nI g then ownTo t σ g h + σ (30 + h) g else ownTo t σ g h
def enoughP (n : Nat → Nat) (t σ : tab) (set : Int32) : Prop := ∀ g, g < 6 → wantTo t set g (n 3) ≤ ownTo t σ g (n 1)
noncomputable def cleanFrom (n : Nat → Nat) (lw : Nat → Option LAW) (t : tab) : Nat → Nat → tab → Int32
  | 0, _, _ => -2
  | f + 1, k, σ => zi (cleanP n σ false) (nI k) (cleanFrom n lw t f (k + 1) (minuteP n lw t σ))
noncomputable def cleanByP (n : Nat → Nat) (lw : Nat → Option LAW) (t σ : tab) : Int32 := cleanFrom n lw t 601 0 σ
noncomputable def hiresTo (σ : tab) (set : Int32) : Nat → tab
  | 0 => σ
  | r + 1 => zi (bitP set r) (if hiresTo σ set r 3 r = 3 then sU 3 r 0 (hiresTo σ set r) else hiresTo σ set r) (if hiresTo σ set r 3 r = 3 then hiresTo σ set r else homeP (hiresTo σ set r) r)
def bitsTo (set : Int32) : Nat → Int32
  | 0 => 0
  | k + 1 => bitsTo set k + ((set >>> (nI k &&& 31)) &&& 1)
theorem vp_iff {x : Int32} {N : Nat} (hN : N < 2 ^ 31) : vp_in x N ↔ ¬ x < 0 ∧ ¬ nI N - 1 < x := by
  constructor
  · intro h
    obtain ⟨j, hj, rfl⟩ := vp_in_of h hN
    refine ⟨nI_pos (by omega), ?_⟩
    rw [show nI N - 1 = nI (N - 1) from (by rw [show N = (N - 1) + 1 by omega]; exact nI_pred _)]
    exact nI_nlt (by omega) (by omega)
  · rintro ⟨h1, h2⟩
    obtain ⟨j, hj, rfl⟩ := nI_of h1
    refine vp_in_nI ?_ hN
    cases N with
    | zero => exfalso; apply h2; show nI 0 - 1 < nI j; rw [Int32.lt_iff_toInt_lt, nI_toInt hj]; show (-1 : Int) < _; omega
    | succ N =>
      rw [nI_pred] at h2
      have : ¬ N < j := fun q => h2 ((nI_ltI (by omega) hj).mpr q)
      omega
theorem cleanP_no1 {n : Nat → Nat} {σ : tab} {r : Nat} {all : Bool} (hr : r < n 2) (h : σ 3 r = 1) : ¬ cleanP n σ all := fun q => q.2 ⟨r, hr, h⟩
theorem cleanP_no2 {n : Nat → Nat} {σ : tab} {r : Nat} {all : Bool} (hr : r < n 2) (h1 : all = true ∨ ¬ σ 3 r = 3) (h : ¬ σ 0 (σ 10 r).toNatClampNeg ≤ 0) : ¬ cleanP n σ all := fun q => h (q.1 r hr h1)
theorem cleanP_yes {n : Nat → Nat} {σ : tab} {all : Bool} (h : ∀ r, r < n 2 → ¬ σ 3 r = 1 ∧ ((all = true ∨ ¬ σ 3 r = 3) → σ 0 (σ 10 r).toNatClampNeg ≤ 0)) : cleanP n σ all := ⟨fun r hr q => (h r hr).2 q, fun ⟨r, hr, e⟩ => (h r hr).1 e⟩
theorem clean_step {σ : tab} {rr : Nat} {all : Bool} (h : ∀ j, j < rr → ¬ σ 3 j = 1 ∧ ((all = true ∨ ¬ σ 3 j = 3) → σ 0 (σ 10 j).toNatClampNeg ≤ 0)) (h1 : ¬ σ 3 rr = 1) (h2 : (all = true ∨ ¬ σ 3 rr = 3) → σ 0 (σ 10 rr).toNatClampNeg ≤ 0) : ∀ j, j < rr + 1 → ¬ σ 3 j = 1 ∧ ((all = true ∨ ¬ σ 3 j = 3) → σ 0 (σ 10 j).toNatClampNeg ≤ 0) := by
  intro j hj
  by_cases e : j = rr
  · rw [e]; exact ⟨h1, h2⟩
  · exact h j (by omega)
/-- the row of the now -/
def bitsn (set : Int32) : Nat := (bitsTo set 8).toNatClampNeg
theorem want1_le (t : tab) (m g : Nat) (a : Int32) : want1 t m g a 0 = a := rfl
/-- what stood, oldest first -/
def pushU (U : List tab) (σ : tab) : List tab := (if U.length = 40 then U.tail else U) ++ [σ]
/-- the model's history holds U -/
def HI (k : Nat) (U : List tab) (X : Nat → Int32) : Prop := ∀ (i : Nat) (τ : tab), U[i]? = some τ → MR k τ (fun j => X (120 * i + j))
theorem one_of_ne0 {x : Int32} (h : ¬ (x &&& 1) = 0) : (x &&& 1) = 1 := by
  have e : bt x 0 = true := by
    cases hb : bt x 0 with
    | true => rfl
    | false =>
      exfalso; apply h
      refine b_ext (fun i hi => ?_)
      rw [b_and, b_1 i hi, b_0]
      by_cases h0 : i = 0
      · subst h0; simp [hb]
      · simp [h0]
  refine b_ext (fun i hi => ?_)
  rw [b_and, b_1 i hi]
  by_cases h0 : i = 0
  · subst h0; simp [e]
  · simp [h0]
