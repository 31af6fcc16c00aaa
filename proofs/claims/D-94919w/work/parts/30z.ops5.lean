/-! selling leaves the rest alone -/
set_option maxRecDepth 100000
theorem outTo_q {t σ : tab} {g j : Nat} {left : Int32} (hj : j < 30) : ∀ k, (outTo t σ g left k).1 j = σ j
  | 0 => rfl
  | k + 1 => by
    simp only [outTo]
    split
    · exact (sU_ne (by omega)).trans (outTo_q hj k)
    · exact outTo_q hj k
theorem outsTo_q {n : Nat → Nat} {t σ : tab} {set : Int32} {j : Nat} (hj : j < 30) : ∀ k, outsTo n t σ set k j = σ j
  | 0 => rfl
  | k + 1 => by
    show (outTo t (outsTo n t σ set k) k (wantTo t set k (n 3)) (n 1)).1 j = σ j
    rw [outTo_q hj, outsTo_q hj k]
theorem hs_lt {a b r1 r2 : Int32} (h1 : r1 = a) (h2 : r2 = b) (h : r1 < r2) : a < b := by subst h1 h2; exact h
theorem hs_ge {a b r1 r2 : Int32} (h1 : r1 = a) (h2 : r2 = b) (h : ¬ r1 < r2) : b ≤ a := by subst h1 h2; exact Int32.not_lt.mp h
