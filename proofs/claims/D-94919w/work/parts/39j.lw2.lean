/-! steps of the machine, as flags tell them -/
set_option maxRecDepth 100000
section LW2
variable {kd pl : Nat → Nat} {vl : Nat → Int32} {s s0 : PS} {f q t wk wp f' q' t' : Nat}
theorem FM.pstep (h : FM kd pl (.ok s) f q t wk wp) (h2 : FM kd pl (passR s) f' q' t' wk wp) : (f' = 0 ∧ t' = t + 1) ∨ (1 ≤ f' ∧ t' ≤ 400) := by
  have e1 := h.sv
  rcases pass_c s with ⟨c, e⟩ | ⟨c, e⟩ <;> rw [e] at h2
  · obtain ⟨h3, -, -, -, -, h4, h5, -⟩ := h2
    exact Or.inr ⟨h5, h3⟩
  · have e2 := h2.sv
    have : (s.go (s.at_ + 1)).at_ = s.at_ + 1 := rfl
    exact Or.inl ⟨e2.1, by omega⟩
theorem FM.ustep (h : FM kd pl (.ok s) f q t wk wp) (h2 : FM kd pl (unitX kd s) f' q' t' wk wp) : (f' = 0 ∧ t' = t + 1 ∧ (kd t = 2 ∨ (33 ≤ kd t ∧ kd t ≤ 39))) ∨ (1 ≤ f' ∧ t' ≤ 400) := by
  unfold unitX at h2
  by_cases c : kd s.at_ = 2 ∨ (33 ≤ kd s.at_ ∧ kd s.at_ ≤ 39)
  · rw [if_pos c] at h2
    rcases h.pstep h2 with q | q
    · left; rw [h.sv.2.1]; exact ⟨q.1, by have := h.sv.2.1; omega, c⟩
    · right; exact q
  · rw [if_neg c] at h2
    obtain ⟨h3, -, -, -, -, h4, h5, -⟩ := h2
    exact Or.inr ⟨h5, h3⟩
theorem FM.oke {X : PO PS} (h : FM kd pl X f q t wk wp) (e : X = .ok s) : FM kd pl (.ok s) f q t wk wp := e ▸ h
theorem RX.oke {ph : Bool} {X : PO PS} {W : List Nat} {E : RPN} {o : Nat} (h : RX kd vl s0 ph X W E o) (e : X = .ok s) : RX kd vl s0 ph (.ok s) W E o := e ▸ h
theorem RX.ere {ph : Bool} {X : PO PS} {W : List Nat} {E : RPN} {o : Nat} {z : Nat × Nat} (h : RX kd vl s0 ph X W E o) (e : X = .error z) : sumX kd vl s0 = .error z := RX.err (e ▸ h)
end LW2
def HLE (f tt t o e w : Nat) : Prop := (f = 0 → e + w + tt ≤ t + o) ∧ e + w + tt ≤ 401 + o
def HO6 (f o op : Nat) : Prop := f = 0 → o ≤ 6 + op
theorem cnt6_le : ∀ W : List Nat, cnt6 W ≤ W.length
  | [] => Nat.le_refl _
  | w :: W => by
    have := cnt6_le W
    rw [cnt6_cons, List.length_cons]
    split <;> omega
def HMO (f a b : Nat) : Prop := f = 0 → a ≤ b
def HK2 (k a b : Nat) : Prop := k = a ∨ k = b
def HN (f k : Nat) : Prop := f = 0 → k ≠ 8 ∧ k ≠ 9 ∧ k ≠ 10 ∧ k ≠ 15
def H7 (f k : Nat) : Prop := f = 0 → k ≠ 7
theorem unitX_on {kd : Nat → Nat} (s s' : PS) (h : unitX kd s = .ok s') : s.at_ + 1 ≤ s'.at_ := by
  unfold unitX at h
  split at h
  · have := (pass_good h).1.2.2.2.2.1; omega
  · cases h
theorem FM.stpu {kd pl : Nat → Nat} {x : PO PS} {f q t wk wp f' q' t' wk' wp' : Nat} (h : FM kd pl x f q t wk wp) (h2 : FM kd pl (PO.bd x (unitX kd)) f' q' t' wk' wp') (z : f' = 0) : f = 0 ∧ t + 1 ≤ t' := by
  obtain ⟨s', e, a1, -⟩ := h2.ok z
  obtain ⟨s, e1, e2⟩ := bd_good e
  have h3 := (h.oke e1).sv
  have := unitX_on s s' e2
  exact ⟨h3.1, by omega⟩
