/-! what is told, kind by kind -/
set_option maxRecDepth 100000
section TLD1
variable {kd pl : Nat → Nat} {vl : Nat → Int32} {nv : Nat → Nat} {s : PS} {f q t wk wp : Nat}
theorem told_20 (h : kd s.at_ = 20) : toldR kd vl nv s = (roomR (s.n 0) 6 s).bd (grainB kd vl nv) := by unfold toldR; rw [if_pos h]; rfl
theorem told_21 (h : kd s.at_ = 21) : toldR kd vl nv s = (roomR (s.n 1) 6 s).bd (holeB kd vl nv) := by unfold toldR; rw [if_neg (by omega), if_pos h]; rfl
theorem told_22 (h : kd s.at_ = 22) : toldR kd vl nv s = (roomR (s.n 2) 8 s).bd (ratB kd vl nv) := by unfold toldR; rw [if_neg (by omega), if_neg (by omega), if_pos h]; rfl
theorem told_law {k : Nat} (h : kd s.at_ = 23 + k) (hk : k < 3) : toldR kd vl nv s = (passR s).bd (lawB kd vl k) := by
  unfold toldR
  rw [if_neg (by omega), if_neg (by omega), if_neg (by omega), if_pos (by omega), show kd s.at_ - 23 = k by omega]; rfl
theorem told_26 (h : kd s.at_ = 26) : toldR kd vl nv s = (roomR (s.n 3) 5 s).bd (wantsB kd vl nv) := by
  unfold toldR
  rw [if_neg (by omega), if_neg (by omega), if_neg (by omega), if_neg (by omega), if_pos h, wantsR_B]
def oneB (kd : Nat → Nat) (vl : Nat → Int32) (j : Nat) (lo hi : Int32) (s : PS) : PO PS := (numR kd vl lo hi s).bd fun v => .ok (v.2.tx v.2.n (sU 12 j v.1 v.2.t) v.2.lw v.2.nm)
theorem told_27 (h : kd s.at_ = 27) : toldR kd vl nv s = (passR s).bd (oneB kd vl 0 0 9999) := by
  unfold toldR
  rw [if_neg (by omega), if_neg (by omega), if_neg (by omega), if_neg (by omega), if_neg (by omega), if_pos h]; rfl
theorem told_28 (h : kd s.at_ = 28) : toldR kd vl nv s = (passR s).bd (oneB kd vl 1 1 99) := by
  unfold toldR
  rw [if_neg (by omega), if_neg (by omega), if_neg (by omega), if_neg (by omega), if_neg (by omega), if_neg (by omega), if_pos h]; rfl
theorem told_29 (h : kd s.at_ = 29) : toldR kd vl nv s = (passR s).bd (oneB kd vl 2 0 9999) := by
  unfold toldR
  rw [if_neg (by omega), if_neg (by omega), if_neg (by omega), if_neg (by omega), if_neg (by omega), if_neg (by omega), if_neg (by omega), if_pos h]; rfl
theorem told_no (h : kd s.at_ < 20 ∨ 29 < kd s.at_) : toldR kd vl nv s = .error (1, s.at_) := by
  unfold toldR
  rw [if_neg (by omega), if_neg (by omega), if_neg (by omega), if_neg (by omega), if_neg (by omega), if_neg (by omega), if_neg (by omega), if_neg (by omega)]
theorem room_is {a b : Nat} (h : FM kd pl (PO.bd (.ok s) (roomR a b)) f q t wk wp) (z : f = 0) : roomR a b s = .ok (s.go (s.at_ + 1)) ∧ a ≠ b ∧ s.at_ < 400 := by
  obtain ⟨s1, e, -⟩ := h.ok z
  have e : roomR a b s = .ok s1 := e
  obtain ⟨h1, h2, h3⟩ := room_good e
  exact ⟨by rw [e, h3], h1, h2.2.2.2.2.2.1⟩
theorem pass_is (h : FM kd pl (PO.bd (.ok s) passR) f q t wk wp) (z : f = 0) : passR s = .ok (s.go (s.at_ + 1)) ∧ s.at_ < 400 := by
  obtain ⟨s1, e, -⟩ := h.ok z
  have e : passR s = .ok s1 := e
  obtain ⟨h2, h3⟩ := pass_good e
  exact ⟨by rw [e, h3], h2.2.2.2.2.2.1⟩
/-- lamp, odd, seed -/
theorem one_er {j : Nat} {lo hi : Int32} {e : Nat × Nat} (h : PO.bd (PO.bd (passR s) (numX kd vl lo hi)) (mustR kd 4) = .error e) : PO.bd (PO.bd (passR s) (oneB kd vl j lo hi)) (mustR kd 4) = .error e := by
  unfold numX at h
  unfold oneB
  cases h1 : passR s with
  | error e1 => simp only [h1, bd_error] at h ⊢; exact h
  | ok s1 =>
    simp only [h1, bd_ok] at h ⊢
    cases h2 : numR kd vl lo hi s1 with
    | error e1 => simp only [h2, bd_error] at h ⊢; exact h
    | ok v =>
      simp only [h2, bd_ok, must_tx] at h ⊢
      rw [h]; rfl
theorem one_ok {j : Nat} {lo hi : Int32} {s4 : PS} (h : PO.bd (PO.bd (passR s) (numX kd vl lo hi)) (mustR kd 4) = .ok s4) : ∃ s1 v, passR s = .ok s1 ∧ numR kd vl lo hi s1 = .ok v ∧ Sm s s4 ∧ PO.bd (PO.bd (passR s) (oneB kd vl j lo hi)) (mustR kd 4) = .ok (s4.tx s.n (sU 12 j v.1 s.t) s.lw s.nm) := by
  unfold numX at h
  unfold oneB
  cases h1 : passR s with
  | error e1 => simp only [h1, bd_error] at h; cases h
  | ok s1 =>
    simp only [h1, bd_ok] at h ⊢
    cases h2 : numR kd vl lo hi s1 with
    | error e1 => simp only [h2, bd_error] at h; cases h
    | ok v =>
      simp only [h2, bd_ok, must_tx] at h ⊢
      have e1 := (pass_good h1).1
      have e2 := (num_good h2).2.1
      obtain ⟨-, e3, -⟩ := must_good h
      refine ⟨s1, v, rfl, h2, ((Sm.refl s).ext e1).ext e2 |>.ext e3, ?_⟩
      rw [h, e2.1, e2.2.1, e2.2.2.1, e2.2.2.2.1, e1.1, e1.2.1, e1.2.2.1, e1.2.2.2.1]; rfl
theorem sub23 : ∀ k, k < 20 → nI k - 23 < 0 := by decide
end TLD1
