/-! laws in the model's rows, within limits -/
set_option maxRecDepth 100000
def BRS (lo : Nat) (r46 r47 r48 r49 r50 r52 r53 : Nat → Int32) (b ch : Nat) (x : RPN × RPN × RPN) : Prop := r46 b = 1 ∧ ∃ i0 i1 i2 i3 : Nat, r47 b = nI i0 ∧ r48 b = nI i1 ∧ r49 b = nI i2 ∧ r50 b = nI i3 ∧ lo ≤ i0 ∧ i3 ≤ ch ∧ codeAt r52 r53 i0 i1 x.1 ∧ codeAt r52 r53 i1 i2 x.2.1 ∧ codeAt r52 r53 i2 i3 x.2.2
def ELS (lo : Nat) (r46 r49 r50 r52 r53 : Nat → Int32) (b ch : Nat) (c : RPN) : Prop := r46 b = 0 ∧ ∃ i2 i3 : Nat, r49 b = nI i2 ∧ r50 b = nI i3 ∧ lo ≤ i2 ∧ i3 ≤ ch ∧ codeAt r52 r53 i2 i3 c
def LWA (lb lo bl ch j : Nat) (q : Option LAW) (r43 r44 r46 r47 r48 r49 r50 r52 r53 : Nat → Int32) : Prop := match q with
  | none => r43 j = r44 j
  | some q => ∃ b0 : Nat, lb ≤ b0 ∧ b0 + q.1.length + 1 ≤ bl ∧ r43 j = nI b0 ∧ r44 j = nI (b0 + q.1.length + 1) ∧ (∀ (i : Nat) (x : RPN × RPN × RPN), q.1[i]? = some x → BRS lo r46 r47 r48 r49 r50 r52 r53 (b0 + i) ch x) ∧ ELS lo r46 r49 r50 r52 r53 (b0 + q.1.length) ch q.2
section LW3
variable {lb lo bl ch b j : Nat} {r43 r44 r46 r47 r48 r49 r50 r52 r53 p43 p44 p46 p47 p48 p49 p50 p52 p53 : Nat → Int32}
theorem codeAt.le {C I : Nat → Int32} {a b : Nat} {c : RPN} (h : codeAt C I a b c) : a ≤ b := by have := h.1; omega
theorem BRS.low {x : RPN × RPN × RPN} {ch' : Nat} (h : BRS lo r46 r47 r48 r49 r50 r52 r53 b ch x) (hb : b < bl) (h46 : LOW bl r46 p46) (h47 : LOW bl r47 p47) (h48 : LOW bl r48 p48) (h49 : LOW bl r49 p49) (h50 : LOW bl r50 p50) (h52 : LOW ch r52 p52) (h53 : LOW ch r53 p53) (hc : ch ≤ ch') : BRS lo p46 p47 p48 p49 p50 p52 p53 b ch' x := by
  obtain ⟨a0, i0, i1, i2, i3, a1, a2, a3, a4, a5, a6, c1, c2, c3⟩ := h
  have l1 := c1.le; have l2 := c2.le; have l3 := c3.le
  exact ⟨by rw [h46 _ hb]; exact a0, i0, i1, i2, i3, by rw [h47 _ hb]; exact a1, by rw [h48 _ hb]; exact a2, by rw [h49 _ hb]; exact a3, by rw [h50 _ hb]; exact a4, a5, by omega, c1.low h52 h53 (by omega), c2.low h52 h53 (by omega), c3.low h52 h53 (by omega)⟩
theorem ELS.low {c : RPN} {ch' : Nat} (h : ELS lo r46 r49 r50 r52 r53 b ch c) (hb : b < bl) (h46 : LOW bl r46 p46) (h49 : LOW bl r49 p49) (h50 : LOW bl r50 p50) (h52 : LOW ch r52 p52) (h53 : LOW ch r53 p53) (hc : ch ≤ ch') : ELS lo p46 p49 p50 p52 p53 b ch' c := by
  obtain ⟨a0, i2, i3, a3, a4, a5, a6, c3⟩ := h
  exact ⟨by rw [h46 _ hb]; exact a0, i2, i3, by rw [h49 _ hb]; exact a3, by rw [h50 _ hb]; exact a4, a5, by omega, c3.low h52 h53 (by omega)⟩
theorem LWA.low {q : Option LAW} {bl' ch' : Nat} (h : LWA lb lo bl ch j q r43 r44 r46 r47 r48 r49 r50 r52 r53) (e43 : p43 j = r43 j) (e44 : p44 j = r44 j) (h46 : LOW bl r46 p46) (h47 : LOW bl r47 p47) (h48 : LOW bl r48 p48) (h49 : LOW bl r49 p49) (h50 : LOW bl r50 p50) (h52 : LOW ch r52 p52) (h53 : LOW ch r53 p53) (hb : bl ≤ bl') (hc : ch ≤ ch') : LWA lb lo bl' ch' j q p43 p44 p46 p47 p48 p49 p50 p52 p53 := by
  cases q with
  | none => show p43 j = p44 j; rw [e43, e44]; exact h
  | some q =>
    obtain ⟨b0, a1, a2, a3, a4, a5, a6⟩ := h
    refine ⟨b0, a1, by omega, by rw [e43]; exact a3, by rw [e44]; exact a4, fun i x hi => ?_, ?_⟩
    · have hl := (List.getElem?_eq_some_iff.mp hi).1
      exact (a5 i x hi).low (by omega) h46 h47 h48 h49 h50 h52 h53 hc
    · exact a6.low (by omega) h46 h49 h50 h52 h53 hc
/-- on a half that nobody else writes -/
theorem LWA.law {sd : Nat} {q : Option LAW} {g : tab} (hs : sd < 2) (h : LWA (130 * sd) (420 * sd) (130 * sd + 130) (420 * sd + 420) (3 * sd + j) q (g 43) (g 44) (g 46) (g 47) (g 48) (g 49) (g 50) (g 52) (g 53)) : lawAt g (3 * sd + j) q := by
  cases q with
  | none => exact h
  | some q =>
    obtain ⟨b0, a1, a2, a3, a4, a5, a6, i2, i3, b1, b2, b3, b4, b5⟩ := h
    refine ⟨b0, a3, a4, by omega, fun i x hi => ?_, a6, i2, i3, b1, b2, by omega, b5⟩
    obtain ⟨c0, j0, j1, j2, j3, c1, c2, c3, c4, c5, c6, c7, c8, c9⟩ := a5 i x hi
    exact ⟨c0, j0, j1, j2, j3, c1, c2, c3, c4, by omega, c7, c8, c9⟩
end LW3
section LW4
variable {kd pl : Nat → Nat} {vl : Nat → Int32}
def lawB (kd : Nat → Nat) (vl : Nat → Int32) (k : Nat) (s : PS) : PO PS := (mustR kd 5 s).bd fun s => (ifsR kd vl 5 [] s).bd fun q => .ok (q.2.tx q.2.n q.2.t (nS k (some q.1) q.2.lw) q.2.nm)
theorem lawR_B (k : Nat) (s : PS) : lawR kd vl k s = (passR s).bd (lawB kd vl k) := rfl
def chainI (kd : Nat → Nat) (vl : Nat → Int32) (s : PS) : PO PS := ((((((passR s).bd (sumX kd vl)).bd (mustR kd 13)).bd (sumX kd vl)).bd (mustR kd 31)).bd (sumX kd vl)).bd (mustR kd 32)
theorem ifs_full {f : Nat} {L : List (RPN × RPN × RPN)} {s : PS} (hk : kd s.at_ = 30) (hl : L.length = 4) : ifsR kd vl (f + 1) L s = .error (2, s.at_) := by
  unfold ifsR; rw [if_pos hk]; unfold roomR; rw [if_pos hl]; rfl
theorem ifs_end {f : Nat} {L : List (RPN × RPN × RPN)} {s : PS} (hk : kd s.at_ ≠ 30) : ifsR kd vl (f + 1) L s = (sumR kd vl s).bd fun e => .ok ((L, e.1), e.2) := by
  unfold ifsR; rw [if_neg hk]
theorem ifs_er {f : Nat} {L : List (RPN × RPN × RPN)} {s : PS} {e : Nat × Nat} (hk : kd s.at_ = 30) (hl : L.length ≠ 4) (h : chainI kd vl s = .error e) : ifsR kd vl (f + 1) L s = .error e := by
  unfold ifsR; rw [if_pos hk]
  unfold chainI sumX at h
  unfold roomR; rw [if_neg hl]
  cases h1 : passR s with
  | error e1 => simp only [h1, bd_error] at h ⊢; injection h with h; rw [h]
  | ok s1 =>
    simp only [h1, bd_ok] at h ⊢
    cases h2 : sumR kd vl s1 with
    | error e1 => simp only [h2, bd_error] at h ⊢; injection h with h; rw [h]
    | ok a =>
      simp only [h2, bd_ok] at h ⊢
      cases h3 : mustR kd 13 a.2 with
      | error e1 => simp only [h3, bd_error] at h ⊢; injection h with h; rw [h]
      | ok s3 =>
        simp only [h3, bd_ok] at h ⊢
        cases h4 : sumR kd vl s3 with
        | error e1 => simp only [h4, bd_error] at h ⊢; injection h with h; rw [h]
        | ok b =>
          simp only [h4, bd_ok] at h ⊢
          cases h5 : mustR kd 31 b.2 with
          | error e1 => simp only [h5, bd_error] at h ⊢; injection h with h; rw [h]
          | ok s5 =>
            simp only [h5, bd_ok] at h ⊢
            cases h6 : sumR kd vl s5 with
            | error e1 => simp only [h6, bd_error] at h ⊢; injection h with h; rw [h]
            | ok c =>
              simp only [h6, bd_ok] at h ⊢
              simp only [h, bd_error]
theorem ifs_ok {f : Nat} {L : List (RPN × RPN × RPN)} {s s7 : PS} (hk : kd s.at_ = 30) (hl : L.length ≠ 4) (h : chainI kd vl s = .ok s7) : ∃ s1 a s3 b s5 c, passR s = .ok s1 ∧ sumR kd vl s1 = .ok a ∧ mustR kd 13 a.2 = .ok s3 ∧ sumR kd vl s3 = .ok b ∧ mustR kd 31 b.2 = .ok s5 ∧ sumR kd vl s5 = .ok c ∧ mustR kd 32 c.2 = .ok s7 ∧
    ifsR kd vl (f + 1) L s = ifsR kd vl f (L ++ [(a.1, b.1, c.1)]) s7 ∧ s7 = s.go s7.at_ ∧ s.at_ + 7 ≤ s7.at_ := by
  conv => enter [1, _, 1, _, 1, _, 1, _, 1, _, 1, _, 2, 2, 2, 2, 2, 2, 2, 1, 1]; unfold ifsR
  rw [if_pos hk]
  unfold chainI sumX at h
  unfold roomR; rw [if_neg hl]
  cases h1 : passR s with
  | error e1 => simp only [h1, bd_error] at h; cases h
  | ok s1 =>
    simp only [h1, bd_ok] at h ⊢
    cases h2 : sumR kd vl s1 with
    | error e1 => simp only [h2, bd_error] at h; cases h
    | ok a =>
      simp only [h2, bd_ok] at h ⊢
      cases h3 : mustR kd 13 a.2 with
      | error e1 => simp only [h3, bd_error] at h; cases h
      | ok s3 =>
        simp only [h3, bd_ok] at h ⊢
        cases h4 : sumR kd vl s3 with
        | error e1 => simp only [h4, bd_error] at h; cases h
        | ok b =>
          simp only [h4, bd_ok] at h ⊢
          cases h5 : mustR kd 31 b.2 with
          | error e1 => simp only [h5, bd_error] at h; cases h
          | ok s5 =>
            simp only [h5, bd_ok] at h ⊢
            cases h6 : sumR kd vl s5 with
            | error e1 => simp only [h6, bd_error] at h; cases h
            | ok c =>
              simp only [h6, bd_ok] at h ⊢
              obtain ⟨g1, q1⟩ := pass_good h1
              obtain ⟨-, -, l2, q2⟩ := sum_good h2
              obtain ⟨-, g3, q3⟩ := must_good h3
              obtain ⟨-, -, l4, q4⟩ := sum_good h4
              obtain ⟨-, g5, q5⟩ := must_good h5
              obtain ⟨-, -, l6, q6⟩ := sum_good h6
              obtain ⟨-, g7, q7⟩ := must_good h
              refine ⟨s1, a, s3, b, s5, c, rfl, h2, h3, h4, h5, h6, h, by simp only [h, bd_ok], by rw [q7, q6, q5, q4, q3, q2, q1]; rfl, ?_⟩
              have a1 := g1.2.2.2.2.1; have a3 := g3.2.2.2.2.1; have a5 := g5.2.2.2.2.1; have a7 := g7.2.2.2.2.1
              omega
theorem sum_S {s : PS} {q : RPN × PS} (h : sumR kd vl s = .ok q) : ∀ z ∈ q.1, z.1 ≤ 5 ∧ (z.1 = 1 → vp_in z.2 7) := (sum_good h).2.1.2.2.2
end LW4
section LW5
variable {kd pl : Nat → Nat} {vl : Nat → Int32}
def tripI (kd : Nat → Nat) (vl : Nat → Int32) (X : PO PS) : RPN × RPN × RPN := match X with
  | .error _ => ([], [], [])
  | .ok s => match passR s with
    | .error _ => ([], [], [])
    | .ok s1 => match sumR kd vl s1 with
      | .error _ => ([], [], [])
      | .ok a => match mustR kd 13 a.2 with
        | .error _ => ([], [], [])
        | .ok s3 => match sumR kd vl s3 with
          | .error _ => ([], [], [])
          | .ok b => match mustR kd 31 b.2 with
            | .error _ => ([], [], [])
            | .ok s5 => match sumR kd vl s5 with
              | .error _ => ([], [], [])
              | .ok c => (a.1, b.1, c.1)
theorem tripI_ok {s s1 s3 s5 : PS} {a b c : RPN × PS} (h1 : passR s = .ok s1) (h2 : sumR kd vl s1 = .ok a) (h3 : mustR kd 13 a.2 = .ok s3) (h4 : sumR kd vl s3 = .ok b) (h5 : mustR kd 31 b.2 = .ok s5) (h6 : sumR kd vl s5 = .ok c) : tripI kd vl (.ok s) = (a.1, b.1, c.1) := by
  unfold tripI
  simp only [h1, h2, h3, h4, h5, h6]
theorem ifs_step {f : Nat} {L : List (RPN × RPN × RPN)} {X : PO PS} {s : PS} (hX : X = .ok s) (hk : kd s.at_ = 30) (hl : L.length ≠ 4) : PO.bd X (ifsR kd vl (f + 1) L) = PO.bd (PO.bd X (chainI kd vl)) (ifsR kd vl f (L ++ [tripI kd vl X])) := by
  subst hX
  show ifsR kd vl (f + 1) L s = PO.bd (chainI kd vl s) _
  cases h : chainI kd vl s with
  | error e => rw [ifs_er hk hl h]; rfl
  | ok s7 =>
    obtain ⟨s1, a, s3, b, s5, c, h1, h2, h3, h4, h5, h6, h7, h8, -⟩ := ifs_ok (f := f) hk hl h
    rw [h8, tripI_ok h1 h2 h3 h4 h5 h6]; rfl
theorem CODE.cat {C I C' I' : Nat → Int32} {a b : Nat} {c : RPN} (h : CODE C I a c) (hb : b = a + c.length) (h1 : LOW b C C') (h2 : LOW b I I') (hs : ∀ q ∈ c, q.1 ≤ 5 ∧ (q.1 = 1 → vp_in q.2 7)) : codeAt C' I' a b c := by
  subst hb; exact (h.low h1 h2 (Nat.le_refl _)).at hs
end LW5
section LW6
variable {kd pl : Nat → Nat} {vl : Nat → Int32} {x : PO PS} {f q t wk wp f' q' t' wk' wp' : Nat}
theorem FM.stp {g : PS → PO PS} (h : FM kd pl x f q t wk wp) (h2 : FM kd pl (PO.bd x g) f' q' t' wk' wp') (hg : ∀ s s', g s = .ok s' → s.at_ + 1 ≤ s'.at_) (z : f' = 0) : f = 0 ∧ t + 1 ≤ t' := by
  obtain ⟨s', e, a1, -⟩ := h2.ok z
  obtain ⟨s, e1, e2⟩ := bd_good e
  have h3 := (h.oke e1).sv
  have := hg s s' e2
  exact ⟨h3.1, by omega⟩
theorem pass_on (s s' : PS) (h : passR s = .ok s') : s.at_ + 1 ≤ s'.at_ := by have := (pass_good h).1.2.2.2.2.1; omega
theorem must_on {k : Nat} (s s' : PS) (h : mustR kd k s = .ok s') : s.at_ + 1 ≤ s'.at_ := by have := (must_good h).2.1.2.2.2.2.1; omega
theorem sumX_on (s s' : PS) (h : sumX kd vl s = .ok s') : s.at_ + 1 ≤ s'.at_ := by
  obtain ⟨q, h1, h2⟩ := bd_good h
  injection h2 with h2
  have := (sum_good h1).2.2.1
  rw [← h2]; omega
end LW6
