/-! the model's tables while they are told -/
set_option maxRecDepth 100000
/-- outside its half a row is as it was -/
def KR (w sd : Nat) (X X' : Nat → Int32) : Prop := ∀ j, (j < w * sd ∨ w * sd + w ≤ j) → X' j = X j
theorem KR.refl (w sd : Nat) (X : Nat → Int32) : KR w sd X X := fun _ _ => rfl
theorem KR.trans {w sd : Nat} {X Y Z : Nat → Int32} (h : KR w sd X Y) (h2 : KR w sd Y Z) : KR w sd X Z := fun j hj => (h2 j hj).trans (h j hj)
theorem KR.put {w sd j : Nat} {X Y : Nat → Int32} (h : KR w sd X Y) (h1 : w * sd ≤ j) (h2 : j < w * sd + w) (v : Int32) : KR w sd X (upd Y j v) := fun i hi => by
  show (if i = j then v else Y i) = X i
  rw [if_neg (by omega)]; exact h i hi
def TMn (sd : Nat) (n : Nat → Nat) (t : tab) (r24 r25 r26 r27 r28 r29 r30 r31 r32 r33 r34 r35 r36 r37 r38 r39 r40 r41 r42 : Nat → Int32) : Prop :=
  (r24 sd = nI (n 0) ∧ r27 sd = nI (n 1) ∧ r30 sd = nI (n 2) ∧ r35 sd = nI (n 3) ∧ r40 sd = t 12 0 ∧ r41 sd = t 12 1 ∧ r42 sd = t 12 2) ∧
  (∀ j, j < n 0 → r25 (6 * sd + j) = t 0 j ∧ r26 (6 * sd + j) = t 1 j) ∧ (∀ j, j < n 1 → r28 (6 * sd + j) = t 2 j ∧ r29 (6 * sd + j) = t 3 j) ∧
  (∀ j, j < n 2 → r31 (8 * sd + j) = t 4 j ∧ r32 (8 * sd + j) = t 5 j ∧ r33 (8 * sd + j) = t 6 j ∧ r34 (8 * sd + j) = t 7 j) ∧
  (∀ j, j < n 3 → r36 (5 * sd + j) = t 8 j ∧ r37 (5 * sd + j) = t 9 j ∧ ∀ i, i < (t 9 j).toNatClampNeg → r38 (4 * (5 * sd + j) + i) = t 10 (4 * j + i) ∧ r39 (4 * (5 * sd + j) + i) = t 11 (4 * j + i))
/-- a law's rows, within limits -/
def LWB (sd br cd j : Nat) (q : Option LAW) (r43 r44 r46 r47 r48 r49 r50 r52 r53 : Nat → Int32) : Prop := match q with
  | none => r43 j = r44 j
  | some q => ∃ b0 : Nat, 130 * sd ≤ b0 ∧ b0 + q.1.length + 1 ≤ 130 * sd + br ∧ r43 j = nI b0 ∧ r44 j = nI (b0 + q.1.length + 1) ∧
    (∀ (i : Nat) (x : RPN × RPN × RPN), q.1[i]? = some x → r46 (b0 + i) = 1 ∧ ∃ i0 i1 i2 i3 : Nat, r47 (b0 + i) = nI i0 ∧ r48 (b0 + i) = nI i1 ∧ r49 (b0 + i) = nI i2 ∧ r50 (b0 + i) = nI i3 ∧ 420 * sd ≤ i0 ∧ i3 ≤ 420 * sd + cd ∧ codeAt r52 r53 i0 i1 x.1 ∧ codeAt r52 r53 i1 i2 x.2.1 ∧ codeAt r52 r53 i2 i3 x.2.2) ∧
    r46 (b0 + q.1.length) = 0 ∧ ∃ i2 i3 : Nat, r49 (b0 + q.1.length) = nI i2 ∧ r50 (b0 + q.1.length) = nI i3 ∧ 420 * sd ≤ i2 ∧ i3 ≤ 420 * sd + cd ∧ codeAt r52 r53 i2 i3 q.2
section TBS
variable {sd : Nat} {n : Nat → Nat} {t : tab} {r24 r25 r26 r27 r28 r29 r30 r31 r32 r33 r34 r35 r36 r37 r38 r39 r40 r41 r42 : Nat → Int32}
theorem TMn.c24 (h : TMn sd n t r24 r25 r26 r27 r28 r29 r30 r31 r32 r33 r34 r35 r36 r37 r38 r39 r40 r41 r42) : r24 sd = nI (n 0) := h.1.1
theorem TMn.c27 (h : TMn sd n t r24 r25 r26 r27 r28 r29 r30 r31 r32 r33 r34 r35 r36 r37 r38 r39 r40 r41 r42) : r27 sd = nI (n 1) := h.1.2.1
theorem TMn.c30 (h : TMn sd n t r24 r25 r26 r27 r28 r29 r30 r31 r32 r33 r34 r35 r36 r37 r38 r39 r40 r41 r42) : r30 sd = nI (n 2) := h.1.2.2.1
theorem TMn.c35 (h : TMn sd n t r24 r25 r26 r27 r28 r29 r30 r31 r32 r33 r34 r35 r36 r37 r38 r39 r40 r41 r42) : r35 sd = nI (n 3) := h.1.2.2.2.1
theorem u_s (f : Nat → Int32) (j : Nat) (x : Int32) : upd f j x j = x := if_pos rfl
theorem u_n (f : Nat → Int32) {i j : Nat} (x : Int32) (h : i ≠ j) : upd f j x i = f i := if_neg h
theorem TMn.grain (h : TMn sd n t r24 r25 r26 r27 r28 r29 r30 r31 r32 r33 r34 r35 r36 r37 r38 r39 r40 r41 r42) (p q : Int32) :
    TMn sd (nS 0 (n 0 + 1) n) (sU 0 (n 0) p (sU 1 (n 0) q t)) (upd r24 sd (nI (n 0 + 1))) (upd r25 (6 * sd + n 0) p) (upd r26 (6 * sd + n 0) q) r27 r28 r29 r30 r31 r32 r33 r34 r35 r36 r37 r38 r39 r40 r41 r42 := by
  obtain ⟨⟨a1, a2, a3, a4, a5, a6, a7⟩, b1, b2, b3, b4⟩ := h
  have e : ∀ k, k ≠ 0 → k ≠ 1 → sU 0 (n 0) p (sU 1 (n 0) q t) k = t k := fun k h1 h2 => by rw [sU_ne h1, sU_ne h2]
  refine ⟨⟨by rw [u_s, nS_eq], by rw [nS_ne _ _ (by omega)]; exact a2, by rw [nS_ne _ _ (by omega)]; exact a3, by rw [nS_ne _ _ (by omega)]; exact a4, by rw [e 12 (by omega) (by omega)]; exact a5, by rw [e 12 (by omega) (by omega)]; exact a6, by rw [e 12 (by omega) (by omega)]; exact a7⟩, fun j hj => ?_, fun j hj => ?_, fun j hj => ?_, fun j hj => ?_⟩
  · rw [nS_eq] at hj
    by_cases c : j = n 0
    · rw [c, u_s, u_s, sU_if, if_pos ⟨rfl, rfl⟩, sU_ne (by omega), sU_if, if_pos ⟨rfl, rfl⟩]; exact ⟨rfl, rfl⟩
    · rw [u_n _ _ (by omega), u_n _ _ (by omega), sU_if, if_neg (by omega), sU_if, if_neg (by omega), sU_if, if_neg (by omega), sU_if, if_neg (by omega)]; exact b1 j (by omega)
  · rw [nS_ne _ _ (by omega)] at hj; rw [e 2 (by omega) (by omega), e 3 (by omega) (by omega)]; exact b2 j hj
  · rw [nS_ne _ _ (by omega)] at hj; rw [e 4 (by omega) (by omega), e 5 (by omega) (by omega), e 6 (by omega) (by omega), e 7 (by omega) (by omega)]; exact b3 j hj
  · rw [nS_ne _ _ (by omega)] at hj; rw [e 8 (by omega) (by omega), e 9 (by omega) (by omega), e 10 (by omega) (by omega), e 11 (by omega) (by omega)]; exact b4 j hj
theorem TMn.hole (h : TMn sd n t r24 r25 r26 r27 r28 r29 r30 r31 r32 r33 r34 r35 r36 r37 r38 r39 r40 r41 r42) (p q : Int32) :
    TMn sd (nS 1 (n 1 + 1) n) (sU 2 (n 1) p (sU 3 (n 1) q t)) r24 r25 r26 (upd r27 sd (nI (n 1 + 1))) (upd r28 (6 * sd + n 1) p) (upd r29 (6 * sd + n 1) q) r30 r31 r32 r33 r34 r35 r36 r37 r38 r39 r40 r41 r42 := by
  obtain ⟨⟨a1, a2, a3, a4, a5, a6, a7⟩, b1, b2, b3, b4⟩ := h
  have e : ∀ k, k ≠ 2 → k ≠ 3 → sU 2 (n 1) p (sU 3 (n 1) q t) k = t k := fun k h1 h2 => by rw [sU_ne h1, sU_ne h2]
  refine ⟨⟨by rw [nS_ne _ _ (by omega)]; exact a1, by rw [u_s, nS_eq], by rw [nS_ne _ _ (by omega)]; exact a3, by rw [nS_ne _ _ (by omega)]; exact a4, by rw [e 12 (by omega) (by omega)]; exact a5, by rw [e 12 (by omega) (by omega)]; exact a6, by rw [e 12 (by omega) (by omega)]; exact a7⟩, fun j hj => ?_, fun j hj => ?_, fun j hj => ?_, fun j hj => ?_⟩
  · rw [nS_ne _ _ (by omega)] at hj; rw [e 0 (by omega) (by omega), e 1 (by omega) (by omega)]; exact b1 j hj
  · rw [nS_eq] at hj
    by_cases c : j = n 1
    · rw [c, u_s, u_s, sU_if, if_pos ⟨rfl, rfl⟩, sU_ne (by omega), sU_if, if_pos ⟨rfl, rfl⟩]; exact ⟨rfl, rfl⟩
    · rw [u_n _ _ (by omega), u_n _ _ (by omega), sU_if, if_neg (by omega), sU_if, if_neg (by omega), sU_if, if_neg (by omega), sU_if, if_neg (by omega)]; exact b2 j (by omega)
  · rw [nS_ne _ _ (by omega)] at hj; rw [e 4 (by omega) (by omega), e 5 (by omega) (by omega), e 6 (by omega) (by omega), e 7 (by omega) (by omega)]; exact b3 j hj
  · rw [nS_ne _ _ (by omega)] at hj; rw [e 8 (by omega) (by omega), e 9 (by omega) (by omega), e 10 (by omega) (by omega), e 11 (by omega) (by omega)]; exact b4 j hj
theorem TMn.rat (h : TMn sd n t r24 r25 r26 r27 r28 r29 r30 r31 r32 r33 r34 r35 r36 r37 r38 r39 r40 r41 r42) (p q x y : Int32) :
    TMn sd (nS 2 (n 2 + 1) n) (sU 4 (n 2) p (sU 5 (n 2) q (sU 6 (n 2) x (sU 7 (n 2) y t)))) r24 r25 r26 r27 r28 r29 (upd r30 sd (nI (n 2 + 1))) (upd r31 (8 * sd + n 2) p) (upd r32 (8 * sd + n 2) q) (upd r33 (8 * sd + n 2) x) (upd r34 (8 * sd + n 2) y) r35 r36 r37 r38 r39 r40 r41 r42 := by
  obtain ⟨⟨a1, a2, a3, a4, a5, a6, a7⟩, b1, b2, b3, b4⟩ := h
  generalize hT : sU 4 (n 2) p (sU 5 (n 2) q (sU 6 (n 2) x (sU 7 (n 2) y t))) = T
  have e : ∀ k, k ≠ 4 → k ≠ 5 → k ≠ 6 → k ≠ 7 → T k = t k := fun k h1 h2 h3 h4 => by rw [← hT, sU_ne h1, sU_ne h2, sU_ne h3, sU_ne h4]
  have e12 := e 12 (by omega) (by omega) (by omega) (by omega)
  refine ⟨⟨by rw [nS_ne _ _ (by omega)]; exact a1, by rw [nS_ne _ _ (by omega)]; exact a2, by rw [u_s, nS_eq], by rw [nS_ne _ _ (by omega)]; exact a4, by rw [e12]; exact a5, by rw [e12]; exact a6, by rw [e12]; exact a7⟩, fun j hj => ?_, fun j hj => ?_, fun j hj => ?_, fun j hj => ?_⟩
  · rw [nS_ne _ _ (by omega)] at hj; rw [e 0 (by omega) (by omega) (by omega) (by omega), e 1 (by omega) (by omega) (by omega) (by omega)]; exact b1 j hj
  · rw [nS_ne _ _ (by omega)] at hj; rw [e 2 (by omega) (by omega) (by omega) (by omega), e 3 (by omega) (by omega) (by omega) (by omega)]; exact b2 j hj
  · rw [nS_eq] at hj
    by_cases c : j = n 2
    · have w4 : T 4 j = p := by rw [← hT, sU_if, if_pos ⟨rfl, c⟩]
      have w5 : T 5 j = q := by rw [← hT, sU_ne (by omega), sU_if, if_pos ⟨rfl, c⟩]
      have w6 : T 6 j = x := by rw [← hT, sU_ne (by omega), sU_ne (by omega), sU_if, if_pos ⟨rfl, c⟩]
      have w7 : T 7 j = y := by rw [← hT, sU_ne (by omega), sU_ne (by omega), sU_ne (by omega), sU_if, if_pos ⟨rfl, c⟩]
      rw [w4, w5, w6, w7, c, u_s, u_s, u_s, u_s]; exact ⟨rfl, rfl, rfl, rfl⟩
    · have w0 : ∀ k, T k j = t k j := fun k => by rw [← hT, sU_if, if_neg (by omega), sU_if, if_neg (by omega), sU_if, if_neg (by omega), sU_if, if_neg (by omega)]
      rw [w0, w0, w0, w0, u_n _ _ (by omega), u_n _ _ (by omega), u_n _ _ (by omega), u_n _ _ (by omega)]; exact b3 j (by omega)
  · rw [nS_ne _ _ (by omega)] at hj; rw [e 8 (by omega) (by omega) (by omega) (by omega), e 9 (by omega) (by omega) (by omega) (by omega), e 10 (by omega) (by omega) (by omega) (by omega), e 11 (by omega) (by omega) (by omega) (by omega)]; exact b4 j hj
theorem TMn.one0 (h : TMn sd n t r24 r25 r26 r27 r28 r29 r30 r31 r32 r33 r34 r35 r36 r37 r38 r39 r40 r41 r42) (p : Int32) : TMn sd n (sU 12 0 p t) r24 r25 r26 r27 r28 r29 r30 r31 r32 r33 r34 r35 r36 r37 r38 r39 (upd r40 sd p) r41 r42 := by
  obtain ⟨⟨a1, a2, a3, a4, a5, a6, a7⟩, b⟩ := h
  refine ⟨⟨a1, a2, a3, a4, by rw [u_s, sU_if, if_pos ⟨rfl, rfl⟩], by rw [sU_if, if_neg (by omega)]; exact a6, by rw [sU_if, if_neg (by omega)]; exact a7⟩, ?_⟩
  simp only [sU_ne (show (0 : Nat) ≠ 12 by omega), sU_ne (show (1 : Nat) ≠ 12 by omega), sU_ne (show (2 : Nat) ≠ 12 by omega), sU_ne (show (3 : Nat) ≠ 12 by omega), sU_ne (show (4 : Nat) ≠ 12 by omega), sU_ne (show (5 : Nat) ≠ 12 by omega), sU_ne (show (6 : Nat) ≠ 12 by omega), sU_ne (show (7 : Nat) ≠ 12 by omega), sU_ne (show (8 : Nat) ≠ 12 by omega), sU_ne (show (9 : Nat) ≠ 12 by omega), sU_ne (show (10 : Nat) ≠ 12 by omega), sU_ne (show (11 : Nat) ≠ 12 by omega)]
  exact b
theorem TMn.one1 (h : TMn sd n t r24 r25 r26 r27 r28 r29 r30 r31 r32 r33 r34 r35 r36 r37 r38 r39 r40 r41 r42) (p : Int32) : TMn sd n (sU 12 1 p t) r24 r25 r26 r27 r28 r29 r30 r31 r32 r33 r34 r35 r36 r37 r38 r39 r40 (upd r41 sd p) r42 := by
  obtain ⟨⟨a1, a2, a3, a4, a5, a6, a7⟩, b⟩ := h
  refine ⟨⟨a1, a2, a3, a4, by rw [sU_if, if_neg (by omega)]; exact a5, by rw [u_s, sU_if, if_pos ⟨rfl, rfl⟩], by rw [sU_if, if_neg (by omega)]; exact a7⟩, ?_⟩
  simp only [sU_ne (show (0 : Nat) ≠ 12 by omega), sU_ne (show (1 : Nat) ≠ 12 by omega), sU_ne (show (2 : Nat) ≠ 12 by omega), sU_ne (show (3 : Nat) ≠ 12 by omega), sU_ne (show (4 : Nat) ≠ 12 by omega), sU_ne (show (5 : Nat) ≠ 12 by omega), sU_ne (show (6 : Nat) ≠ 12 by omega), sU_ne (show (7 : Nat) ≠ 12 by omega), sU_ne (show (8 : Nat) ≠ 12 by omega), sU_ne (show (9 : Nat) ≠ 12 by omega), sU_ne (show (10 : Nat) ≠ 12 by omega), sU_ne (show (11 : Nat) ≠ 12 by omega)]
  exact b
theorem TMn.one2 (h : TMn sd n t r24 r25 r26 r27 r28 r29 r30 r31 r32 r33 r34 r35 r36 r37 r38 r39 r40 r41 r42) (p : Int32) : TMn sd n (sU 12 2 p t) r24 r25 r26 r27 r28 r29 r30 r31 r32 r33 r34 r35 r36 r37 r38 r39 r40 r41 (upd r42 sd p) := by
  obtain ⟨⟨a1, a2, a3, a4, a5, a6, a7⟩, b⟩ := h
  refine ⟨⟨a1, a2, a3, a4, by rw [sU_if, if_neg (by omega)]; exact a5, by rw [sU_if, if_neg (by omega)]; exact a6, by rw [u_s, sU_if, if_pos ⟨rfl, rfl⟩]⟩, ?_⟩
  simp only [sU_ne (show (0 : Nat) ≠ 12 by omega), sU_ne (show (1 : Nat) ≠ 12 by omega), sU_ne (show (2 : Nat) ≠ 12 by omega), sU_ne (show (3 : Nat) ≠ 12 by omega), sU_ne (show (4 : Nat) ≠ 12 by omega), sU_ne (show (5 : Nat) ≠ 12 by omega), sU_ne (show (6 : Nat) ≠ 12 by omega), sU_ne (show (7 : Nat) ≠ 12 by omega), sU_ne (show (8 : Nat) ≠ 12 by omega), sU_ne (show (9 : Nat) ≠ 12 by omega), sU_ne (show (10 : Nat) ≠ 12 by omega), sU_ne (show (11 : Nat) ≠ 12 by omega)]
  exact b
end TBS
/-! what is told, without the room and with its end -/
section TLD
variable (kd : Nat → Nat) (vl : Nat → Int32) (nv : Nat → Nat)
def grainB (s : PS) : PO PS := (nameR kd nv s).bd fun r => (numR kd vl 0 9999 r.2).bd fun p => (numR kd vl 0 99 p.2).bd fun q =>
  .ok (q.2.tx (nS 0 (q.2.n 0 + 1) q.2.n) (sU 0 (q.2.n 0) p.1 (sU 1 (q.2.n 0) q.1 q.2.t)) q.2.lw (nS 0 (q.2.nm 0 ++ [r.1]) q.2.nm))
def holeB (s : PS) : PO PS := (nameR kd nv s).bd fun r => (numR kd vl 1 30 r.2).bd fun p => (knownR kd nv 0 p.2).bd fun q =>
  .ok (q.2.tx (nS 1 (q.2.n 1 + 1) q.2.n) (sU 2 (q.2.n 1) p.1 (sU 3 (q.2.n 1) q.1 q.2.t)) q.2.lw (nS 1 (q.2.nm 1 ++ [r.1]) q.2.nm))
def ratB (s : PS) : PO PS := (nameR kd nv s).bd fun r => (knownR kd nv 0 r.2).bd fun p => (knownR kd nv 1 p.2).bd fun q => (numR kd vl 0 9 q.2).bd fun x => (numR kd vl 0 99 x.2).bd fun y =>
  .ok (y.2.tx (nS 2 (y.2.n 2 + 1) y.2.n) (sU 4 (y.2.n 2) p.1 (sU 5 (y.2.n 2) q.1 (sU 6 (y.2.n 2) x.1 (sU 7 (y.2.n 2) y.1 y.2.t)))) y.2.lw (nS 2 (y.2.nm 2 ++ [r.1]) y.2.nm))
theorem grainR_B (s : PS) : grainR kd vl nv s = (roomR (s.n 0) 6 s).bd (grainB kd vl nv) := rfl
theorem holeR_B (s : PS) : holeR kd vl nv s = (roomR (s.n 1) 6 s).bd (holeB kd vl nv) := rfl
theorem ratR_B (s : PS) : ratR kd vl nv s = (roomR (s.n 2) 8 s).bd (ratB kd vl nv) := rfl
end TLD
section TLE
variable {kd pl : Nat → Nat} {vl : Nat → Int32} {nv : Nat → Nat}
theorem must_tx {k : Nat} (s : PS) (n : Nat → Nat) (t : tab) (lw : Nat → Option LAW) (nm : Nat → List Nat) : mustR kd k (s.tx n t lw nm) = (mustR kd k s).bd fun s' => .ok (s'.tx n t lw nm) := by
  unfold mustR passR
  show (if kd s.at_ = k then (if 400 ≤ s.at_ then _ else _) else _) = _
  by_cases h : kd s.at_ = k
  · rw [if_pos h, if_pos h]
    by_cases h4 : 400 ≤ s.at_
    · rw [if_pos h4, if_pos h4]; rfl
    · rw [if_neg h4, if_neg h4]; rfl
  · rw [if_neg h, if_neg h]; rfl
theorem FM.tx {s : PS} {fl fp tt wk wp : Nat} (h : FM kd pl (.ok s) fl fp tt wk wp) (n : Nat → Nat) (t : tab) (lw : Nat → Option LAW) (nm : Nat → List Nat) : FM kd pl (.ok (s.tx n t lw nm)) fl fp tt wk wp := h
theorem bd_er {α β : Type} {x : PO α} {f : α → PO β} {e : Nat × Nat} (h : x = .error e) : x.bd f = .error e := by rw [h]; rfl
/-- nothing of the text is another -/
def Sm (s s' : PS) : Prop := s'.n = s.n ∧ s'.t = s.t ∧ s'.lw = s.lw ∧ s'.nm = s.nm ∧ s.at_ ≤ s'.at_
theorem Sm.ext {s s' s2 : PS} (h : Sm s s') (e : Ext s' s2) : Sm s s2 := ⟨e.1.trans h.1, e.2.1.trans h.2.1, e.2.2.1.trans h.2.2.1, e.2.2.2.1.trans h.2.2.2.1, by have := e.2.2.2.2.1; have := h.2.2.2.2; omega⟩
theorem Sm.refl (s : PS) : Sm s s := ⟨rfl, rfl, rfl, rfl, Nat.le_refl _⟩
theorem bd_ok {α β : Type} (v : α) (f : α → PO β) : PO.bd (.ok v) f = f v := rfl
theorem bd_error {α β : Type} (e : Nat × Nat) (f : α → PO β) : PO.bd (.error e) f = .error e := rfl
def grainC (kd : Nat → Nat) (vl : Nat → Int32) (nv : Nat → Nat) (s : PS) : PO PS := (((nameX kd nv s).bd (numX kd vl 0 9999)).bd (numX kd vl 0 99)).bd (mustR kd 4)
def holeC (kd : Nat → Nat) (vl : Nat → Int32) (nv : Nat → Nat) (s : PS) : PO PS := (((nameX kd nv s).bd (numX kd vl 1 30)).bd (knownX kd nv 0)).bd (mustR kd 4)
def ratC (kd : Nat → Nat) (vl : Nat → Int32) (nv : Nat → Nat) (s : PS) : PO PS := (((((nameX kd nv s).bd (knownX kd nv 0)).bd (knownX kd nv 1)).bd (numX kd vl 0 9)).bd (numX kd vl 0 99)).bd (mustR kd 4)
theorem grain_er {s : PS} {e : Nat × Nat} (h : grainC kd vl nv s = .error e) : (grainB kd vl nv s).bd (mustR kd 4) = .error e := by
  unfold grainC nameX at h
  unfold grainB
  cases h1 : nameR kd nv s with
  | error e => simp only [h1, bd_error] at h ⊢; exact h
  | ok r =>
    simp only [h1, bd_ok] at h ⊢
    unfold numX at h
    cases h2 : numR kd vl 0 9999 r.2 with
    | error e => simp only [h2, bd_error] at h ⊢; exact h
    | ok p =>
      simp only [h2, bd_ok] at h ⊢
      cases h3 : numR kd vl 0 99 p.2 with
      | error e => simp only [h3, bd_error] at h ⊢; exact h
      | ok q =>
        simp only [h3, bd_ok, must_tx] at h ⊢
        rw [h]; rfl
theorem grain_ok {s s4 : PS} (h : grainC kd vl nv s = .ok s4) : ∃ r p q, nameR kd nv s = .ok r ∧ numR kd vl 0 9999 r.2 = .ok p ∧ numR kd vl 0 99 p.2 = .ok q ∧ r.1 = nv s.at_ ∧ kd s.at_ = 1 ∧ Sm s s4 ∧ s.at_ + 4 = s4.at_ ∧
      (grainB kd vl nv s).bd (mustR kd 4) = .ok (s4.tx (nS 0 (s.n 0 + 1) s.n) (sU 0 (s.n 0) p.1 (sU 1 (s.n 0) q.1 s.t)) s.lw (nS 0 (s.nm 0 ++ [r.1]) s.nm)) := by
  unfold grainC nameX at h
  unfold grainB
  cases h1 : nameR kd nv s with
  | error e => simp only [h1, bd_error] at h; cases h
  | ok r =>
    obtain ⟨k1, e1, w1⟩ := name_good h1
    simp only [h1, bd_ok] at h ⊢
    unfold numX at h
    cases h2 : numR kd vl 0 9999 r.2 with
    | error e => simp only [h2, bd_error] at h; cases h
    | ok p =>
      obtain ⟨-, e2, -⟩ := num_good h2
      simp only [h2, bd_ok] at h ⊢
      cases h3 : numR kd vl 0 99 p.2 with
      | error e => simp only [h3, bd_error] at h; cases h
      | ok q =>
        obtain ⟨-, e3, -⟩ := num_good h3
        simp only [h3, bd_ok, must_tx] at h ⊢
        obtain ⟨-, e4, -⟩ := must_good h
        have en : q.2.n = s.n := by rw [e3.1, e2.1, e1.1]
        have et : q.2.t = s.t := by rw [e3.2.1, e2.2.1, e1.2.1]
        have el : q.2.lw = s.lw := by rw [e3.2.2.1, e2.2.2.1, e1.2.2.1]
        have em : q.2.nm = s.nm := by rw [e3.2.2.2.1, e2.2.2.2.1, e1.2.2.2.1]
        refine ⟨r, p, q, rfl, h2, h3, w1, k1, ((((Sm.refl s).ext e1).ext e2).ext e3).ext e4, ?_, ?_⟩
        · have a1 := e1.2.2.2.2.1; have a2 := e2.2.2.2.2.1; have a3 := e3.2.2.2.2.1; have a4 := e4.2.2.2.2.1; omega
        · rw [h, en, et, el, em]; rfl
theorem hole_er {s : PS} {e : Nat × Nat} (h : holeC kd vl nv s = .error e) : (holeB kd vl nv s).bd (mustR kd 4) = .error e := by
  unfold holeC nameX at h
  unfold holeB
  cases h1 : nameR kd nv s with
  | error e => simp only [h1, bd_error] at h ⊢; exact h
  | ok r =>
    simp only [h1, bd_ok] at h ⊢
    unfold numX knownX at h
    cases h2 : numR kd vl 1 30 r.2 with
    | error e => simp only [h2, bd_error] at h ⊢; exact h
    | ok p =>
      simp only [h2, bd_ok] at h ⊢
      cases h3 : knownR kd nv 0 p.2 with
      | error e => simp only [h3, bd_error] at h ⊢; exact h
      | ok q =>
        simp only [h3, bd_ok, must_tx] at h ⊢
        rw [h]; rfl
theorem hole_ok {s s4 : PS} (h : holeC kd vl nv s = .ok s4) : ∃ r p q, nameR kd nv s = .ok r ∧ numR kd vl 1 30 r.2 = .ok p ∧ knownR kd nv 0 p.2 = .ok q ∧ r.1 = nv s.at_ ∧ kd s.at_ = 1 ∧ Sm s s4 ∧ s.at_ + 4 = s4.at_ ∧
      (holeB kd vl nv s).bd (mustR kd 4) = .ok (s4.tx (nS 1 (s.n 1 + 1) s.n) (sU 2 (s.n 1) p.1 (sU 3 (s.n 1) q.1 s.t)) s.lw (nS 1 (s.nm 1 ++ [r.1]) s.nm)) := by
  unfold holeC nameX at h
  unfold holeB
  cases h1 : nameR kd nv s with
  | error e => simp only [h1, bd_error] at h; cases h
  | ok r =>
    obtain ⟨k1, e1, w1⟩ := name_good h1
    simp only [h1, bd_ok] at h ⊢
    unfold numX knownX at h
    cases h2 : numR kd vl 1 30 r.2 with
    | error e => simp only [h2, bd_error] at h; cases h
    | ok p =>
      obtain ⟨-, e2, -⟩ := num_good h2
      simp only [h2, bd_ok] at h ⊢
      cases h3 : knownR kd nv 0 p.2 with
      | error e => simp only [h3, bd_error] at h; cases h
      | ok q =>
        obtain ⟨-, e3, -⟩ := known_good h3
        simp only [h3, bd_ok, must_tx] at h ⊢
        obtain ⟨-, e4, -⟩ := must_good h
        have en : q.2.n = s.n := by rw [e3.1, e2.1, e1.1]
        have et : q.2.t = s.t := by rw [e3.2.1, e2.2.1, e1.2.1]
        have el : q.2.lw = s.lw := by rw [e3.2.2.1, e2.2.2.1, e1.2.2.1]
        have em : q.2.nm = s.nm := by rw [e3.2.2.2.1, e2.2.2.2.1, e1.2.2.2.1]
        refine ⟨r, p, q, rfl, h2, h3, w1, k1, ((((Sm.refl s).ext e1).ext e2).ext e3).ext e4, ?_, ?_⟩
        · have a1 := e1.2.2.2.2.1; have a2 := e2.2.2.2.2.1; have a3 := e3.2.2.2.2.1; have a4 := e4.2.2.2.2.1; omega
        · rw [h, en, et, el, em]; rfl
theorem rat_er {s : PS} {e : Nat × Nat} (h : ratC kd vl nv s = .error e) : (ratB kd vl nv s).bd (mustR kd 4) = .error e := by
  unfold ratC nameX at h
  unfold ratB
  cases h1 : nameR kd nv s with
  | error e => simp only [h1, bd_error] at h ⊢; exact h
  | ok r =>
    simp only [h1, bd_ok] at h ⊢
    unfold numX knownX at h
    cases h2 : knownR kd nv 0 r.2 with
    | error e => simp only [h2, bd_error] at h ⊢; exact h
    | ok p =>
      simp only [h2, bd_ok] at h ⊢
      cases h3 : knownR kd nv 1 p.2 with
      | error e => simp only [h3, bd_error] at h ⊢; exact h
      | ok q =>
        simp only [h3, bd_ok] at h ⊢
        cases h4 : numR kd vl 0 9 q.2 with
        | error e => simp only [h4, bd_error] at h ⊢; exact h
        | ok x =>
          simp only [h4, bd_ok] at h ⊢
          cases h5 : numR kd vl 0 99 x.2 with
          | error e => simp only [h5, bd_error] at h ⊢; exact h
          | ok y =>
            simp only [h5, bd_ok, must_tx] at h ⊢
            rw [h]; rfl
theorem rat_ok {s s4 : PS} (h : ratC kd vl nv s = .ok s4) : ∃ r p q x y, nameR kd nv s = .ok r ∧ knownR kd nv 0 r.2 = .ok p ∧ knownR kd nv 1 p.2 = .ok q ∧ numR kd vl 0 9 q.2 = .ok x ∧ numR kd vl 0 99 x.2 = .ok y ∧ r.1 = nv s.at_ ∧ kd s.at_ = 1 ∧ Sm s s4 ∧ s.at_ + 6 = s4.at_ ∧
      (ratB kd vl nv s).bd (mustR kd 4) = .ok (s4.tx (nS 2 (s.n 2 + 1) s.n) (sU 4 (s.n 2) p.1 (sU 5 (s.n 2) q.1 (sU 6 (s.n 2) x.1 (sU 7 (s.n 2) y.1 s.t)))) s.lw (nS 2 (s.nm 2 ++ [r.1]) s.nm)) := by
  unfold ratC nameX at h
  unfold ratB
  cases h1 : nameR kd nv s with
  | error e => simp only [h1, bd_error] at h; cases h
  | ok r =>
    obtain ⟨k1, e1, w1⟩ := name_good h1
    simp only [h1, bd_ok] at h ⊢
    unfold numX knownX at h
    cases h2 : knownR kd nv 0 r.2 with
    | error e => simp only [h2, bd_error] at h; cases h
    | ok p =>
      obtain ⟨-, e2, -⟩ := known_good h2
      simp only [h2, bd_ok] at h ⊢
      cases h3 : knownR kd nv 1 p.2 with
      | error e => simp only [h3, bd_error] at h; cases h
      | ok q =>
        obtain ⟨-, e3, -⟩ := known_good h3
        simp only [h3, bd_ok] at h ⊢
        cases h4 : numR kd vl 0 9 q.2 with
        | error e => simp only [h4, bd_error] at h; cases h
        | ok x =>
          obtain ⟨-, e4, -⟩ := num_good h4
          simp only [h4, bd_ok] at h ⊢
          cases h5 : numR kd vl 0 99 x.2 with
          | error e => simp only [h5, bd_error] at h; cases h
          | ok y =>
            obtain ⟨-, e5, -⟩ := num_good h5
            simp only [h5, bd_ok, must_tx] at h ⊢
            obtain ⟨-, e6, -⟩ := must_good h
            have en : y.2.n = s.n := by rw [e5.1, e4.1, e3.1, e2.1, e1.1]
            have et : y.2.t = s.t := by rw [e5.2.1, e4.2.1, e3.2.1, e2.2.1, e1.2.1]
            have el : y.2.lw = s.lw := by rw [e5.2.2.1, e4.2.2.1, e3.2.2.1, e2.2.2.1, e1.2.2.1]
            have em : y.2.nm = s.nm := by rw [e5.2.2.2.1, e4.2.2.2.1, e3.2.2.2.1, e2.2.2.2.1, e1.2.2.2.1]
            refine ⟨r, p, q, x, y, rfl, h2, h3, h4, h5, w1, k1, ((((((Sm.refl s).ext e1).ext e2).ext e3).ext e4).ext e5).ext e6, ?_, ?_⟩
            · have a1 := e1.2.2.2.2.1; have a2 := e2.2.2.2.2.1; have a3 := e3.2.2.2.2.1; have a4 := e4.2.2.2.2.1; have a5 := e5.2.2.2.2.1; have a6 := e6.2.2.2.2.1; omega
            · rw [h, en, et, el, em]; rfl
theorem X_ok {s s1 : PS} {α : Type} {f : PS → PO (α × PS)} (h : (f s).bd (fun q => PO.bd (.ok q.2) Except.ok) = .ok s1) : ∃ q, f s = .ok q ∧ q.2 = s1 := by
  obtain ⟨q, h1, h2⟩ := bd_good h
  exact ⟨q, h1, by injection h2⟩
end TLE
section TLF
variable {kd pl : Nat → Nat} {vl : Nat → Int32} {nv : Nat → Nat}
theorem nameX_ext {s s' : PS} (h : nameX kd nv s = .ok s') : Ext s s' := by
  obtain ⟨q, h1, h2⟩ := bd_good h
  injection h2 with h2; rw [← h2]; exact (name_good h1).2.1
theorem numX_ext {lo hi : Int32} {s s' : PS} (h : numX kd vl lo hi s = .ok s') : Ext s s' := by
  obtain ⟨q, h1, h2⟩ := bd_good h
  injection h2 with h2; rw [← h2]; exact (num_good h1).2.1
theorem knownX_ext {j : Nat} {s s' : PS} (h : knownX kd nv j s = .ok s') : Ext s s' := by
  obtain ⟨q, h1, h2⟩ := bd_good h
  injection h2 with h2; rw [← h2]; exact (known_good h1).2.1
theorem NR.push2 {nm : Nat → List Nat} {nn m : Nat} {gS gA : Nat → Int32} {wO : Nat → Int64} {S A : Nat → Nat} (h : NR nm nn gS gA wO S A) {j v : Nat} (hj : j < 3) (hn : nn < 20) (hv : v < 27 ^ 8) (hl : (nm j).length = m) {w : Int64} (hw : w = Int64.ofNat v) : ∃ S5 A5, NR (nS j (nm j ++ [v]) nm) (nn + 1) (upd gS nn (nI j)) (upd gA nn (nI m)) (vp_updL wO nn w) S5 A5 := by
  subst hw; subst hl
  exact ⟨_, _, h.push hj hn hv⟩
end TLF
