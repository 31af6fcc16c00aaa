/-! laws are told: rows of code, branches -/
set_option maxRecDepth 100000
/-- rows of code from a on: c -/
def CODE (C I : Nat → Int32) (a : Nat) (c : RPN) : Prop := ∀ (i : Nat) (q : Nat × Int32), c[i]? = some q → C (a + i) = nI q.1 ∧ I (a + i) = q.2
theorem CODE.nil (C I : Nat → Int32) (a : Nat) : CODE C I a [] := fun i q h => by simp at h
theorem CODE.snoc {C I : Nat → Int32} {a : Nat} {c : RPN} (h : CODE C I a c) (k : Nat) (v : Int32) : CODE (upd C (a + c.length) (nI k)) (upd I (a + c.length) v) a (c ++ [(k, v)]) := by
  intro i q hi
  by_cases e : i < c.length
  · rw [List.getElem?_append_left e] at hi
    rw [u_n _ _ (by omega), u_n _ _ (by omega)]; exact h i q hi
  · have hl := (List.getElem?_eq_some_iff.mp hi).1
    rw [List.length_append] at hl
    have hl : i < c.length + 1 := hl
    have ei : i = c.length := by omega
    rw [ei, List.getElem?_append_right (Nat.le_refl _)] at hi
    simp only [Nat.sub_self, List.getElem?_cons_zero, Option.some.injEq] at hi
    rw [ei, u_s, u_s, ← hi]; exact ⟨rfl, rfl⟩
/-- below a they are as they were -/
def LOW (a : Nat) (X Y : Nat → Int32) : Prop := ∀ j, j < a → Y j = X j
theorem LOW.refl (a : Nat) (X : Nat → Int32) : LOW a X X := fun _ _ => rfl
theorem LOW.put {a j : Nat} {X Y : Nat → Int32} (h : LOW a X Y) (hj : a ≤ j) (v : Int32) : LOW a X (upd Y j v) := fun i hi => by rw [u_n _ _ (by omega)]; exact h i hi
theorem LOW.trans {a b : Nat} {X Y Z : Nat → Int32} (h : LOW a X Y) (h2 : LOW b Y Z) (hab : a ≤ b) : LOW a X Z := fun i hi => (h2 i (by omega)).trans (h i hi)
theorem CODE.low {C I C' I' : Nat → Int32} {a b : Nat} {c : RPN} (h : CODE C I a c) (h1 : LOW b C C') (h2 : LOW b I I') (hb : a + c.length ≤ b) : CODE C' I' a c := fun i q hi => by
  have hl := (List.getElem?_eq_some_iff.mp hi).1
  rw [h1 _ (by omega), h2 _ (by omega)]; exact h i q hi
theorem CODE.at {C I : Nat → Int32} {a : Nat} {c : RPN} (h : CODE C I a c) (hs : ∀ q ∈ c, q.1 ≤ 5 ∧ (q.1 = 1 → vp_in q.2 7)) : codeAt C I a (a + c.length) c := ⟨rfl, fun i q hi => ⟨(hs q (List.mem_of_getElem? hi)).1, (h i q hi).1, (h i q hi).2, (hs q (List.mem_of_getElem? hi)).2⟩⟩
theorem codeAt.low {C I C' I' : Nat → Int32} {a b d : Nat} {c : RPN} (h : codeAt C I a b c) (h1 : LOW d C C') (h2 : LOW d I I') (hb : b ≤ d) : codeAt C' I' a b c := by
  obtain ⟨h3, h4⟩ := h
  refine ⟨h3, fun i q hi => ?_⟩
  have hl := (List.getElem?_eq_some_iff.mp hi).1
  rw [h1 _ (by omega), h2 _ (by omega)]; exact h4 i q hi
/-- the signs that wait stand in the row -/
def WAT (X : Nat → Int32) (W : List Nat) : Prop := ∀ i w, W[i]? = some w → X (W.length - 1 - i) = nI w
theorem WAT.top {X : Nat → Int32} {w : Nat} {W : List Nat} (h : WAT X (w :: W)) : X W.length = nI w := by
  have := h 0 w rfl
  simpa using this
theorem WAT.tail {X : Nat → Int32} {w : Nat} {W : List Nat} (h : WAT X (w :: W)) : WAT X W := fun i v hi => by
  have hl := (List.getElem?_eq_some_iff.mp hi).1
  have := h (i + 1) v (by simpa using hi)
  rw [List.length_cons] at this
  rw [show W.length - 1 - i = W.length + 1 - 1 - (i + 1) by omega]; exact this
theorem WAT.push {X : Nat → Int32} {W : List Nat} (h : WAT X W) (w : Nat) : WAT (upd X W.length (nI w)) (w :: W) := fun i v hi => by
  rw [List.length_cons]
  cases i with
  | zero => simp at hi; subst hi; rw [show W.length + 1 - 1 - 0 = W.length by omega, u_s]
  | succ i =>
    have hi : W[i]? = some v := by simpa using hi
    have hl := (List.getElem?_eq_some_iff.mp hi).1
    rw [u_n _ _ (by omega), show W.length + 1 - 1 - (i + 1) = W.length - 1 - i by omega]; exact h i v hi
theorem WAT.up {X : Nat → Int32} {W : List Nat} (h : WAT X W) {j : Nat} (hj : W.length ≤ j) (v : Int32) : WAT (upd X j v) W := fun i w hi => by
  have hl := (List.getElem?_eq_some_iff.mp hi).1
  rw [u_n _ _ (by omega)]; exact h i w hi
/-- signs alone -/
def okW (W : List Nat) : Prop := ∀ w ∈ W, w = 6 ∨ w = 8 ∨ w = 9 ∨ w = 10 ∨ w = 15
theorem outW_len (st : Bool) : ∀ (W : List Nat) (E : RPN), (outW st W E).1.length + (outW st W E).2.length = W.length + E.length ∧ E.length ≤ (outW st W E).2.length
  | [], E => ⟨rfl, Nat.le_refl _⟩
  | w :: W, E => by
    unfold outW
    split
    · exact ⟨rfl, Nat.le_refl _⟩
    · have := outW_len st W (E ++ [(opK w, 0)])
      rw [List.length_append] at this
      simp only [List.length_cons, List.length_nil] at this ⊢
      omega
theorem outW_ok (st : Bool) : ∀ (W : List Nat) (E : RPN), okW W → okW (outW st W E).1
  | [], E, h => h
  | w :: W, E, h => by
    unfold outW
    split
    · exact h
    · exact outW_ok st W _ (fun v hv => h v (List.mem_cons_of_mem _ hv))
/-- how many are not closed yet -/
def cnt6 (W : List Nat) : Nat := W.countP (fun w => w == 6)
theorem cnt6_cons (w : Nat) (W : List Nat) : cnt6 (w :: W) = cnt6 W + (if w = 6 then 1 else 0) := by
  unfold cnt6
  rw [List.countP_cons]
  by_cases h : w = 6 <;> simp [h]
theorem outW_cnt (st : Bool) : ∀ (W : List Nat) (E : RPN), cnt6 (outW st W E).1 = cnt6 W
  | [], E => rfl
  | w :: W, E => by
    unfold outW
    split
    · rfl
    · rename_i h
      rw [outW_cnt st W _, cnt6_cons, if_neg (fun z => h (Or.inl z))]; rfl
/-- weak: what comes out ends before an opening one -/
theorem outW_six : ∀ (W : List Nat) (E : RPN), 0 < cnt6 W → ∃ V, (outW false W E).1 = 6 :: V
  | [], E, h => by exact absurd h (by decide)
  | w :: W, E, h => by
    unfold outW
    by_cases c : w = 6
    · rw [if_pos (Or.inl c), c]; exact ⟨W, rfl⟩
    · rw [if_neg (fun z => by rcases z with z | z; exact c z; exact absurd z.1 (by decide))]
      exact outW_six W _ (by rw [cnt6_cons, if_neg c] at h; exact h)
theorem outW_nil : ∀ (W : List Nat) (E : RPN), cnt6 W = 0 → (outW false W E).1 = []
  | [], E, h => rfl
  | w :: W, E, h => by
    unfold outW
    have c : ¬ w = 6 := fun c => by rw [cnt6_cons, if_pos c] at h; omega
    rw [if_neg (fun z => by rcases z with z | z; exact c z; exact absurd z.1 (by decide))]
    exact outW_nil W _ (by rw [cnt6_cons, if_neg c] at h; exact h)
def wfW : List Nat → Prop
  | [] => True
  | w :: W => wfW W ∧ (w = 6 ∨ ((w = 8 ∨ w = 9) ∧ SW W) ∨ ((w = 10 ∨ w = 15) ∧ PW W))
theorem wf_ok : ∀ {W : List Nat}, wfW W → okW W
  | [], _ => fun v hv => by simp at hv
  | w :: W, h => fun v hv => by
    rcases List.mem_cons.mp hv with e | e
    · rw [e]; rcases h.2 with q | q | q <;> omega
    · exact wf_ok h.1 v e
theorem wf_out (st : Bool) : ∀ {W : List Nat} (E : RPN), wfW W → wfW (outW st W E).1
  | [], _, h => h
  | w :: W, E, h => by
    unfold outW
    split
    · exact h
    · exact wf_out st _ h.1
theorem wf_len : ∀ {W : List Nat}, wfW W → W.length ≤ 3 * cnt6 W + 2 ∧ (PW W → W.length ≤ 3 * cnt6 W + 1) ∧ (SW W → W.length ≤ 3 * cnt6 W)
  | [], _ => ⟨by simp, fun _ => by simp, fun _ => by simp⟩
  | w :: W, h => by
    obtain ⟨l1, l2, l3⟩ := wf_len h.1
    rw [List.length_cons, cnt6_cons]
    have hp : PW (w :: W) → w = 6 ∨ w = 8 ∨ w = 9 := by
      rintro (q | ⟨v, V, q, r⟩)
      · cases q
      · injection q with q1 q2; rw [q1]; exact r
    have hs : SW (w :: W) → w = 6 := by
      rintro (q | ⟨V, q⟩)
      · cases q
      · injection q with q1 q2
    rcases h.2 with c | ⟨c, c2⟩ | ⟨c, c2⟩
    · rw [if_pos c]; exact ⟨by omega, fun _ => by omega, fun _ => by omega⟩
    · have := l3 c2
      rw [if_neg (by omega)]; exact ⟨by omega, fun _ => by omega, fun z => by have := hs z; omega⟩
    · have := l2 c2
      rw [if_neg (by omega)]; exact ⟨by omega, fun z => by have := hp z; omega, fun z => by have := hs z; omega⟩
theorem out_SW : ∀ {W : List Nat} (E : RPN), SW (outW false W E).1
  | [], _ => Or.inl rfl
  | w :: W, E => by
    unfold outW
    by_cases c : w = 6
    · rw [if_pos (Or.inl c), c]; exact Or.inr ⟨W, rfl⟩
    · rw [if_neg (fun z => by rcases z with z | z; exact c z; exact absurd z.1 (by decide))]; exact out_SW _
theorem out_PW : ∀ {W : List Nat} (E : RPN), PW (outW true W E).1
  | [], _ => Or.inl rfl
  | w :: W, E => by
    unfold outW
    by_cases c : w = 6 ∨ (true = true ∧ (w = 8 ∨ w = 9))
    · rw [if_pos c]; exact Or.inr ⟨w, W, rfl, by rcases c with c | c; exact Or.inl c; exact Or.inr c.2⟩
    · rw [if_neg c]; exact out_PW _
theorem wf_tail {w : Nat} {W : List Nat} (h : wfW (w :: W)) : wfW W := h.1
/-- where the machine stands -/
def RX (kd : Nat → Nat) (vl : Nat → Int32) (s0 : PS) (ph : Bool) (X : PO PS) (W : List Nat) (E : RPN) (o : Nat) : Prop := match X with
  | .ok s => s = s0.go s.at_ ∧ Rch kd vl (false, [], [], s0.at_, 0) (.inl (ph, W, E, s.at_, o))
  | .error e => Rch kd vl (false, [], [], s0.at_, 0) (.inr (.inl e))
def sumX (kd : Nat → Nat) (vl : Nat → Int32) (s : PS) : PO PS := (sumR kd vl s).bd fun q => .ok q.2
def unitX (kd : Nat → Nat) (s : PS) : PO PS := if kd s.at_ = 2 ∨ (33 ≤ kd s.at_ ∧ kd s.at_ ≤ 39) then passR s else .error (1, s.at_)
def unitQ (kd : Nat → Nat) (vl : Nat → Int32) (a : Nat) : Nat × Int32 := if kd a = 2 then (0, vl a) else (1, nI (kd a - 33))
section RXS
variable {kd pl : Nat → Nat} {vl : Nat → Int32} {s0 s : PS} {W : List Nat} {E : RPN} {o : Nat} {X : PO PS}
theorem RX.init (s0 : PS) : RX kd vl s0 false (.ok s0) [] [] 0 := ⟨rfl, Rch.refl _⟩
theorem pass_c (s : PS) : (400 ≤ s.at_ ∧ passR s = .error (2, s.at_)) ∨ (s.at_ < 400 ∧ passR s = .ok (s.go (s.at_ + 1))) := by
  unfold passR
  by_cases h : 400 ≤ s.at_
  · exact Or.inl ⟨h, if_pos h⟩
  · exact Or.inr ⟨by omega, if_neg h⟩
theorem go_go (s : PS) (a b : Nat) : (s.go a).go b = s.go b := rfl
theorem RX.sopen (h : RX kd vl s0 false (.ok s) W E o) (hk : kd s.at_ = 6) (ho : o ≠ 6) : RX kd vl s0 false (passR s) (6 :: W) E (o + 1) := by
  obtain ⟨h1, h2⟩ := h
  rcases pass_c s with ⟨c, e⟩ | ⟨c, e⟩ <;> rw [e]
  · exact h2.snoc (by simp [stepX, hk, c])
  · exact ⟨by rw [h1]; rfl, h2.snoc (by simp [stepX, hk, ho, show ¬ 400 ≤ s.at_ by omega]; rfl)⟩
theorem RX.sopen6 (h : RX kd vl s0 false (.ok s) W E o) (hk : kd s.at_ = 6) (ho : o = 6) (W' : List Nat) (o' : Nat) (ph : Bool) : RX kd vl s0 ph (.error (2, s.at_)) W' E o' := h.2.snoc (by simp [stepX, hk, ho])
theorem RX.unit (h : RX kd vl s0 false (.ok s) W E o) (hk : kd s.at_ ≠ 6) : RX kd vl s0 true (unitX kd s) W (E ++ [unitQ kd vl s.at_]) o := by
  obtain ⟨h1, h2⟩ := h
  unfold unitX unitQ
  by_cases c2 : kd s.at_ = 2
  · rw [if_pos (Or.inl c2), if_pos c2]
    rcases pass_c s with ⟨c, e⟩ | ⟨c, e⟩ <;> rw [e]
    · exact h2.snoc (by simp [stepX, c2, c])
    · exact ⟨by rw [h1]; rfl, h2.snoc (by simp [stepX, c2, show ¬ 400 ≤ s.at_ by omega]; rfl)⟩
  · by_cases cv : 33 ≤ kd s.at_ ∧ kd s.at_ ≤ 39
    · rw [if_pos (Or.inr cv), if_neg c2]
      rcases pass_c s with ⟨c, e⟩ | ⟨c, e⟩ <;> rw [e]
      · exact h2.snoc (by simp [stepX, hk, c2, cv, c])
      · exact ⟨by rw [h1]; rfl, h2.snoc (by simp [stepX, hk, c2, cv, show ¬ 400 ≤ s.at_ by omega]; rfl)⟩
    · rw [if_neg (by rintro (z | z); exact c2 z; exact cv z)]
      exact h2.snoc (by simp [stepX, hk, c2, cv])
theorem RX.close (h : RX kd vl s0 true (.ok s) W E o) (hk : kd s.at_ = 7) (ho : 0 < o) : RX kd vl s0 true (passR s) (outW false W E).1.tail (outW false W E).2 (o - 1) := by
  obtain ⟨h1, h2⟩ := h
  rcases pass_c s with ⟨c, e⟩ | ⟨c, e⟩ <;> rw [e]
  · exact h2.snoc (by simp [stepX, hk, ho, c])
  · exact ⟨by rw [h1]; rfl, h2.snoc (by simp [stepX, hk, ho, show ¬ 400 ≤ s.at_ by omega]; rfl)⟩
theorem RX.weak (h : RX kd vl s0 true (.ok s) W E o) (hk : kd s.at_ = 8 ∨ kd s.at_ = 9) : RX kd vl s0 false (passR s) (kd s.at_ :: (outW false W E).1) (outW false W E).2 o := by
  obtain ⟨h1, h2⟩ := h
  have n7 : ¬ (kd s.at_ = 7 ∧ 0 < o) := by omega
  rcases pass_c s with ⟨c, e⟩ | ⟨c, e⟩ <;> rw [e]
  · exact h2.snoc (by simp [stepX, hk, n7, c])
  · exact ⟨by rw [h1]; rfl, h2.snoc (by simp [stepX, hk, n7, show ¬ 400 ≤ s.at_ by omega]; rfl)⟩
theorem RX.strong (h : RX kd vl s0 true (.ok s) W E o) (hk : kd s.at_ = 10 ∨ kd s.at_ = 15) : RX kd vl s0 false (passR s) (kd s.at_ :: (outW true W E).1) (outW true W E).2 o := by
  obtain ⟨h1, h2⟩ := h
  have n7 : ¬ (kd s.at_ = 7 ∧ 0 < o) := by omega
  have n8 : ¬ (kd s.at_ = 8 ∨ kd s.at_ = 9) := by omega
  rcases pass_c s with ⟨c, e⟩ | ⟨c, e⟩ <;> rw [e]
  · exact h2.snoc (by simp [stepX, hk, n7, n8, c])
  · exact ⟨by rw [h1]; rfl, h2.snoc (by simp [stepX, hk, n7, n8, show ¬ 400 ≤ s.at_ by omega]; rfl)⟩
theorem sum_of {r : RR} (h : Rch kd vl (false, [], [], s0.at_, 0) (.inr r)) : sumG kd vl 0 s0.at_ = r := Rch.uniq (machine_eq _) h
theorem RX.err {e : Nat × Nat} {ph : Bool} (h : RX kd vl s0 ph (.error e) W E o) : sumX kd vl s0 = .error e := by
  have := sum_of h
  unfold sumX sumR; rw [this]; rfl
theorem RX.end1 (h : RX kd vl s0 true (.ok s) W E o) (ho : 0 < o) (h7 : kd s.at_ ≠ 7) (hn : kd s.at_ ≠ 8 ∧ kd s.at_ ≠ 9 ∧ kd s.at_ ≠ 10 ∧ kd s.at_ ≠ 15) : sumX kd vl s0 = .error (1, s.at_) := by
  have h3 : Rch kd vl (false, [], [], s0.at_, 0) (.inr (.inl (1, s.at_))) := h.2.snoc (by simp [stepX, h7, hn, ho])
  have := sum_of h3
  unfold sumX sumR; rw [this]; rfl
theorem RX.end0 (h : RX kd vl s0 true (.ok s) W E o) (ho : o = 0) (hn : kd s.at_ ≠ 8 ∧ kd s.at_ ≠ 9 ∧ kd s.at_ ≠ 10 ∧ kd s.at_ ≠ 15) : sumR kd vl s0 = .ok ((outW false W E).2, s) := by
  have h3 : Rch kd vl (false, [], [], s0.at_, 0) (.inr (.inr ((outW false W E).2, s.at_))) := h.2.snoc (by simp [stepX, hn, ho])
  have := sum_of h3
  unfold sumR; rw [this]
  show Except.ok ((outW false W E).2, s0.go s.at_) = _
  rw [← h.1]
end RXS
