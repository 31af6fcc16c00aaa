/-! the reader: sums -/
set_option maxRecDepth 100000
/-- a fault's number and row | a term and where it ends -/
abbrev RR := (Nat × Nat) ⊕ (RPN × Nat)
def opK (w : Nat) : Nat := if w = 8 then 2 else if w = 9 then 3 else if w = 10 then 4 else 5
section RDX
variable (kd : Nat → Nat) (vl : Nat → Int32)
set_option maxHeartbeats 4000000 in
/-- 0 a unit, 1 a part, 2 the rest of a part, 3 a sum, 4 the rest of a sum -/
def G5 (md o : Nat) (c : RPN) (a : Nat) : RR :=
  if md = 0 then
    if kd a = 2 then (if 400 ≤ a then .inl (2, a) else .inr ([(0, vl a)], (a + 1)))
    else if 33 ≤ kd a ∧ kd a ≤ 39 then (if 400 ≤ a then .inl (2, a) else .inr ([(1, nI (kd a - 33))], (a + 1)))
    else if kd a ≠ 6 then .inl (1, a)
    else if o = 6 then .inl (2, a)
    else if 400 ≤ a then .inl (2, a)
    else match G5 3 (o + 1) [] (a + 1) with
      | .inl (k, x) => .inl (k, x)
      | .inr (c, b) => if kd b ≠ 7 then .inl (1, b) else if 400 ≤ b then .inl (2, b) else .inr (c, (b + 1))
  else if md = 1 then match G5 0 o [] a with
    | .inl (k, x) => .inl (k, x)
    | .inr (c, b) => if a < b ∧ a < 400 then G5 2 o c b else .inl (9, 9)
  else if md = 2 then
    if kd a = 10 ∨ kd a = 15 then
      if 400 ≤ a then .inl (2, a)
      else match G5 0 o [] (a + 1) with
        | .inl (k, x) => .inl (k, x)
        | .inr (d, e) => if a < e then G5 2 o (c ++ (d ++ [(opK (kd a), 0)])) e else .inl (9, 9)
    else .inr (c, a)
  else if md = 3 then match G5 1 o [] a with
    | .inl (k, x) => .inl (k, x)
    | .inr (c, b) => if a < b ∧ a < 400 then G5 4 o c b else .inl (9, 9)
  else
    if kd a = 8 ∨ kd a = 9 then
      if 400 ≤ a then .inl (2, a)
      else match G5 1 o [] (a + 1) with
        | .inl (k, x) => .inl (k, x)
        | .inr (d, e) => if a < e then G5 4 o (c ++ (d ++ [(opK (kd a), 0)])) e else .inl (9, 9)
    else .inr (c, a)
termination_by (401 - a) * 5 + md
decreasing_by all_goals omega
def unitG (o a : Nat) : RR := G5 kd vl 0 o [] a
def partG (o a : Nat) : RR := G5 kd vl 1 o [] a
def partH (o : Nat) (c : RPN) (b : Nat) : RR := G5 kd vl 2 o c b
def sumG (o a : Nat) : RR := G5 kd vl 3 o [] a
def sumRest (o : Nat) (c : RPN) (b : Nat) : RR := G5 kd vl 4 o c b
set_option maxHeartbeats 4000000 in
theorem unitG_un (o a : Nat) : unitG kd vl o a = if kd a = 2 then (if 400 ≤ a then .inl (2, a) else .inr ([(0, vl a)], (a + 1)))
    else if 33 ≤ kd a ∧ kd a ≤ 39 then (if 400 ≤ a then .inl (2, a) else .inr ([(1, nI (kd a - 33))], (a + 1)))
    else if kd a ≠ 6 then .inl (1, a)
    else if o = 6 then .inl (2, a)
    else if 400 ≤ a then .inl (2, a)
    else match sumG kd vl (o + 1) (a + 1) with
      | .inl (k, x) => .inl (k, x)
      | .inr (c, b) => if kd b ≠ 7 then .inl (1, b) else if 400 ≤ b then .inl (2, b) else .inr (c, (b + 1)) := by
  unfold unitG sumG
  rw [G5, if_pos rfl]
theorem partG_un (o a : Nat) : partG kd vl o a = match unitG kd vl o a with
    | .inl (k, x) => .inl (k, x)
    | .inr (c, b) => if a < b ∧ a < 400 then partH kd vl o c b else .inl (9, 9) := by
  unfold partG unitG partH
  rw [G5, if_neg (by omega), if_pos rfl]
theorem partH_un (o : Nat) (c : RPN) (b : Nat) : partH kd vl o c b = if kd b = 10 ∨ kd b = 15 then
      if 400 ≤ b then .inl (2, b)
      else match unitG kd vl o (b + 1) with
        | .inl (k, x) => .inl (k, x)
        | .inr (d, e) => if b < e then partH kd vl o (c ++ (d ++ [(opK (kd b), 0)])) e else .inl (9, 9)
    else .inr (c, b) := by
  unfold unitG partH
  rw [G5, if_neg (by omega), if_neg (by omega), if_pos rfl]
theorem sumG_un (o a : Nat) : sumG kd vl o a = match partG kd vl o a with
    | .inl (k, x) => .inl (k, x)
    | .inr (c, b) => if a < b ∧ a < 400 then sumRest kd vl o c b else .inl (9, 9) := by
  unfold sumG partG sumRest
  rw [G5, if_neg (by omega), if_neg (by omega), if_neg (by omega), if_pos rfl]
theorem sumRest_un (o : Nat) (c : RPN) (b : Nat) : sumRest kd vl o c b = if kd b = 8 ∨ kd b = 9 then
      if 400 ≤ b then .inl (2, b)
      else match partG kd vl o (b + 1) with
        | .inl (k, x) => .inl (k, x)
        | .inr (d, e) => if b < e then sumRest kd vl o (c ++ (d ++ [(opK (kd b), 0)])) e else .inl (9, 9)
    else .inr (c, b) := by
  unfold sumRest partG
  rw [G5, if_neg (by omega), if_neg (by omega), if_neg (by omega), if_neg (by omega)]
end RDX
section RDY
variable {kd : Nat → Nat} {vl : Nat → Int32}
/-- it goes on -/
def gOn (r : RR) (a : Nat) : Prop := ∀ c b, r = .inr (c, b) → a < b ∧ a < 400 ∧ b ≤ 400
theorem partH_on (m : Nat) (hU : ∀ o a, 401 - a < m → gOn (unitG kd vl o a) a) : ∀ n, n < m → ∀ o c b, 401 - b = n → b ≤ 400 → ∀ c' b', partH kd vl o c b = .inr (c', b') → b ≤ b' ∧ b' ≤ 400 := by
  intro n
  induction n using Nat.strongRecOn with
  | ind n ih =>
    intro hn o c b hb h4 c' b' h
    rw [partH_un] at h
    split at h
    · split at h
      · cases h
      · split at h
        · cases h
        · rename_i d e he
          have := hU o (b + 1) (by omega) d e he
          rw [if_pos (by omega)] at h
          have := ih (401 - e) (by omega) (by omega) o _ e rfl (by omega) _ _ h
          omega
    · cases h; omega
theorem sumRest_on (m : Nat) (hU : ∀ o a, 401 - a < m → gOn (partG kd vl o a) a) : ∀ n, n < m → ∀ o c b, 401 - b = n → b ≤ 400 → ∀ c' b', sumRest kd vl o c b = .inr (c', b') → b ≤ b' ∧ b' ≤ 400 := by
  intro n
  induction n using Nat.strongRecOn with
  | ind n ih =>
    intro hn o c b hb h4 c' b' h
    rw [sumRest_un] at h
    split at h
    · split at h
      · cases h
      · split at h
        · cases h
        · rename_i d e he
          have := hU o (b + 1) (by omega) d e he
          rw [if_pos (by omega)] at h
          have := ih (401 - e) (by omega) (by omega) o _ e rfl (by omega) _ _ h
          omega
    · cases h; omega
theorem all_on : ∀ m, ∀ o a, 401 - a = m → gOn (unitG kd vl o a) a ∧ gOn (partG kd vl o a) a ∧ gOn (sumG kd vl o a) a := by
  intro m
  induction m using Nat.strongRecOn with
  | ind m ih =>
    have hU : ∀ o a, 401 - a = m → gOn (unitG kd vl o a) a := by
      intro o a ha c b h
      rw [unitG_un] at h
      split at h
      · split at h
        · cases h
        · cases h; omega
      · split at h
        · split at h
          · cases h
          · cases h; omega
        · split at h
          · cases h
          · split at h
            · cases h
            · split at h
              · cases h
              · split at h
                · cases h
                · rename_i c2 b2 hs
                  have := (ih (401 - (a + 1)) (by omega) (o + 1) (a + 1) rfl).2.2 c2 b2 hs
                  split at h
                  · cases h
                  · split at h
                    · cases h
                    · cases h; omega
    have hU2 : ∀ o a, 401 - a < m + 1 → gOn (unitG kd vl o a) a := by
      intro o a ha
      by_cases e : 401 - a = m
      · exact hU o a e
      · exact (ih _ (by omega) o a rfl).1
    have hP : ∀ o a, 401 - a = m → gOn (partG kd vl o a) a := by
      intro o a ha c b h
      rw [partG_un] at h
      split at h
      · cases h
      · rename_i c2 b2 hu
        have := hU o a ha c2 b2 hu
        rw [if_pos (by omega)] at h
        have := partH_on (m + 1) hU2 _ (by omega) o c2 b2 rfl (by omega) _ _ h
        omega
    have hP2 : ∀ o a, 401 - a < m + 1 → gOn (partG kd vl o a) a := by
      intro o a ha
      by_cases e : 401 - a = m
      · exact hP o a e
      · exact (ih _ (by omega) o a rfl).2.1
    intro o a ha
    refine ⟨hU o a ha, hP o a ha, ?_⟩
    intro c b h
    rw [sumG_un] at h
    split at h
    · cases h
    · rename_i c2 b2 hu
      have := hP o a ha c2 b2 hu
      rw [if_pos (by omega)] at h
      have := sumRest_on (m + 1) hP2 _ (by omega) o c2 b2 rfl (by omega) _ _ h
      omega
theorem unit_on (o a : Nat) : gOn (unitG kd vl o a) a := (all_on _ o a rfl).1
theorem part_on (o a : Nat) : gOn (partG kd vl o a) a := (all_on _ o a rfl).2.1
theorem sum_on (o a : Nat) : gOn (sumG kd vl o a) a := (all_on _ o a rfl).2.2
theorem partG_eq (o a : Nat) : partG kd vl o a = match unitG kd vl o a with | .inl (k, x) => .inl (k, x) | .inr (c, b) => partH kd vl o c b := by
  rw [partG_un]
  split
  · rfl
  · rename_i c b h
    have := unit_on o a c b h
    rw [if_pos (by omega)]
theorem sumG_eq (o a : Nat) : sumG kd vl o a = match partG kd vl o a with | .inl (k, x) => .inl (k, x) | .inr (c, b) => sumRest kd vl o c b := by
  rw [sumG_un]
  split
  · rfl
  · rename_i c b h
    have := part_on o a c b h
    rw [if_pos (by omega)]
theorem partH_eq (o : Nat) (c : RPN) (b : Nat) : partH kd vl o c b = if kd b = 10 ∨ kd b = 15 then (if 400 ≤ b then .inl (2, b) else match unitG kd vl o (b + 1) with | .inl (k, x) => .inl (k, x) | .inr (d, e) => partH kd vl o (c ++ (d ++ [(opK (kd b), 0)])) e) else .inr (c, b) := by
  rw [partH_un]
  split
  · split
    · rfl
    · split
      · rfl
      · rename_i d e h
        have := unit_on o (b + 1) d e h
        rw [if_pos (by omega)]
  · rfl
theorem sumRest_eq (o : Nat) (c : RPN) (b : Nat) : sumRest kd vl o c b = if kd b = 8 ∨ kd b = 9 then (if 400 ≤ b then .inl (2, b) else match partG kd vl o (b + 1) with | .inl (k, x) => .inl (k, x) | .inr (d, e) => sumRest kd vl o (c ++ (d ++ [(opK (kd b), 0)])) e) else .inr (c, b) := by
  rw [sumRest_un]
  split
  · split
    · rfl
    · split
      · rfl
      · rename_i d e h
        have := part_on o (b + 1) d e h
        rw [if_pos (by omega)]
  · rfl
/-! the machine with signs that wait -/
/-- a unit was read, signs that wait, rows out, the row that is read, how deep -/
abbrev XS_ := Bool × List Nat × RPN × Nat × Nat
def outW (st : Bool) : List Nat → RPN → List Nat × RPN
  | [], E => ([], E)
  | w :: W, E => if w = 6 ∨ (st = true ∧ (w = 8 ∨ w = 9)) then (w :: W, E) else outW st W (E ++ [(opK w, 0)])
variable (kd vl) in
def stepX (s : XS_) : XS_ ⊕ RR :=
  if s.1 = false then
    if kd s.2.2.2.1 = 6 then (if s.2.2.2.2 = 6 ∨ 400 ≤ s.2.2.2.1 then .inr (.inl (2, s.2.2.2.1)) else .inl ⟨false, 6 :: s.2.1, s.2.2.1, s.2.2.2.1 + 1, s.2.2.2.2 + 1⟩)
    else if kd s.2.2.2.1 = 2 then (if 400 ≤ s.2.2.2.1 then .inr (.inl (2, s.2.2.2.1)) else .inl ⟨true, s.2.1, s.2.2.1 ++ [(0, vl s.2.2.2.1)], s.2.2.2.1 + 1, s.2.2.2.2⟩)
    else if 33 ≤ kd s.2.2.2.1 ∧ kd s.2.2.2.1 ≤ 39 then (if 400 ≤ s.2.2.2.1 then .inr (.inl (2, s.2.2.2.1)) else .inl ⟨true, s.2.1, s.2.2.1 ++ [(1, nI (kd s.2.2.2.1 - 33))], s.2.2.2.1 + 1, s.2.2.2.2⟩)
    else .inr (.inl (1, s.2.2.2.1))
  else if kd s.2.2.2.1 = 7 ∧ 0 < s.2.2.2.2 then (if 400 ≤ s.2.2.2.1 then .inr (.inl (2, s.2.2.2.1)) else .inl ⟨true, (outW false s.2.1 s.2.2.1).1.tail, (outW false s.2.1 s.2.2.1).2, s.2.2.2.1 + 1, s.2.2.2.2 - 1⟩)
  else if kd s.2.2.2.1 = 8 ∨ kd s.2.2.2.1 = 9 then (if 400 ≤ s.2.2.2.1 then .inr (.inl (2, s.2.2.2.1)) else .inl ⟨false, kd s.2.2.2.1 :: (outW false s.2.1 s.2.2.1).1, (outW false s.2.1 s.2.2.1).2, s.2.2.2.1 + 1, s.2.2.2.2⟩)
  else if kd s.2.2.2.1 = 10 ∨ kd s.2.2.2.1 = 15 then (if 400 ≤ s.2.2.2.1 then .inr (.inl (2, s.2.2.2.1)) else .inl ⟨false, kd s.2.2.2.1 :: (outW true s.2.1 s.2.2.1).1, (outW true s.2.1 s.2.2.1).2, s.2.2.2.1 + 1, s.2.2.2.2⟩)
  else if 0 < s.2.2.2.2 then .inr (.inl (1, s.2.2.2.1))
  else .inr (.inr ((outW false s.2.1 s.2.2.1).2, s.2.2.2.1))
variable (kd vl) in
def runX : Nat → XS_ ⊕ RR → XS_ ⊕ RR
  | 0, x => x
  | n + 1, .inl s => runX n (stepX kd vl s)
  | _ + 1, .inr r => .inr r
variable (kd vl) in
def Rch (s : XS_) (x : XS_ ⊕ RR) : Prop := ∃ n, runX kd vl n (.inl s) = x
theorem runX_inr (n : Nat) (r : RR) : runX kd vl n (.inr r) = .inr r := by cases n <;> rfl
theorem runX_add (m n : Nat) (x : XS_ ⊕ RR) : runX kd vl (m + n) x = runX kd vl n (runX kd vl m x) := by
  induction m generalizing x with
  | zero => rw [Nat.zero_add]; rfl
  | succ m ih =>
    cases x with
    | inl s => rw [show m + 1 + n = (m + n) + 1 by omega]; exact ih _
    | inr r => rw [runX_inr, runX_inr, runX_inr]
theorem Rch.refl (s : XS_) : Rch kd vl s (.inl s) := ⟨0, rfl⟩
theorem Rch.trans {s s' : XS_} {x : XS_ ⊕ RR} (h : Rch kd vl s (.inl s')) (h2 : Rch kd vl s' x) : Rch kd vl s x := by
  obtain ⟨m, hm⟩ := h
  obtain ⟨n, hn⟩ := h2
  exact ⟨m + n, by rw [runX_add, hm, hn]⟩
theorem Rch.one {s : XS_} {x : XS_ ⊕ RR} (h : stepX kd vl s = x) : Rch kd vl s x := ⟨1, h⟩
theorem Rch.snoc {s s' : XS_} {x : XS_ ⊕ RR} (h : Rch kd vl s (.inl s')) (h2 : stepX kd vl s' = x) : Rch kd vl s x := h.trans (Rch.one h2)
theorem Rch.uniq {s : XS_} {r r' : RR} (h : Rch kd vl s (.inr r)) (h2 : Rch kd vl s (.inr r')) : r = r' := by
  obtain ⟨m, hm⟩ := h
  obtain ⟨n, hn⟩ := h2
  rcases Nat.le_total m n with q | q
  · obtain ⟨d, rfl⟩ : ∃ d, n = m + d := ⟨n - m, by omega⟩
    rw [runX_add, hm, runX_inr] at hn
    cases hn; rfl
  · obtain ⟨d, rfl⟩ : ∃ d, m = n + d := ⟨m - n, by omega⟩
    rw [runX_add, hn, runX_inr] at hm
    cases hm; rfl
theorem outW_two (W : List Nat) (E : RPN) : outW false W E = outW false (outW true W E).1 (outW true W E).2 := by
  induction W generalizing E with
  | nil => rfl
  | cons w W ih =>
    by_cases h6 : w = 6
    · have e1 : outW true (w :: W) E = (w :: W, E) := by simp [outW, h6]
      rw [e1]
    · by_cases h8 : w = 8 ∨ w = 9
      · have e1 : outW true (w :: W) E = (w :: W, E) := by simp [outW, h8]
        rw [e1]
      · have e1 : outW true (w :: W) E = outW true W (E ++ [(opK w, 0)]) := by simp [outW, h6, h8]
        have e2 : outW false (w :: W) E = outW false W (E ++ [(opK w, 0)]) := by simp [outW, h6]
        rw [e1, e2]; exact ih _
def PW (W : List Nat) : Prop := W = [] ∨ ∃ w V, W = w :: V ∧ (w = 6 ∨ w = 8 ∨ w = 9)
def SW (W : List Nat) : Prop := W = [] ∨ ∃ V, W = 6 :: V
theorem PW.out {W : List Nat} (h : PW W) (E : RPN) : outW true W E = (W, E) := by
  rcases h with rfl | ⟨w, V, rfl, h⟩
  · rfl
  · have : w = 6 ∨ (true = true ∧ (w = 8 ∨ w = 9)) := by rcases h with h | h <;> simp [h]
    show (if w = 6 ∨ (true = true ∧ (w = 8 ∨ w = 9)) then (w :: V, E) else _) = _
    rw [if_pos this]
theorem SW.out {W : List Nat} (h : SW W) (E : RPN) : outW false W E = (W, E) := by
  rcases h with rfl | ⟨V, rfl⟩
  · rfl
  · show (if 6 = 6 ∨ (false = true ∧ (6 = 8 ∨ 6 = 9)) then (6 :: V, E) else _) = _
    rw [if_pos (Or.inl rfl)]
theorem SW.pw {W : List Nat} (h : SW W) : PW W := by
  rcases h with rfl | ⟨V, rfl⟩
  · exact Or.inl rfl
  · exact Or.inr ⟨6, V, rfl, Or.inl rfl⟩
variable (kd vl) in
def okU (o a : Nat) : Prop := ∀ W E, (∀ c b, unitG kd vl o a = .inr (c, b) → Rch kd vl ⟨false, W, E, a, o⟩ (.inl ⟨true, W, E ++ c, b, o⟩)) ∧ (∀ k x, unitG kd vl o a = .inl (k, x) → Rch kd vl ⟨false, W, E, a, o⟩ (.inr (.inl (k, x))))
variable (kd vl) in
def okP (o a : Nat) : Prop := ∀ W E, PW W → (∀ c b, partG kd vl o a = .inr (c, b) → ∃ V E', Rch kd vl ⟨false, W, E, a, o⟩ (.inl ⟨true, V ++ W, E', b, o⟩) ∧ outW true (V ++ W) E' = (W, E ++ c) ∧ kd b ≠ 10 ∧ kd b ≠ 15) ∧ (∀ k x, partG kd vl o a = .inl (k, x) → Rch kd vl ⟨false, W, E, a, o⟩ (.inr (.inl (k, x))))
variable (kd vl) in
def okS (o a : Nat) : Prop := ∀ W E, SW W → (∀ c b, sumG kd vl o a = .inr (c, b) → ∃ V E', Rch kd vl ⟨false, W, E, a, o⟩ (.inl ⟨true, V ++ W, E', b, o⟩) ∧ outW false (V ++ W) E' = (W, E ++ c) ∧ kd b ≠ 10 ∧ kd b ≠ 15 ∧ kd b ≠ 8 ∧ kd b ≠ 9) ∧ (∀ k x, sumG kd vl o a = .inl (k, x) → Rch kd vl ⟨false, W, E, a, o⟩ (.inr (.inl (k, x))))
theorem okPH (m : Nat) (hU : ∀ o a, 401 - a < m → okU kd vl o a) : ∀ n, n < m → ∀ o c b, 401 - b = n → b ≤ 400 → ∀ V W E E', PW W → outW true (V ++ W) E' = (W, E ++ c) →
    (∀ c' b', partH kd vl o c b = .inr (c', b') → ∃ V2 E2, Rch kd vl ⟨true, V ++ W, E', b, o⟩ (.inl ⟨true, V2 ++ W, E2, b', o⟩) ∧ outW true (V2 ++ W) E2 = (W, E ++ c') ∧ kd b' ≠ 10 ∧ kd b' ≠ 15) ∧ (∀ k x, partH kd vl o c b = .inl (k, x) → Rch kd vl ⟨true, V ++ W, E', b, o⟩ (.inr (.inl (k, x)))) := by
  intro n
  induction n using Nat.strongRecOn with
  | ind n ih =>
    intro hn o c b hb h4 V W E E' hW ho
    rw [partH_eq]
    by_cases hk : kd b = 10 ∨ kd b = 15
    · rw [if_pos hk]
      have n7 : ¬ (kd b = 7 ∧ 0 < o) := by omega
      have n8 : ¬ (kd b = 8 ∨ kd b = 9) := by omega
      by_cases h5 : 400 ≤ b
      · rw [if_pos h5]
        refine ⟨fun _ _ h => (by cases h), fun k x h => ?_⟩
        cases h
        exact Rch.one (by simp [stepX, n7, n8, hk, h5])
      · rw [if_neg h5]
        have st : stepX kd vl ⟨true, V ++ W, E', b, o⟩ = .inl ⟨false, kd b :: W, E ++ c, b + 1, o⟩ := by simp [stepX, n7, n8, hk, h5, ho]
        obtain ⟨u1, u2⟩ := hU o (b + 1) (by omega) (kd b :: W) (E ++ c)
        cases hu : unitG kd vl o (b + 1) with
        | inl kx =>
          obtain ⟨k, x⟩ := kx
          refine ⟨fun _ _ h => (by cases h), fun k x h => ?_⟩
          cases h
          exact (Rch.one st).trans (u2 _ _ hu)
        | inr kx =>
          obtain ⟨d, e⟩ := kx
          have hon := unit_on o (b + 1) d e hu
          have r1 := (Rch.one st).trans (u1 _ _ hu)
          have ho2 : outW true ([kd b] ++ W) (E ++ c ++ d) = (W, E ++ (c ++ (d ++ [(opK (kd b), 0)]))) := by
            have : outW true (kd b :: W) (E ++ c ++ d) = outW true W (E ++ c ++ d ++ [(opK (kd b), 0)]) := by
              rcases hk with hk | hk <;> simp [outW, hk]
            show outW true (kd b :: W) _ = _
            rw [this, hW.out]; simp [List.append_assoc]
          obtain ⟨p1, p2⟩ := ih (401 - e) (by omega) (by omega) o (c ++ (d ++ [(opK (kd b), 0)])) e rfl (by omega) [kd b] W E _ hW ho2
          refine ⟨fun c' b' h => ?_, fun k x h => r1.trans (p2 k x h)⟩
          obtain ⟨V2, E2, q1, q2⟩ := p1 c' b' h
          exact ⟨V2, E2, r1.trans q1, q2⟩
    · rw [if_neg hk]
      refine ⟨fun c' b' h => ?_, fun k x h => (by cases h)⟩
      cases h
      exact ⟨V, E', Rch.refl _, ho, by omega, by omega⟩
theorem okSH (m : Nat) (hP : ∀ o a, 401 - a < m → okP kd vl o a) : ∀ n, n < m → ∀ o c b, 401 - b = n → b ≤ 400 → kd b ≠ 10 → kd b ≠ 15 → ∀ V W E E', SW W → outW false (V ++ W) E' = (W, E ++ c) →
    (∀ c' b', sumRest kd vl o c b = .inr (c', b') → ∃ V2 E2, Rch kd vl ⟨true, V ++ W, E', b, o⟩ (.inl ⟨true, V2 ++ W, E2, b', o⟩) ∧ outW false (V2 ++ W) E2 = (W, E ++ c') ∧ kd b' ≠ 10 ∧ kd b' ≠ 15 ∧ kd b' ≠ 8 ∧ kd b' ≠ 9) ∧ (∀ k x, sumRest kd vl o c b = .inl (k, x) → Rch kd vl ⟨true, V ++ W, E', b, o⟩ (.inr (.inl (k, x)))) := by
  intro n
  induction n using Nat.strongRecOn with
  | ind n ih =>
    intro hn o c b hb h4 hk10 hk15 V W E E' hW ho
    rw [sumRest_eq]
    by_cases hk : kd b = 8 ∨ kd b = 9
    · rw [if_pos hk]
      have n7 : ¬ (kd b = 7 ∧ 0 < o) := by omega
      by_cases h5 : 400 ≤ b
      · rw [if_pos h5]
        refine ⟨fun _ _ h => (by cases h), fun k x h => ?_⟩
        cases h
        exact Rch.one (by simp [stepX, n7, hk, h5])
      · rw [if_neg h5]
        have st : stepX kd vl ⟨true, V ++ W, E', b, o⟩ = .inl ⟨false, kd b :: W, E ++ c, b + 1, o⟩ := by simp [stepX, n7, hk, h5, ho]
        obtain ⟨u1, u2⟩ := hP o (b + 1) (by omega) (kd b :: W) (E ++ c) (Or.inr ⟨kd b, W, rfl, Or.inr hk⟩)
        cases hu : partG kd vl o (b + 1) with
        | inl kx =>
          obtain ⟨k, x⟩ := kx
          refine ⟨fun _ _ h => (by cases h), fun k x h => ?_⟩
          cases h
          exact (Rch.one st).trans (u2 _ _ hu)
        | inr kx =>
          obtain ⟨d, e⟩ := kx
          have hon := part_on o (b + 1) d e hu
          obtain ⟨V1, E1, v1, v2, v3, v4⟩ := u1 _ _ hu
          have r1 := (Rch.one st).trans v1
          rw [show V1 ++ kd b :: W = (V1 ++ [kd b]) ++ W by simp] at r1 v2
          have ho2 : outW false ((V1 ++ [kd b]) ++ W) E1 = (W, E ++ (c ++ (d ++ [(opK (kd b), 0)]))) := by
            rw [outW_two, v2]
            have : outW false (kd b :: W) (E ++ c ++ d) = outW false W (E ++ c ++ d ++ [(opK (kd b), 0)]) := by
              rcases hk with hk | hk <;> simp [outW, hk]
            show outW false (kd b :: W) (E ++ c ++ d) = _
            rw [this, hW.out]; simp [List.append_assoc]
          obtain ⟨p1, p2⟩ := ih (401 - e) (by omega) (by omega) o (c ++ (d ++ [(opK (kd b), 0)])) e rfl (by omega) v3 v4 (V1 ++ [kd b]) W E _ hW ho2
          refine ⟨fun c' b' h => ?_, fun k x h => r1.trans (p2 k x h)⟩
          obtain ⟨V2, E2, q1, q2⟩ := p1 c' b' h
          exact ⟨V2, E2, r1.trans q1, q2⟩
    · rw [if_neg hk]
      refine ⟨fun c' b' h => ?_, fun k x h => (by cases h)⟩
      cases h
      exact ⟨V, E', Rch.refl _, ho, hk10, hk15, by omega, by omega⟩
theorem ok_all : ∀ m, ∀ o a, 401 - a = m → okU kd vl o a ∧ okP kd vl o a ∧ okS kd vl o a := by
  intro m
  induction m using Nat.strongRecOn with
  | ind m ih =>
    have hU : ∀ o a, 401 - a = m → okU kd vl o a := by
      intro o a ha W E
      rw [unitG_un]
      by_cases h2 : kd a = 2
      · rw [if_pos h2]
        by_cases h5 : 400 ≤ a
        · rw [if_pos h5]
          refine ⟨fun _ _ h => (by cases h), fun k x h => ?_⟩
          cases h; exact Rch.one (by simp [stepX, h2, h5])
        · rw [if_neg h5]
          refine ⟨fun _ _ h => ?_, fun k x h => (by cases h)⟩
          cases h; exact Rch.one (by simp [stepX, h2, h5])
      · rw [if_neg h2]
        by_cases hv : 33 ≤ kd a ∧ kd a ≤ 39
        · rw [if_pos hv]
          have n6 : kd a ≠ 6 := by omega
          by_cases h5 : 400 ≤ a
          · rw [if_pos h5]
            refine ⟨fun _ _ h => (by cases h), fun k x h => ?_⟩
            cases h; exact Rch.one (by simp [stepX, h2, n6, hv, h5])
          · rw [if_neg h5]
            refine ⟨fun _ _ h => ?_, fun k x h => (by cases h)⟩
            cases h; exact Rch.one (by simp [stepX, h2, n6, hv, h5])
        · rw [if_neg hv]
          by_cases h6 : kd a = 6
          · rw [if_neg (by omega)]
            by_cases ho : o = 6
            · rw [if_pos ho]
              refine ⟨fun _ _ h => (by cases h), fun k x h => ?_⟩
              cases h; exact Rch.one (by simp [stepX, h6, ho])
            · rw [if_neg ho]
              by_cases h5 : 400 ≤ a
              · rw [if_pos h5]
                refine ⟨fun _ _ h => (by cases h), fun k x h => ?_⟩
                cases h; exact Rch.one (by simp [stepX, h6, h5])
              · rw [if_neg h5]
                have st : stepX kd vl ⟨false, W, E, a, o⟩ = .inl ⟨false, 6 :: W, E, a + 1, o + 1⟩ := by simp [stepX, h6, ho, h5]
                obtain ⟨s1, s2⟩ := (ih (401 - (a + 1)) (by omega) (o + 1) (a + 1) rfl).2.2 (6 :: W) E (Or.inr ⟨W, rfl⟩)
                cases hs : sumG kd vl (o + 1) (a + 1) with
                | inl kx =>
                  obtain ⟨k, x⟩ := kx
                  refine ⟨fun _ _ h => (by cases h), fun k x h => ?_⟩
                  cases h; exact (Rch.one st).trans (s2 _ _ hs)
                | inr kx =>
                  obtain ⟨c, b⟩ := kx
                  obtain ⟨V, E', q1, q2, q3, q4, q5, q6⟩ := s1 _ _ hs
                  have r1 := (Rch.one st).trans q1
                  simp only
                  by_cases h7 : kd b = 7
                  · rw [if_neg (by omega)]
                    by_cases h8 : 400 ≤ b
                    · rw [if_pos h8]
                      refine ⟨fun _ _ h => (by cases h), fun k x h => ?_⟩
                      cases h; exact r1.snoc (by simp [stepX, h7, h8])
                    · rw [if_neg h8]
                      refine ⟨fun _ _ h => ?_, fun k x h => (by cases h)⟩
                      cases h; exact r1.snoc (by simp [stepX, h7, h8, q2])
                  · rw [if_pos h7]
                    refine ⟨fun _ _ h => (by cases h), fun k x h => ?_⟩
                    cases h; exact r1.snoc (by simp [stepX, h7, q3, q4, q5, q6])
          · rw [if_pos h6]
            refine ⟨fun _ _ h => (by cases h), fun k x h => ?_⟩
            cases h
            exact Rch.one (by simp [stepX, h6, h2, hv])
    have hU2 : ∀ o a, 401 - a < m + 1 → okU kd vl o a := by
      intro o a ha
      by_cases e : 401 - a = m
      · exact hU o a e
      · exact (ih _ (by omega) o a rfl).1
    have hP : ∀ o a, 401 - a = m → okP kd vl o a := by
      intro o a ha W E hW
      rw [partG_eq]
      obtain ⟨u1, u2⟩ := hU o a ha W E
      cases hu : unitG kd vl o a with
      | inl kx =>
        obtain ⟨k, x⟩ := kx
        refine ⟨fun _ _ h => (by cases h), fun k x h => ?_⟩
        cases h; exact u2 _ _ hu
      | inr kx =>
        obtain ⟨c, b⟩ := kx
        have hon := unit_on o a c b hu
        obtain ⟨p1, p2⟩ := okPH (m + 1) hU2 (401 - b) (by omega) o c b rfl (by omega) [] W E (E ++ c) hW (hW.out _)
        refine ⟨fun c' b' h => ?_, fun k x h => (u1 _ _ hu).trans (p2 k x h)⟩
        obtain ⟨V2, E2, q1, q2⟩ := p1 c' b' h
        exact ⟨V2, E2, (u1 _ _ hu).trans q1, q2⟩
    have hP2 : ∀ o a, 401 - a < m + 1 → okP kd vl o a := by
      intro o a ha
      by_cases e : 401 - a = m
      · exact hP o a e
      · exact (ih _ (by omega) o a rfl).2.1
    intro o a ha
    refine ⟨hU o a ha, hP o a ha, ?_⟩
    intro W E hW
    rw [sumG_eq]
    obtain ⟨u1, u2⟩ := hP o a ha W E hW.pw
    cases hu : partG kd vl o a with
    | inl kx =>
      obtain ⟨k, x⟩ := kx
      refine ⟨fun _ _ h => (by cases h), fun k x h => ?_⟩
      cases h; exact u2 _ _ hu
    | inr kx =>
      obtain ⟨c, b⟩ := kx
      have hon := part_on o a c b hu
      obtain ⟨V1, E1, v1, v2, v3, v4⟩ := u1 _ _ hu
      have ho : outW false (V1 ++ W) E1 = (W, E ++ c) := by rw [outW_two, v2]; exact hW.out _
      obtain ⟨p1, p2⟩ := okSH (m + 1) hP2 (401 - b) (by omega) o c b rfl (by omega) v3 v4 V1 W E E1 hW ho
      refine ⟨fun c' b' h => ?_, fun k x h => v1.trans (p2 k x h)⟩
      obtain ⟨V2, E2, q1, q2⟩ := p1 c' b' h
      exact ⟨V2, E2, v1.trans q1, q2⟩
/-- the machine reads what the descent reads -/
theorem machine_eq (a : Nat) : Rch kd vl ⟨false, [], [], a, 0⟩ (.inr (sumG kd vl 0 a)) := by
  obtain ⟨s1, s2⟩ := (ok_all _ 0 a rfl).2.2 [] [] (Or.inl rfl)
  cases hs : sumG kd vl 0 a with
  | inl kx =>
    obtain ⟨k, x⟩ := kx
    exact s2 _ _ hs
  | inr kx =>
    obtain ⟨c, b⟩ := kx
    obtain ⟨V, E', q1, q2, q3, q4, q5, q6⟩ := s1 _ _ hs
    rw [List.append_nil] at q1 q2
    refine q1.snoc ?_
    simp [stepX, q3, q4, q5, q6, q2]
end RDY
