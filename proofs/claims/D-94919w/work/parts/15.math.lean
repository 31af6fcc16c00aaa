/-! what is computed: a house is a table of rows (rows by the number of House's field, its hole rows 30 + h; scalars at place 0), a text is counts n, tables t, laws lw -/
set_option maxRecDepth 100000
theorem sA_sA {α : Type} (k : Nat) (X Y : α) (g : Nat → α) : sA k X (sA k Y g) = sA k X g := by
  funext j
  rw [sA_if, sA_if, sA_if]
  split <;> rfl
theorem sA_comm {α : Type} {k k' : Nat} (X Y : α) (g : Nat → α) (h : k < k') : sA k X (sA k' Y g) = sA k' Y (sA k X g) := by
  funext j
  rw [sA_if, sA_if, sA_if, sA_if]
  split <;> split <;> first | rfl | omega
theorem sA_id {α : Type} (k : Nat) (g : Nat → α) : sA k (g k) g = g := by
  funext j
  rw [sA_if]
  split
  · next h => rw [h]
  · rfl
def f_held (v lo hi : Int32) : Int32 := if lo ≤ v then (if v ≤ hi then v else hi) else lo
def f_mixed (h v : Int32) : Int32 := ((h ^^^ v) * 1103515245 + 12345) ^^^ ((((h ^^^ v) * 1103515245 + 12345).toUInt32 >>> ((15 : Int32).toUInt32 &&& Int32.toUInt32 31)).toInt32)
def f_app (n : Int64) (c : Int32) : Int64 := if c = 0 then n else 27 * n + (c - 97 + 1).toInt64
abbrev tab := Nat → Nat → Int32
def sU (k j : Nat) (v : Int32) (σ : tab) : tab := sA k (upd (σ k) j v) σ
def sS (k : Nat) (v : Int32) (σ : tab) : tab := sA k (fun _ => v) σ
theorem sU_if (k j : Nat) (v : Int32) (σ : tab) (a b : Nat) : sU k j v σ a b = if a = k ∧ b = j then v else σ a b := by
  unfold sU
  rw [sA_if]
  by_cases h : a = k
  · subst h
    rw [if_pos rfl]
    unfold upd
    by_cases h2 : b = j <;> simp [h2]
  · rw [if_neg h, if_neg (fun q => h q.1)]
theorem sS_if (k : Nat) (v : Int32) (σ : tab) (a b : Nat) : sS k v σ a b = if a = k then v else σ a b := by
  unfold sS
  rw [sA_if]
  split <;> rfl
abbrev RPN := List (Nat × Int32)
abbrev LAW := List (RPN × RPN × RPN) × RPN
/-- one step of a term in reverse: 0 an int, 1 a variable, 2 plus, 3 minus, 4 times, 5 over -/
def rpStep (v : Nat → Int32) (q : Nat × Int32) (s : List Int32 × Bool) : List Int32 × Bool :=
  if q.1 = 0 then (q.2 :: s.1, s.2)
  else if q.1 = 1 then (v q.2.toNatClampNeg :: s.1, s.2)
  else match s.1 with
    | b :: a :: st => if q.1 = 2 then ((a + b) :: st, s.2) else if q.1 = 3 then ((a - b) :: st, s.2) else if q.1 = 4 then ((a * b) :: st, s.2)
      else if b = 0 then (0 :: st, true) else ((a / b) :: st, s.2)
    | st => (st, s.2)
def rpn (v : Nat → Int32) : RPN → List Int32 × Bool → List Int32 × Bool
  | [], s => s
  | q :: c, s => rpn v c (rpStep v q s)
theorem rpn_app (v : Nat → Int32) (c d : RPN) (s : List Int32 × Bool) : rpn v (c ++ d) s = rpn v d (rpn v c s) := by
  induction c generalizing s with
  | nil => rfl
  | cons q c ih => exact ih _
/-- how many numbers stand behind a term's rows; none: too few stood there -/
def rpD : RPN → Nat → Option Nat
  | [], d => some d
  | q :: c, d => if q.1 ≤ 1 then rpD c (d + 1) else if 2 ≤ d then rpD c (d - 1) else none
/-- c is a whole term: it puts one number on top -/
def rpOK (c : RPN) : Prop := rpD c 0 = some 1
theorem rpD_app (c e : RPN) (d : Nat) : rpD (c ++ e) d = (rpD c d).bind (rpD e) := by
  induction c generalizing d with
  | nil => rfl
  | cons q c ih =>
    show (if q.1 ≤ 1 then rpD (c ++ e) (d + 1) else if 2 ≤ d then rpD (c ++ e) (d - 1) else none) = Option.bind (if q.1 ≤ 1 then rpD c (d + 1) else if 2 ≤ d then rpD c (d - 1) else none) (rpD e)
    split
    · exact ih _
    · split
      · exact ih _
      · rfl
theorem rpD_up {c : RPN} {d e : Nat} (h : rpD c d = some e) (k : Nat) : rpD c (d + k) = some (e + k) := by
  induction c generalizing d with
  | nil => simp only [rpD, Option.some.injEq] at h ⊢; omega
  | cons q c ih =>
    simp only [rpD] at h ⊢
    split at h
    · rename_i hq
      rw [if_pos hq]
      have := ih h
      rw [show d + 1 + k = d + k + 1 by omega] at this
      exact this
    · rename_i hq
      split at h
      · rename_i hd
        rw [if_neg hq, if_pos (by omega)]
        have := ih h
        rw [show d - 1 + k = d + k - 1 by omega] at this
        exact this
      · cases h
theorem rpn_fl (v : Nat → Int32) (c : RPN) (st : List Int32) : (rpn v c (st, true)).2 = true ∧ (rpn v c (st, true)).1 = (rpn v c (st, false)).1 := by
  suffices h : ∀ (c : RPN) (s1 s2 : List Int32 × Bool), s1.1 = s2.1 → s1.2 = true → (rpn v c s1).2 = true ∧ (rpn v c s1).1 = (rpn v c s2).1 from h c _ _ rfl rfl
  intro c
  induction c with
  | nil => intro s1 s2 h1 h2; exact ⟨h2, h1⟩
  | cons q c ih =>
    rintro ⟨a1, b1⟩ ⟨a2, b2⟩ h1 h2
    simp only at h1 h2
    subst h1 h2
    refine ih _ _ ?_ ?_
    · unfold rpStep; simp only; split
      · rfl
      · split
        · rfl
        · rcases a1 with _ | ⟨b, _ | ⟨a, st⟩⟩ <;> simp only <;> (repeat' split) <;> rfl
    · unfold rpStep; simp only; split
      · rfl
      · split
        · rfl
        · rcases a1 with _ | ⟨b, _ | ⟨a, st⟩⟩ <;> simp only <;> (repeat' split) <;> rfl
/-- below what a term takes, the pile doesn't matter -/
theorem rpn_below (v : Nat → Int32) (c : RPN) : ∀ (s1 st : List Int32) (b : Bool) (e : Nat), rpD c s1.length = some e → (rpn v c (s1, b)).1.length = e ∧ rpn v c (s1 ++ st, b) = ((rpn v c (s1, b)).1 ++ st, (rpn v c (s1, b)).2) := by
  induction c with
  | nil => intro s1 st b e h; simp only [rpD, Option.some.injEq] at h; exact ⟨h, rfl⟩
  | cons q c ih =>
    intro s1 st b e h
    simp only [rpD] at h
    show (rpn v c (rpStep v q (s1, b))).1.length = e ∧ rpn v c (rpStep v q (s1 ++ st, b)) = ((rpn v c (rpStep v q (s1, b))).1 ++ st, (rpn v c (rpStep v q (s1, b))).2)
    by_cases h0 : q.1 = 0
    · rw [if_pos (by omega)] at h
      have e1 : ∀ s, rpStep v q (s, b) = (q.2 :: s, b) := fun s => by simp [rpStep, h0]
      rw [e1, e1]
      exact ih (q.2 :: s1) st b e h
    · by_cases h1 : q.1 = 1
      · rw [if_pos (by omega)] at h
        have e1 : ∀ s, rpStep v q (s, b) = (v q.2.toNatClampNeg :: s, b) := fun s => by simp [rpStep, h1]
        rw [e1, e1]
        exact ih (_ :: s1) st b e h
      · rw [if_neg (by omega)] at h
        split at h
        · rename_i hd
          obtain ⟨y, x, s2, rfl⟩ : ∃ y x s2, s1 = y :: x :: s2 := by
            rcases s1 with _ | ⟨y, _ | ⟨x, s2⟩⟩
            · simp at hd
            · simp at hd
            · exact ⟨y, x, s2, rfl⟩
          have key : ∃ (z : Int32) (b' : Bool), ∀ s, rpStep v q (y :: x :: s, b) = (z :: s, b') := by
            by_cases h2 : q.1 = 2
            · exact ⟨x + y, b, fun s => by simp [rpStep, h2]⟩
            · by_cases h3 : q.1 = 3
              · exact ⟨x - y, b, fun s => by simp [rpStep, h3]⟩
              · by_cases h4 : q.1 = 4
                · exact ⟨x * y, b, fun s => by simp [rpStep, h4]⟩
                · by_cases h5 : y = 0
                  · exact ⟨0, true, fun s => by simp [rpStep, h0, h1, h2, h3, h4, h5]⟩
                  · exact ⟨x / y, b, fun s => by simp [rpStep, h0, h1, h2, h3, h4, h5]⟩
          obtain ⟨z, b', e1⟩ := key
          rw [e1, show (y :: x :: s2) ++ st = y :: x :: (s2 ++ st) from rfl, e1]
          exact ih (z :: s2) st b' e h
        · cases h
/-- a term's number, and whether it divided by nought -/
def tv (v : Nat → Int32) (c : RPN) : Int32 × Bool := ((rpn v c ([], false)).1.headD 0, (rpn v c ([], false)).2)
theorem rpn_tv {c : RPN} (h : rpOK c) (v : Nat → Int32) (st : List Int32) (b : Bool) : rpn v c (st, b) = ((tv v c).1 :: st, b || (tv v c).2) := by
  obtain ⟨h1, h2⟩ := rpn_below v c [] st false 1 h
  obtain ⟨h3, h4⟩ := rpn_below v c [] st true 1 h
  have hx : ∃ x, (rpn v c ([], false)).1 = [x] := by
    match hh : (rpn v c ([], false)).1, h1 with
    | [x], _ => exact ⟨x, rfl⟩
  obtain ⟨x, hx⟩ := hx
  have f := rpn_fl v c []
  cases b with
  | false => rw [show st = [] ++ st from rfl, h2]; simp [tv, hx]
  | true => rw [show st = [] ++ st from rfl, h4, f.1, f.2]; simp [tv, hx]
theorem rpOK_app {a b : RPN} (ha : rpOK a) (hb : rpOK b) {q : Nat × Int32} (hq : 2 ≤ q.1) : rpOK (a ++ (b ++ [q])) := by
  unfold rpOK at *
  rw [rpD_app, ha]
  show rpD (b ++ [q]) 1 = some 1
  rw [rpD_app, show rpD b 1 = some 2 from rpD_up hb 1]
  show rpD [q] 2 = some 1
  simp [rpD, show ¬ q.1 ≤ 1 by omega]
/-- terms ask for v's first seven alone -/
def rpV (c : RPN) : Prop := ∀ q ∈ c, q.1 = 1 → vp_in q.2 7
theorem rpn_congr {v v' : Nat → Int32} (h : ∀ j, j < 7 → v j = v' j) (c : RPN) (hc : rpV c) (s : List Int32 × Bool) : rpn v c s = rpn v' c s := by
  induction c generalizing s with
  | nil => rfl
  | cons q c ih =>
    have e : rpStep v q s = rpStep v' q s := by
      unfold rpStep
      by_cases h1 : q.1 = 1
      · have hv := hc q List.mem_cons_self h1
        have : q.2.toNatClampNeg < 7 := Nat.lt_of_not_le (fun z => hv (Or.inr z))
        rw [h _ this]
      · simp [h1]
    show rpn v c (rpStep v q s) = rpn v' c (rpStep v' q s)
    rw [e]
    exact ih (fun q hq => hc q (List.mem_cons_of_mem _ hq)) _
theorem tv_congr {v v' : Nat → Int32} (h : ∀ j, j < 7 → v j = v' j) {c : RPN} (hc : rpV c) : tv v c = tv v' c := by
  unfold tv; rw [rpn_congr h c hc]
/-- a law's number, and whether something was divided by nought on the way -/
def lawV (v : Nat → Int32) : List (RPN × RPN × RPN) → RPN → Int32 × Bool
  | [], e => tv v e
  | (a, b, c) :: L, e =>
    let x := tv v a
    let y := tv v b
    if x.1 < y.1 then ((tv v c).1, x.2 || y.2 || (tv v c).2)
    else ((lawV v L e).1, x.2 || y.2 || (lawV v L e).2)
def asksP (q : Option LAW) (none : Int32) (v : Nat → Int32) : Int32 := match q with
  | .none => none
  | some q => if (lawV v q.1 q.2).2 = true then 0 else (lawV v q.1 q.2).1
def varsP (t σ : tab) (r : Nat) (much : Int32) : Nat → Int32 := fun k => match k with
  | 0 => σ 8 r
  | 1 => σ 9 r
  | 2 => much
  | 3 => if 0 < t 12 0 - σ 13 0 then t 12 0 - σ 13 0 else 0
  | 4 => σ 1 (t 5 r).toNatClampNeg
  | 5 => σ 10 r
  | _ => σ 11 r
def lotP (seed which : Int32) (k : Int32) : Int32 :=
  let x := ((f_mixed (f_mixed seed 39) which).toUInt32 >>> ((1 : Int32).toUInt32 &&& Int32.toUInt32 31)).toInt32
  x - x / k * k
def eatsP (σ : tab) (r : Nat) (k : Int32) : tab := if k ≤ 0 then sS 14 (σ 14 0 + k) σ else sU 8 r 0 (sS 14 (σ 14 0 + k) σ)
def isDarkP (t σ : tab) : Prop := t 12 0 ≤ σ 13 0 ∨ 0 < σ 12 0
/-- what a rat loads -/
def loadN (lw : Nat → Option LAW) (t σ : tab) (r : Nat) : Int32 :=
  let much := σ 0 (σ 10 r).toNatClampNeg
  let w := f_held (asksP (lw 0) 5 (varsP t σ r much)) 1 99
  if w < much then w else much
def load1 (lw : Nat → Option LAW) (t σ : tab) (r : Nat) : tab :=
  sU 0 (σ 10 r).toNatClampNeg (σ 0 (σ 10 r).toNatClampNeg - loadN lw t σ r) (sS 19 (σ 19 0 ||| ((1 : Int32) <<< (σ 10 r &&& 31))) σ)
def loadF (lw : Nat → Option LAW) (t σ : tab) (r : Nat) : Int32 :=
  let k := loadN lw t σ r
  let w := f_held (asksP (lw 1) 0 (varsP t (load1 lw t σ r) r k)) 0 99
  if w < k then w else k
def load2 (lw : Nat → Option LAW) (t σ : tab) (r : Nat) : tab := eatsP (load1 lw t σ r) r (loadF lw t σ r)
def errsP (lw : Nat → Option LAW) (t σ : tab) (r : Nat) : Prop :=
  lotP (σ 18 0) (8 * σ 13 0 + nI r) 100 < f_held (asksP (lw 2) 0 (varsP t (load2 lw t σ r) r (σ 0 (σ 10 r).toNatClampNeg))) 0 100

noncomputable def loadTo (n : Nat → Nat) (lw : Nat → Option LAW) (t σ : tab) (r : Nat) : Int32 :=
  @ite Int32 (errsP lw t σ r) (Classical.propDecidable _) ((t 5 r + 1) - (t 5 r + 1) / nI (n 1) * nI (n 1)) (t 5 r)
noncomputable def loadP (n : Nat → Nat) (lw : Nat → Option LAW) (t σ : tab) (r : Nat) : tab :=
  let c := loadN lw t σ r - loadF lw t σ r
  sU 4 r (σ 1 (loadTo n lw t σ r).toNatClampNeg) (sU 3 r 1 (sU 7 r (loadTo n lw t σ r) (sU 6 r (if c = 0 then -2 else σ 10 r) (sU 5 r c (load2 lw t σ r)))))
/-- the first place of the most, where something lies; none -/
def bestP (σ : tab) : Nat → Option Nat
  | 0 => none
  | k + 1 => match bestP σ k with
    | none => if 0 < σ 0 k then some k else none
    | some b => if 0 < σ 0 k ∧ σ 0 b < σ 0 k then some k else some b
def oddP (n : Nat → Nat) (σ : tab) (r : Nat) : tab := match bestP σ (n 0) with
  | none => σ
  | some b => eatsP (sU 0 b (σ 0 b - 1) σ) r 1
def workP (σ : tab) (r : Nat) : tab := sU 8 r (if σ 8 r + 1 < 99 then σ 8 r + 1 else 99) σ
def hasLoadedP (σ : tab) (g : Int32) : Prop := (σ 19 0 >>> (g &&& 31)) &&& 1 = 1

noncomputable def atP (n : Nat → Nat) (lw : Nat → Option LAW) (t σ : tab) (r : Nat) : tab :=
  @ite tab (¬ isDarkP t σ ∧ 0 < σ 0 (σ 10 r).toNatClampNeg) (Classical.propDecidable _)
    (@ite tab (hasLoadedP σ (σ 10 r)) (Classical.propDecidable _) (sS 17 (σ 17 0 + 1) σ) (loadP n lw t σ r))
    (if t 12 1 ≤ σ 8 r then oddP n σ r else σ)
def dropsP (σ : tab) (r : Nat) : tab :=
  let σ1 := if σ 5 r ≤ 0 then σ else sU 11 r (σ 11 r + 1) (sU (30 + (σ 7 r).toNatClampNeg) (σ 6 r).toNatClampNeg (σ (30 + (σ 7 r).toNatClampNeg) (σ 6 r).toNatClampNeg + σ 5 r) σ)
  sU 6 r (-2) (sU 5 r 0 σ1)
def goingP (σ : tab) (r : Nat) : tab :=
  let σ1 := sU 4 r (σ 4 r - 1) σ
  if 0 < σ1 4 r then σ1 else
    let σ2 := sU 3 r 2 (dropsP σ1 r)
    sU 7 r (-2) (sU 4 r (σ2 1 (σ2 7 r).toNatClampNeg) σ2)
def backP (σ : tab) (r : Nat) : tab :=
  let σ1 := sU 4 r (σ 4 r - 1) σ
  if σ1 4 r = 0 then sU 3 r 0 σ1 else σ1
noncomputable def ratP (n : Nat → Nat) (lw : Nat → Option LAW) (t σ : tab) (r : Nat) : tab :=
  if σ 3 r = 0 then atP n lw t (workP σ r) r else if σ 3 r = 1 then goingP (workP σ r) r else if σ 3 r = 2 then backP (workP σ r) r else σ
noncomputable def ratsP (n : Nat → Nat) (lw : Nat → Option LAW) (t σ : tab) : Nat → tab
  | 0 => σ
  | k + 1 => ratP n lw t (ratsP n lw t σ k) k
noncomputable def minuteP (n : Nat → Nat) (lw : Nat → Option LAW) (t σ : tab) : tab :=
  let σ1 := ratsP n lw t (sS 19 0 σ) (n 2)
  sS 13 (σ1 13 0 + 1) (sS 12 (if 0 < σ1 12 0 - 1 then σ1 12 0 - 1 else 0) σ1)
noncomputable def runsP (n : Nat → Nat) (lw : Nat → Option LAW) (t σ : tab) : Nat → tab
  | 0 => σ
  | k + 1 => minuteP n lw t (runsP n lw t σ k)
def inHoleP (σ : tab) (h : Nat) : Int32 := 0 + σ (30 + h) 0 + σ (30 + h) 1 + σ (30 + h) 2 + σ (30 + h) 3 + σ (30 + h) 4 + σ (30 + h) 5
def inHeapP (σ : tab) : Int32 := 0 + σ 0 0 + σ 0 1 + σ 0 2 + σ 0 3 + σ 0 4 + σ 0 5
def worthP (t σ : tab) (h : Nat) : Int32 :=
  let own := σ (30 + h) (t 3 h).toNatClampNeg
  let v := t 1 (t 3 h).toNatClampNeg * (own - 2 * (inHoleP σ h - own))
  if 0 < v then v else 0
def worthTo (t σ : tab) : Nat → Int32
  | 0 => 0
  | k + 1 => worthTo t σ k + worthP t σ k
def sortedTo (t σ : tab) (own : Bool) : Nat → Int32
  | 0 => 0
  | k + 1 => sortedTo t σ own k + (if own = true then σ (30 + k) (t 3 k).toNatClampNeg else inHoleP σ k - σ (30 + k) (t 3 k).toNatClampNeg)
def homeP (σ : tab) (r : Nat) : tab :=
  let σ1 := if σ 5 r ≤ 0 then σ else sU 0 (σ 6 r).toNatClampNeg (σ 0 (σ 6 r).toNatClampNeg + σ 5 r) σ
  sU 3 r 3 (sU 4 r 0 (sU 7 r (-2) (sU 6 r (-2) (sU 5 r 0 σ1))))
def goingAny (n : Nat → Nat) (σ : tab) : Prop := ∃ r, r < n 2 ∧ σ 3 r = 1
def sortedAll (n : Nat → Nat) (σ : tab) (all : Bool) : Prop := ∀ r, r < n 2 → (all = true ∨ ¬ σ 3 r = 3) → σ 0 (σ 10 r).toNatClampNeg ≤ 0
def cleanP (n : Nat → Nat) (σ : tab) (all : Bool) : Prop := sortedAll n σ all ∧ ¬ goingAny n σ
def beginP (n : Nat → Nat) (t : tab) : tab := fun k j =>
  if k = 0 then (if j < n 0 then t 0 j else 0)
  else if k = 1 then t 2 j
  else if k = 6 ∨ k = 7 then -2
  else if k = 9 then (if j < n 2 then t 6 j else 0)
  else if k = 10 then (if j < n 2 then t 4 j else 0)
  else if k = 18 then t 12 2
  else 0
