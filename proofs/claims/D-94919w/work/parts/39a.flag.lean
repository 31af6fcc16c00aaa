/-! the model's flags against the reader -/
set_option maxRecDepth 100000
abbrev OKP (kd : Nat → Nat) (j : Nat) : Prop := ∀ i, i < j → kd i ≠ 0 ∧ kd i ≠ 3
/-- the rows as the model holds them: kinds, places, numbers, names -/
def TKR (kd pl : Nat → Nat) (vl : Nat → Int32) (nv : Nat → Nat) (gK gP gV : Nat → Int32) (wN : Nat → Int64) : Prop := (∀ j, kd j < 100) ∧ (∀ j, pl j ≤ 2000) ∧ (∀ i j, i < j → OKP kd j → pl i < pl j) ∧
  ∀ j, j ≤ 400 → OKP kd j → gK j = nI (kd j) ∧ gP j = nI (pl j) ∧ (kd j = 2 → gV j = vl j) ∧ (kd j = 1 → wN j = Int64.ofNat (nv j) ∧ nv j < 27 ^ 8)
section FLG
variable {kd pl : Nat → Nat} {vl : Nat → Int32} {nv : Nat → Nat} {gK gP gV : Nat → Int32} {wN : Nat → Int64}
theorem TKR.kb (h : TKR kd pl vl nv gK gP gV wN) (j : Nat) : kd j < 100 := h.1 j
theorem TKR.pb (h : TKR kd pl vl nv gK gP gV wN) (j : Nat) : pl j ≤ 2000 := h.2.1 j
theorem TKR.lt (h : TKR kd pl vl nv gK gP gV wN) {i j : Nat} (hij : i < j) (ho : OKP kd j) : pl i < pl j := h.2.2.1 i j hij ho
theorem TKR.k (h : TKR kd pl vl nv gK gP gV wN) {j : Nat} (hj : j ≤ 400) (ho : OKP kd j) : gK j = nI (kd j) := (h.2.2.2 j hj ho).1
theorem TKR.p (h : TKR kd pl vl nv gK gP gV wN) {j : Nat} (hj : j ≤ 400) (ho : OKP kd j) : gP j = nI (pl j) := (h.2.2.2 j hj ho).2.1
theorem TKR.v (h : TKR kd pl vl nv gK gP gV wN) {j : Nat} (hj : j ≤ 400) (ho : OKP kd j) (hk : kd j = 2) : gV j = vl j := (h.2.2.2 j hj ho).2.2.1 hk
theorem TKR.n (h : TKR kd pl vl nv gK gP gV wN) {j : Nat} (hj : j ≤ 400) (ho : OKP kd j) (hk : kd j = 1) : wN j = Int64.ofNat (nv j) := ((h.2.2.2 j hj ho).2.2.2 hk).1
theorem TKR.nb (h : TKR kd pl vl nv gK gP gV wN) {j : Nat} (hj : j ≤ 400) (ho : OKP kd j) (hk : kd j = 1) : nv j < 27 ^ 8 := ((h.2.2.2 j hj ho).2.2.2 hk).2
theorem OKP.le {i j : Nat} (h : OKP kd j) (hij : i ≤ j) : OKP kd i := fun q hq => h q (by omega)
theorem OKP.succ {j : Nat} (h : OKP kd j) (h0 : kd j ≠ 0) (h3 : kd j ≠ 3) : OKP kd (j + 1) := fun q hq => by
  by_cases e : q = j
  · rw [e]; exact ⟨h0, h3⟩
  · exact h q (by omega)
def FM (kd pl : Nat → Nat) (x : PO PS) (fl fp tt wk wp : Nat) : Prop := tt ≤ 400 ∧ fl ≤ 2 ∧ wk ≤ 5 ∧ wp ≤ 2000 ∧ fp ≤ 2000 ∧ match x with
  | .error e => fl = e.1 ∧ 0 < fl ∧ fp = pl e.2
  | .ok s => fl = 0 ∧ tt = s.at_ ∧ wk = s.wk ∧ OKP kd tt ∧ (wk ≠ 0 → wp = pl s.wt ∧ s.wt ≤ tt)
def failR (k : Nat) (s : PS) : PO PS := .error (k, s.at_)
variable {x : PO PS} {s : PS} {fl fp tt wk wp : Nat}
theorem FM.t4 (h : FM kd pl x fl fp tt wk wp) : tt ≤ 400 := h.1
theorem FM.f2 (h : FM kd pl x fl fp tt wk wp) : fl ≤ 2 := h.2.1
theorem FM.w5 (h : FM kd pl x fl fp tt wk wp) : wk ≤ 5 := h.2.2.1
theorem FM.wp2 (h : FM kd pl x fl fp tt wk wp) : wp ≤ 2000 := h.2.2.2.1
theorem FM.fp2 (h : FM kd pl x fl fp tt wk wp) : fp ≤ 2000 := h.2.2.2.2.1
theorem FM.bnd (h : FM kd pl x fl fp tt wk wp) : tt ≤ 400 ∧ fl ≤ 2 ∧ wk ≤ 5 ∧ wp ≤ 2000 ∧ fp ≤ 2000 := ⟨h.1, h.2.1, h.2.2.1, h.2.2.2.1, h.2.2.2.2.1⟩
theorem FM.ok (h : FM kd pl x fl fp tt wk wp) (h0 : fl = 0) : ∃ s, x = .ok s ∧ tt = s.at_ ∧ wk = s.wk ∧ OKP kd tt ∧ (wk ≠ 0 → wp = pl s.wt ∧ s.wt ≤ tt) := by
  obtain ⟨-, -, -, -, -, h⟩ := h
  cases x with
  | error e => have := h.2.1; omega
  | ok s => exact ⟨s, rfl, h.2⟩
theorem FM.okp (h : FM kd pl x fl fp tt wk wp) (h0 : fl = 0) : OKP kd tt := by
  obtain ⟨s, -, -, -, h, -⟩ := h.ok h0; exact h
theorem FM.er (h : FM kd pl x fl fp tt wk wp) (h0 : ¬ fl = 0) : ∃ e, x = .error e ∧ fl = e.1 ∧ 0 < fl ∧ fp = pl e.2 := by
  obtain ⟨-, -, -, -, -, h⟩ := h
  cases x with
  | error e => exact ⟨e, rfl, h⟩
  | ok s => exact absurd h.1 h0
theorem FM.sv (h : FM kd pl (.ok s) fl fp tt wk wp) : fl = 0 ∧ tt = s.at_ ∧ wk = s.wk ∧ OKP kd tt ∧ (wk ≠ 0 → wp = pl s.wt ∧ s.wt ≤ tt) := h.2.2.2.2.2
/-- in a fault nothing is done any more -/
theorem FM.idle (h : FM kd pl x fl fp tt wk wp) (h0 : ¬ fl = 0) (f : PS → PO PS) : FM kd pl (x.bd f) fl fp tt wk wp := by
  obtain ⟨e, rfl, -⟩ := h.er h0; exact h
theorem FM.fail0 (h : FM kd pl x fl fp tt wk wp) (h0 : fl = 0) {k : Nat} (hk : 1 ≤ k ∧ k ≤ 2) (hp : pl tt ≤ 2000) : FM kd pl (x.bd (failR k)) k (pl tt) tt wk wp := by
  obtain ⟨s, rfl, e, -⟩ := h.ok h0
  exact ⟨h.t4, hk.2, h.w5, h.wp2, hp, rfl, hk.1, by rw [e]⟩
theorem FM.pass1 (h : FM kd pl x fl fp tt wk wp) (ht : ¬ tt = 400) (hgo : fl = 0 → kd tt ≠ 0 ∧ kd tt ≠ 3) : FM kd pl (x.bd passR) fl fp (tt + 1) wk wp := by
  have h4 := h.t4
  by_cases h0 : fl = 0
  · obtain ⟨s, rfl, e1, e2, e3, e4⟩ := h.ok h0
    show FM kd pl (passR s) fl fp (tt + 1) wk wp
    have : passR s = .ok (s.go (s.at_ + 1)) := by unfold passR; rw [if_neg (by omega)]
    rw [this]
    exact ⟨by omega, h.f2, h.w5, h.wp2, h.fp2, h0, by show tt + 1 = s.at_ + 1; omega, e2, e3.succ (hgo h0).1 (hgo h0).2, fun z => ⟨(e4 z).1, by have := (e4 z).2; show s.wt ≤ tt + 1; omega⟩⟩
  · obtain ⟨e, rfl, h2⟩ := h.er h0
    exact ⟨by omega, h.f2, h.w5, h.wp2, h.fp2, h2⟩
theorem bd_congr {α β : Type} {x : PO α} {f g : α → PO β} (h : ∀ v, x = .ok v → f v = g v) : x.bd f = x.bd g := by
  cases x with
  | error e => rfl
  | ok v => exact h v rfl
theorem bd_bd {α β γ : Type} (x : PO α) (f : α → PO β) (g : β → PO γ) : (x.bd f).bd g = x.bd (fun v => (f v).bd g) := by
  cases x <;> rfl
theorem bd_id {α : Type} (x : PO α) : x.bd (fun v => .ok v) = x := by cases x <;> rfl
theorem FM.pass4 (h : FM kd pl x fl fp tt wk wp) (ht : tt = 400) : x.bd (failR 2) = x.bd passR := by
  cases x with
  | error e => rfl
  | ok s =>
    have e := h.sv.2.1
    show Except.error (2, s.at_) = passR s
    unfold passR; rw [if_pos (by omega)]
theorem FM.must1 (h : FM kd pl x fl fp tt wk wp) {k : Nat} (hk : kd tt = k) : x.bd passR = x.bd (mustR kd k) := by
  cases x with
  | error e => rfl
  | ok s =>
    have e := h.sv.2.1
    show passR s = mustR kd k s
    unfold mustR; rw [if_pos (by rw [← e]; exact hk)]
theorem FM.must0 (h : FM kd pl x fl fp tt wk wp) {k : Nat} (hk : ¬ (fl = 0 ∧ kd tt = k)) : x.bd (failR 1) = x.bd (mustR kd k) := by
  cases x with
  | error e => rfl
  | ok s =>
    obtain ⟨e0, e, -⟩ := h.sv
    show Except.error (1, s.at_) = mustR kd k s
    unfold mustR; rw [if_neg (by rw [← e]; exact fun z => hk ⟨e0, z⟩)]
theorem FM.room1 {a b : Nat} (hab : a = b) : x.bd (failR 2) = x.bd (roomR a b) := bd_congr (fun s _ => by unfold roomR failR; rw [if_pos hab])
theorem FM.room0 {a b : Nat} (hab : ¬ a = b) : x.bd passR = x.bd (roomR a b) := bd_congr (fun s _ => by unfold roomR; rw [if_neg hab])
/-- what is told: the first of the worst stays -/
theorem FM.tell1 (h : FM kd pl (.ok s) fl fp tt wk wp) {k y : Nat} (hk : k ≤ 5) (hy : y ≤ tt) (hp : pl y ≤ 2000) (hlt : ∀ i j, i < j → OKP kd j → pl i < pl j) (hc : wk = 0 ∨ (¬ wp < pl y ∧ ¬ (pl y = wp ∧ wk ≤ k))) : FM kd pl (.ok (tellR k y s)) fl fp tt k (pl y) := by
  obtain ⟨e0, e1, e2, e3, e4⟩ := h.sv
  have : tellR k y s = PS.mk s.at_ k y s.n s.t s.lw s.nm := by
    unfold tellR
    rw [if_neg]
    rintro ⟨q1, q2⟩
    have hw : ¬ wk = 0 := by omega
    obtain ⟨p1, p2⟩ := e4 hw
    rcases hc with hc | ⟨hc1, hc2⟩
    · exact hw hc
    · rcases q2 with q2 | ⟨q2, q3⟩
      · exact hc1 (by rw [p1]; exact hlt _ _ q2 (e3.le hy))
      · exact hc2 ⟨by rw [p1, q2], by omega⟩
  rw [this]
  exact ⟨h.t4, h.f2, hk, hp, h.fp2, e0, e1, rfl, e3, fun _ => ⟨rfl, hy⟩⟩
theorem FM.tell0 (h : FM kd pl (.ok s) fl fp tt wk wp) {k y : Nat} (hy : y ≤ tt) (hlt : ∀ i j, i < j → OKP kd j → pl i < pl j) (hw : ¬ wk = 0) (hc : wp < pl y ∨ (pl y = wp ∧ wk ≤ k)) : FM kd pl (.ok (tellR k y s)) fl fp tt wk wp := by
  obtain ⟨e0, e1, e2, e3, e4⟩ := h.sv
  obtain ⟨p1, p2⟩ := e4 hw
  have : tellR k y s = s := by
    unfold tellR
    rw [if_pos]
    refine ⟨by omega, ?_⟩
    rcases hc with hc | ⟨hc1, hc2⟩
    · left
      rcases Nat.lt_trichotomy s.wt y with q | q | q
      · exact q
      · rw [q] at p1; omega
      · have := hlt _ _ q (e3.le p2); omega
    · right
      refine ⟨?_, by omega⟩
      rcases Nat.lt_trichotomy s.wt y with q | q | q
      · have := hlt _ _ q (e3.le hy); omega
      · exact q.symm
      · have := hlt _ _ q (e3.le p2); omega
  rw [this]; exact h
theorem tellR_go {k y a : Nat} {s : PS} : tellR k y (s.go a) = (tellR k y s).go a := by
  unfold tellR
  show (if s.wk ≠ 0 ∧ (s.wt < y ∨ (y = s.wt ∧ s.wk ≤ k)) then s.go a else _) = _
  split <;> rfl
theorem tellR_at {k y : Nat} {s : PS} : (tellR k y s).at_ = s.at_ := by
  unfold tellR; split <;> rfl
theorem tellR_two {k y : Nat} (s : PS) : tellR k y (tellR k y s) = tellR k y s := by
  by_cases c : s.wk ≠ 0 ∧ (s.wt < y ∨ (y = s.wt ∧ s.wk ≤ k))
  · have e : tellR k y s = s := if_pos c
    rw [e, e]
  · have e : tellR k y s = PS.mk s.at_ k y s.n s.t s.lw s.nm := if_neg c
    rw [e]
    unfold tellR
    split
    · rfl
    · rfl
def numX (kd : Nat → Nat) (vl : Nat → Int32) (lo hi : Int32) (s : PS) : PO PS := (numR kd vl lo hi s).bd fun q => .ok q.2
theorem num_x1 {kd : Nat → Nat} {vl : Nat → Int32} {lo hi : Int32} {s : PS} (hk : kd s.at_ = 2) (hc : vl s.at_ < lo ∨ hi < vl s.at_) : passR (tellR 5 s.at_ s) = numX kd vl lo hi s := by
  unfold numX numR mustR passR
  rw [if_pos hk, tellR_at]
  by_cases h4 : 400 ≤ s.at_
  · rw [if_pos h4, if_pos h4]; rfl
  · rw [if_neg h4, if_neg h4]
    show Except.ok ((tellR 5 s.at_ s).go (s.at_ + 1)) = Except.ok (if vl s.at_ < lo ∨ hi < vl s.at_ then tellR 5 s.at_ (s.go (s.at_ + 1)) else s.go (s.at_ + 1))
    rw [if_pos hc, tellR_go]
theorem num_x0 {kd : Nat → Nat} {vl : Nat → Int32} {lo hi : Int32} {s : PS} (hk : kd s.at_ = 2) (hc : ¬ (vl s.at_ < lo ∨ hi < vl s.at_)) : passR s = numX kd vl lo hi s := by
  unfold numX numR mustR passR
  rw [if_pos hk]
  by_cases h4 : 400 ≤ s.at_
  · rw [if_pos h4]; rfl
  · rw [if_neg h4]
    show Except.ok (s.go (s.at_ + 1)) = Except.ok (if vl s.at_ < lo ∨ hi < vl s.at_ then tellR 5 s.at_ (s.go (s.at_ + 1)) else s.go (s.at_ + 1))
    rw [if_neg hc]
theorem num_xn {kd : Nat → Nat} {vl : Nat → Int32} {lo hi : Int32} {x : PO PS} (h : FM kd pl x fl fp tt wk wp) (hk : ¬ (fl = 0 ∧ kd tt = 2)) : x.bd (failR 1) = x.bd (numX kd vl lo hi) := by
  cases x with
  | error e => rfl
  | ok s =>
    obtain ⟨e0, e, -⟩ := h.sv
    show Except.error (1, s.at_) = numX kd vl lo hi s
    unfold numX numR mustR; rw [if_neg (by rw [← e]; exact fun z => hk ⟨e0, z⟩)]; rfl
theorem num_v {kd : Nat → Nat} {vl : Nat → Int32} {lo hi : Int32} {s : PS} {q : Int32 × PS} (h : numR kd vl lo hi s = .ok q) : kd s.at_ = 2 ∧ q.1 = vl s.at_ := by
  obtain ⟨u, h1, h2⟩ := bd_good h
  exact ⟨(must_good h1).1, by cases h2; rfl⟩
end FLG
