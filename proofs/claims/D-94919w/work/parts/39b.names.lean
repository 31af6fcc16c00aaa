/-! names that were noted -/
set_option maxRecDepth 100000
def NR (nm : Nat → List Nat) (nn : Nat) (gS gA : Nat → Int32) (wO : Nat → Int64) (S A : Nat → Nat) : Prop := nn ≤ 20 ∧
  (∀ i, i < nn → S i < 3 ∧ gS i = nI (S i) ∧ gA i = nI (A i) ∧ A i < (nm (S i)).length ∧ wO i = Int64.ofNat ((nm (S i)).getD (A i) 0)) ∧
  (∀ i, i < nn → ∀ d, d < A i → ∃ i', i' < i ∧ S i' = S i ∧ A i' = d) ∧
  (∀ j a, j < 3 → a < (nm j).length → ∃ i, i < nn ∧ S i = j ∧ A i = a) ∧ (∀ j v, j < 3 → v ∈ nm j → v < 27 ^ 8)
section NRS
variable {nm : Nat → List Nat} {nn : Nat} {gS gA : Nat → Int32} {wO : Nat → Int64} {S A : Nat → Nat}
def nmAt (nm : Nat → List Nat) (S A : Nat → Nat) (i : Nat) : Nat := (nm (S i)).getD (A i) 0
theorem NR.n20 (h : NR nm nn gS gA wO S A) : nn ≤ 20 := h.1
theorem NR.s (h : NR nm nn gS gA wO S A) {i : Nat} (hi : i < nn) : gS i = nI (S i) := (h.2.1 i hi).2.1
theorem NR.s3 (h : NR nm nn gS gA wO S A) {i : Nat} (hi : i < nn) : S i < 3 := (h.2.1 i hi).1
theorem NR.a (h : NR nm nn gS gA wO S A) {i : Nat} (hi : i < nn) : gA i = nI (A i) := (h.2.1 i hi).2.2.1
theorem NR.al (h : NR nm nn gS gA wO S A) {i : Nat} (hi : i < nn) : A i < (nm (S i)).length := (h.2.1 i hi).2.2.2.1
theorem NR.o (h : NR nm nn gS gA wO S A) {i : Nat} (hi : i < nn) : wO i = Int64.ofNat (nmAt nm S A i) := (h.2.1 i hi).2.2.2.2
theorem NR.ob (h : NR nm nn gS gA wO S A) {i : Nat} (hi : i < nn) : nmAt nm S A i < 27 ^ 8 := by
  refine h.2.2.2.2 (S i) _ (h.s3 hi) ?_
  unfold nmAt
  rw [List.getD_eq_getElem?_getD, List.getElem?_eq_getElem (h.al hi)]
  exact List.getElem_mem _
theorem l_inj {a b : Nat} (ha : a < 27 ^ 8) (hb : b < 27 ^ 8) : Int64.ofNat a = Int64.ofNat b ↔ a = b := by
  constructor
  · intro h
    have h2 := congrArg Int64.toInt h
    rw [Int64.toInt_ofNat_of_lt (by omega), Int64.toInt_ofNat_of_lt (by omega)] at h2
    omega
  · exact fun h => by rw [h]
theorem NR.has (h : NR nm nn gS gA wO S A) (v : Nat) : (∃ i, i < nn ∧ nmAt nm S A i = v) ↔ (v ∈ nm 0 ∨ v ∈ nm 1 ∨ v ∈ nm 2) := by
  constructor
  · rintro ⟨i, hi, e⟩
    have hm : v ∈ nm (S i) := by
      rw [← e]; unfold nmAt
      rw [List.getD_eq_getElem?_getD, List.getElem?_eq_getElem (h.al hi)]
      exact List.getElem_mem _
    have h3 := h.s3 hi
    rcases (show S i = 0 ∨ S i = 1 ∨ S i = 2 by omega) with q | q | q <;> rw [q] at hm
    · exact Or.inl hm
    · exact Or.inr (Or.inl hm)
    · exact Or.inr (Or.inr hm)
  · have key : ∀ j, j < 3 → v ∈ nm j → ∃ i, i < nn ∧ nmAt nm S A i = v := by
      intro j hj hv
      obtain ⟨a, ha, e⟩ := List.getElem_of_mem hv
      obtain ⟨i, hi, e1, e2⟩ := h.2.2.2.1 j a hj ha
      refine ⟨i, hi, ?_⟩
      unfold nmAt
      rw [e1, e2, List.getD_eq_getElem?_getD, List.getElem?_eq_getElem ha, e]; rfl
    rintro (q | q | q)
    · exact key 0 (by omega) q
    · exact key 1 (by omega) q
    · exact key 2 (by omega) q
theorem NR.hit (h : NR nm nn gS gA wO S A) {k j v : Nat} (hk : k < nn) (hj : S k = j) (hv : nmAt nm S A k = v) (hn : ∀ i, i < k → ¬ (nmAt nm S A i = v ∧ S i = j)) : (nm j).findIdx? (fun w => w == v) = some (A k) := by
  have hl := h.al hk
  rw [hj] at hl
  rw [List.findIdx?_eq_some_iff_getElem]
  refine ⟨hl, ?_, fun d hd => ?_⟩
  · unfold nmAt at hv
    rw [hj, List.getD_eq_getElem?_getD, List.getElem?_eq_getElem hl] at hv
    simp only [Option.getD_some] at hv
    rw [hv]; simp
  · obtain ⟨i', h1, h2, h3⟩ := h.2.2.1 k hk d hd
    have := hn i' h1
    intro q
    apply this
    refine ⟨?_, by rw [h2, hj]⟩
    unfold nmAt
    rw [h2, hj, h3, List.getD_eq_getElem?_getD, List.getElem?_eq_getElem (by omega)]
    simp only [Option.getD_some]
    simpa using q
theorem NR.miss (h : NR nm nn gS gA wO S A) {j v : Nat} (hj : j < 3) (hn : ∀ i, i < nn → ¬ (nmAt nm S A i = v ∧ S i = j)) : (nm j).findIdx? (fun w => w == v) = none := by
  rw [List.findIdx?_eq_none_iff]
  intro w hw
  obtain ⟨a, ha, e⟩ := List.getElem_of_mem hw
  obtain ⟨i, hi, e1, e2⟩ := h.2.2.2.1 j a hj ha
  have := hn i hi
  cases hb : (w == v) with
  | false => rfl
  | true =>
    exfalso
    apply this
    refine ⟨?_, e1⟩
    unfold nmAt
    rw [e1, e2, List.getD_eq_getElem?_getD, List.getElem?_eq_getElem ha, e]
    simpa using hb
theorem NR.push (h : NR nm nn gS gA wO S A) {j v : Nat} (hj : j < 3) (hn : nn < 20) (hv : v < 27 ^ 8) : NR (nS j (nm j ++ [v]) nm) (nn + 1) (upd gS nn (nI j)) (upd gA nn (nI (nm j).length)) (vp_updL wO nn (Int64.ofNat v)) (nS nn j S) (nS nn (nm j).length A) := by
  have u1 : ∀ (f : Nat → Int32) (x : Int32), upd f nn x nn = x := fun f x => if_pos rfl
  have u2 : ∀ (f : Nat → Int32) (x : Int32) (i : Nat), i ≠ nn → upd f nn x i = f i := fun f x i hi => if_neg hi
  have w1 : vp_updL wO nn (Int64.ofNat v) nn = Int64.ofNat v := if_pos rfl
  have w2 : ∀ i, i ≠ nn → vp_updL wO nn (Int64.ofNat v) i = wO i := fun i hi => if_neg hi
  have lenle : ∀ q, (nm q).length ≤ (nS j (nm j ++ [v]) nm q).length := by
    intro q
    by_cases e : q = j
    · rw [e, nS_eq, List.length_append]; simp
    · rw [nS_ne _ _ e]; exact Nat.le_refl _
  have getq : ∀ q a, a < (nm q).length → (nS j (nm j ++ [v]) nm q).getD a 0 = (nm q).getD a 0 := by
    intro q a ha
    by_cases e : q = j
    · subst e; rw [nS_eq, List.getD_eq_getElem?_getD, List.getD_eq_getElem?_getD, List.getElem?_append_left ha]
    · rw [nS_ne _ _ e]
  refine ⟨by omega, fun i hi => ?_, fun i hi d hd => ?_, fun q a hq ha => ?_, fun q w hq hw => ?_⟩
  · by_cases e : i = nn
    · subst e
      rw [u1, u1, w1, nS_eq, nS_eq, nS_eq]
      refine ⟨hj, rfl, rfl, by rw [List.length_append]; simp, ?_⟩
      rw [List.getD_eq_getElem?_getD, List.getElem?_append_right (Nat.le_refl _)]; simp
    · rw [u2 _ _ _ e, u2 _ _ _ e, nS_ne _ _ e, nS_ne _ _ e, w2 _ e]
      obtain ⟨a1, a2, a3, a4, a5⟩ := h.2.1 i (by omega)
      exact ⟨a1, a2, a3, Nat.lt_of_lt_of_le a4 (lenle _), by rw [getq _ _ a4]; exact a5⟩
  · by_cases e : i = nn
    · subst e
      rw [nS_eq] at hd
      obtain ⟨i', h1, h2, h3⟩ := h.2.2.2.1 j d hj hd
      exact ⟨i', h1, by rw [nS_eq, nS_ne _ _ (by omega), h2], by rw [nS_ne _ _ (by omega), h3]⟩
    · rw [nS_ne _ _ e] at hd
      obtain ⟨i', h1, h2, h3⟩ := h.2.2.1 i (by omega) d hd
      exact ⟨i', h1, by rw [nS_ne _ _ e, nS_ne _ _ (by omega), h2], by rw [nS_ne _ _ (by omega), h3]⟩
  · by_cases e : q = j ∧ a = (nm j).length
    · obtain ⟨rfl, rfl⟩ := e
      exact ⟨nn, by omega, nS_eq _ _ _, nS_eq _ _ _⟩
    · have ha2 : a < (nm q).length := by
        by_cases e1 : q = j
        · subst e1; rw [nS_eq, List.length_append] at ha; simp at ha e; omega
        · rw [nS_ne _ _ e1] at ha; exact ha
      obtain ⟨i, h1, h2, h3⟩ := h.2.2.2.1 q a hq ha2
      exact ⟨i, by omega, by rw [nS_ne _ _ (by omega), h2], by rw [nS_ne _ _ (by omega), h3]⟩
  · by_cases e1 : q = j
    · subst e1; rw [nS_eq] at hw
      rcases List.mem_append.mp hw with z | z
      · exact h.2.2.2.2 q w hq z
      · rw [List.mem_singleton.mp z]; exact hv
    · rw [nS_ne _ _ e1] at hw; exact h.2.2.2.2 q w hq hw
end NRS
def nameX (kd nv : Nat → Nat) (s : PS) : PO PS := (nameR kd nv s).bd fun q => .ok q.2
def knownX (kd nv : Nat → Nat) (j : Nat) (s : PS) : PO PS := (knownR kd nv j s).bd fun q => .ok q.2
/-- some of the first k names is v -/
abbrev seenN (nm : Nat → List Nat) (S A : Nat → Nat) (k v : Nat) : Prop := ∃ i, i < k ∧ nmAt nm S A i = v
def nameK (kd nv : Nat → Nat) (nm : Nat → List Nat) (S A : Nat → Nat) (k : Nat) (s : PS) : PO PS := (mustR kd 1 s).bd fun s1 => .ok (if seenN nm S A k (nv s.at_) then tellR 3 s.at_ s1 else s1)
theorem nameK_0 (kd nv : Nat → Nat) (nm : Nat → List Nat) (S A : Nat → Nat) (s : PS) : nameK kd nv nm S A 0 s = mustR kd 1 s := by
  unfold nameK
  have : ¬ seenN nm S A 0 (nv s.at_) := fun ⟨i, hi, _⟩ => absurd hi (Nat.not_lt_zero _)
  simp only [if_neg this]
  exact bd_id _
theorem nameK_n {kd nv : Nat → Nat} {nm : Nat → List Nat} {nn : Nat} {gS gA : Nat → Int32} {wO : Nat → Int64} {S A : Nat → Nat} {s : PS} (h : NR nm nn gS gA wO S A) (e : s.nm = nm) : nameK kd nv nm S A nn s = nameX kd nv s := by
  unfold nameK nameX nameR
  rw [bd_bd]
  refine bd_congr (fun s1 _ => ?_)
  show _ = Except.ok (if hasN s (nv s.at_) then tellR 3 s.at_ s1 else s1)
  have : seenN nm S A nn (nv s.at_) ↔ hasN s (nv s.at_) := by rw [← e] at h ⊢; exact h.has _
  by_cases c : hasN s (nv s.at_)
  · rw [if_pos c, if_pos (this.mpr c)]
  · rw [if_neg c, if_neg (fun z => c (this.mp z))]
theorem nameK_yes {kd nv : Nat → Nat} {nm : Nat → List Nat} {S A : Nat → Nat} {k : Nat} {s s1 : PS} (h : nameK kd nv nm S A k s = .ok s1) (hv : nmAt nm S A k = nv s.at_) : nameK kd nv nm S A (k + 1) s = .ok (tellR 3 s.at_ s1) := by
  unfold nameK at h ⊢
  obtain ⟨u, h1, h2⟩ := bd_good h
  rw [h1]
  show Except.ok _ = _
  rw [if_pos ⟨k, by omega, hv⟩]
  injection h2 with h2
  rw [← h2]
  split
  · rw [tellR_two]
  · rfl
theorem nameK_no {kd nv : Nat → Nat} {nm : Nat → List Nat} {S A : Nat → Nat} {k : Nat} {s : PS} (hv : ¬ nmAt nm S A k = nv s.at_) : nameK kd nv nm S A (k + 1) s = nameK kd nv nm S A k s := by
  unfold nameK
  refine bd_congr (fun s1 _ => ?_)
  have : seenN nm S A (k + 1) (nv s.at_) ↔ seenN nm S A k (nv s.at_) := by
    constructor
    · rintro ⟨i, hi, e⟩
      by_cases c : i = k
      · subst c; exact absurd e hv
      · exact ⟨i, by omega, e⟩
    · rintro ⟨i, hi, e⟩; exact ⟨i, by omega, e⟩
  by_cases c : seenN nm S A k (nv s.at_)
  · rw [if_pos c, if_pos (this.mpr c)]
  · rw [if_neg c, if_neg (fun z => c (this.mp z))]
theorem known_hit {kd nv : Nat → Nat} {j i : Nat} {s s1 : PS} (h : mustR kd 1 s = .ok s1) (hf : (s.nm j).findIdx? (fun w => w == nv s.at_) = some i) : knownR kd nv j s = .ok (nI i, s1) := by
  unfold knownR
  rw [h]
  show (match (s.nm j).findIdx? (fun v => v == nv s.at_) with | some i => _ | none => _) = _
  rw [hf]
theorem known_miss {kd nv : Nat → Nat} {j : Nat} {s s1 : PS} (h : mustR kd 1 s = .ok s1) (hf : (s.nm j).findIdx? (fun w => w == nv s.at_) = none) : knownR kd nv j s = .ok (-1, tellR 4 s.at_ s1) := by
  unfold knownR
  rw [h]
  show (match (s.nm j).findIdx? (fun v => v == nv s.at_) with | some i => _ | none => _) = _
  rw [hf]
theorem nameK_good {kd nv : Nat → Nat} {nm : Nat → List Nat} {S A : Nat → Nat} {k : Nat} {s s1 : PS} (h : nameK kd nv nm S A k s = .ok s1) : kd s.at_ = 1 ∧ s1.at_ = s.at_ + 1 := by
  unfold nameK at h
  obtain ⟨u, h1, h2⟩ := bd_good h
  obtain ⟨a1, -, a3⟩ := must_good h1
  injection h2 with h2
  refine ⟨a1, ?_⟩
  rw [← h2]
  split
  · rw [tellR_at, a3]; rfl
  · rw [a3]; rfl
theorem nameK_err {kd nv : Nat → Nat} {nm : Nat → List Nat} {S A : Nat → Nat} {k : Nat} {x : PO PS} {e : Nat × Nat} (h : x.bd (nameK kd nv nm S A k) = .error e) : x.bd (nameX kd nv) = .error e := by
  cases x with
  | error e' => exact h
  | ok s =>
    have h : nameK kd nv nm S A k s = .error e := h
    show nameX kd nv s = .error e
    unfold nameK at h
    unfold nameX nameR
    cases hm : mustR kd 1 s with
    | error e' => rw [hm] at h; exact h
    | ok s1 => rw [hm] at h; cases h
theorem known_err {kd nv : Nat → Nat} {j : Nat} {x : PO PS} {e : Nat × Nat} (h : x.bd (mustR kd 1) = .error e) : x.bd (knownX kd nv j) = .error e := by
  cases x with
  | error e' => exact h
  | ok s =>
    have h : mustR kd 1 s = .error e := h
    show knownX kd nv j s = .error e
    unfold knownX knownR
    rw [h]; rfl
theorem known_err2 {kd nv : Nat → Nat} {j : Nat} {s : PS} {e : Nat × Nat} {q : Int32 × PS} (h : mustR kd 1 s = .error e) (h2 : knownR kd nv j s = .ok q) : False := by
  unfold knownR at h2
  rw [h] at h2; cases h2
theorem bd_fail_ne {x : PO PS} {k : Nat} {s : PS} (h : x.bd (failR k) = .ok s) : False := by
  cases x <;> cases h
