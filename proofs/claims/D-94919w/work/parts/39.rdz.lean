/-! what a reader leaves behind is right -/
set_option maxRecDepth 100000
theorem bd_good {α β : Type} {x : PO α} {f : α → PO β} {v : β} (h : x.bd f = .ok v) : ∃ u, x = .ok u ∧ f u = .ok v := by
  cases x with
  | error e => cases h
  | ok u => exact ⟨u, rfl, h⟩
/-- one row on, the text as it was -/
def Ext (s s' : PS) : Prop := s'.n = s.n ∧ s'.t = s.t ∧ s'.lw = s.lw ∧ s'.nm = s.nm ∧ s'.at_ = s.at_ + 1 ∧ s.at_ < 400 ∧ (s'.wk = 0 → s.wk = 0)
section RDW
variable {kd : Nat → Nat} {vl : Nat → Int32} {nv : Nat → Nat}
theorem pass_good {s s' : PS} (h : passR s = .ok s') : Ext s s' ∧ s' = s.go (s.at_ + 1) := by
  unfold passR at h
  split at h
  · cases h
  · cases h; exact ⟨⟨rfl, rfl, rfl, rfl, rfl, by omega, id⟩, rfl⟩
theorem must_good {k : Nat} {s s' : PS} (h : mustR kd k s = .ok s') : kd s.at_ = k ∧ Ext s s' ∧ s' = s.go (s.at_ + 1) := by
  unfold mustR at h
  split at h
  · rename_i hk; exact ⟨hk, pass_good h⟩
  · cases h
theorem tell_ext {k x : Nat} {s s' : PS} (hk : k ≠ 0) (h : Ext s s') : Ext s (tellR k x s') ∧ (tellR k x s').wk ≠ 0 := by
  unfold tellR
  split
  · rename_i q; exact ⟨h, q.1⟩
  · exact ⟨⟨h.1, h.2.1, h.2.2.1, h.2.2.2.1, h.2.2.2.2.1, h.2.2.2.2.2.1, fun z => absurd z hk⟩, hk⟩
theorem num_good {lo hi : Int32} {s : PS} {r : Int32 × PS} (h : numR kd vl lo hi s = .ok r) : kd s.at_ = 2 ∧ Ext s r.2 ∧ (r.2.wk = 0 → ¬ r.1 < lo ∧ ¬ hi < r.1) := by
  obtain ⟨u, h1, h2⟩ := bd_good h
  obtain ⟨hk, he, -⟩ := must_good h1
  cases h2
  refine ⟨hk, ?_, fun z => ?_⟩
  · split
    · exact (tell_ext (by omega) he).1
    · exact he
  · split at z
    · exact absurd z (tell_ext (k := 5) (x := s.at_) (by omega) he).2
    · rename_i q; exact ⟨fun w => q (Or.inl w), fun w => q (Or.inr w)⟩
theorem name_good {s : PS} {r : Nat × PS} (h : nameR kd nv s = .ok r) : kd s.at_ = 1 ∧ Ext s r.2 ∧ r.1 = nv s.at_ := by
  obtain ⟨u, h1, h2⟩ := bd_good h
  obtain ⟨hk, he, -⟩ := must_good h1
  cases h2
  refine ⟨hk, ?_, rfl⟩
  split
  · exact (tell_ext (by omega) he).1
  · exact he
theorem known_good {j : Nat} {s : PS} {r : Int32 × PS} (h : knownR kd nv j s = .ok r) : kd s.at_ = 1 ∧ Ext s r.2 ∧ (r.2.wk = 0 → ∃ i, i < (s.nm j).length ∧ r.1 = nI i) ∧ (r.1 = -1 ∨ ∃ i, i < (s.nm j).length ∧ r.1 = nI i) := by
  obtain ⟨u, h1, h2⟩ := bd_good h
  obtain ⟨hk, he, e⟩ := must_good h1
  subst e
  have h2 : (match (s.nm j).findIdx? (fun v => v == nv s.at_) with
    | some i => Except.ok (nI i, s.go (s.at_ + 1))
    | none => Except.ok ((-1 : Int32), tellR 4 s.at_ (s.go (s.at_ + 1)))) = .ok r := h2
  split at h2
  · rename_i i hi
    cases h2
    have hl : i < (s.nm j).length := (List.findIdx?_eq_some_iff_findIdx_eq.mp hi).1
    exact ⟨hk, he, fun _ => ⟨i, hl, rfl⟩, Or.inr ⟨i, hl, rfl⟩⟩
  · cases h2
    exact ⟨hk, (tell_ext (by omega) he).1, fun z => absurd z (tell_ext (k := 4) (x := s.at_) (by omega) he).2, Or.inl rfl⟩
theorem room_good {a b : Nat} {s s' : PS} (h : roomR a b s = .ok s') : a ≠ b ∧ Ext s s' ∧ s' = s.go (s.at_ + 1) := by
  unfold roomR at h
  split at h
  · cases h
  · rename_i q; exact ⟨q, pass_good h⟩
theorem sum_good {s : PS} {r : RPN × PS} (h : sumR kd vl s = .ok r) : sumG kd vl 0 s.at_ = .inr (r.1, r.2.at_) ∧ SG r.1 s.at_ r.2.at_ ∧ s.at_ < r.2.at_ ∧ r.2 = s.go r.2.at_ := by
  unfold sumR at h
  split at h
  · cases h
  · rename_i c b hc
    cases h
    exact ⟨hc, sum_SG hc, (sum_on 0 s.at_ c b hc).1, rfl⟩
def IV (s : PS) : Prop := s.at_ ≤ 400 ∧ s.n 0 ≤ 6 ∧ s.n 1 ≤ 6 ∧ s.n 2 ≤ 8 ∧ s.n 3 ≤ 5 ∧ (s.nm 0).length = s.n 0 ∧ (s.nm 1).length = s.n 1 ∧ (s.nm 2).length = s.n 2 ∧ (∀ k, lawOK (s.lw k)) ∧ (s.wk = 0 → TW s.n s.t s.lw)
theorem IV.a4 {s : PS} (h : IV s) : s.at_ ≤ 400 := h.1
theorem IV.n0 {s : PS} (h : IV s) : s.n 0 ≤ 6 := h.2.1
theorem IV.n1 {s : PS} (h : IV s) : s.n 1 ≤ 6 := h.2.2.1
theorem IV.n2 {s : PS} (h : IV s) : s.n 2 ≤ 8 := h.2.2.2.1
theorem IV.n3 {s : PS} (h : IV s) : s.n 3 ≤ 5 := h.2.2.2.2.1
theorem IV.l0 {s : PS} (h : IV s) : (s.nm 0).length = s.n 0 := h.2.2.2.2.2.1
theorem IV.l1 {s : PS} (h : IV s) : (s.nm 1).length = s.n 1 := h.2.2.2.2.2.2.1
theorem IV.l2 {s : PS} (h : IV s) : (s.nm 2).length = s.n 2 := h.2.2.2.2.2.2.2.1
theorem IV.lo {s : PS} (h : IV s) : ∀ k, lawOK (s.lw k) := h.2.2.2.2.2.2.2.2.1
theorem IV.tw {s : PS} (h : IV s) : s.wk = 0 → TW s.n s.t s.lw := h.2.2.2.2.2.2.2.2.2
theorem IV.ext {s s' : PS} (h : IV s) (e : Ext s s') : IV s' := by
  obtain ⟨e1, e2, e3, e4, e5, e6, e7⟩ := e
  exact ⟨by omega, by rw [e1]; exact h.n0, by rw [e1]; exact h.n1, by rw [e1]; exact h.n2, by rw [e1]; exact h.n3, by rw [e1, e4]; exact h.l0, by rw [e1, e4]; exact h.l1, by rw [e1, e4]; exact h.l2, by rw [e3]; exact h.lo, fun z => by rw [e1, e2, e3]; exact h.tw (e7 z)⟩
theorem i_nlt_le {a b : Int32} (h : ¬ a < b) : b ≤ a := Int32.not_lt.mp h
end RDW
theorem TW.grain {n : Nat → Nat} {t : tab} {lw : Nat → Option LAW} (h : TW n t lw) (hn : n 0 < 6) {p q : Int32} (hp : 0 ≤ p ∧ p ≤ 9999) (hq : 0 ≤ q ∧ q ≤ 99) : TW (nS 0 (n 0 + 1) n) (sU 0 (n 0) p (sU 1 (n 0) q t)) lw := by
  obtain ⟨t0, t1, t2, t3, th, tr, tm, tg, tl⟩ := h
  have e : ∀ k, k ≠ 0 → k ≠ 1 → sU 0 (n 0) p (sU 1 (n 0) q t) k = t k := fun k h1 h2 => by rw [sU_ne h1, sU_ne h2]
  refine ⟨by rw [nS_eq]; omega, by rw [nS_ne _ _ (by omega)]; exact t1, by rw [nS_ne _ _ (by omega)]; exact t2, by rw [nS_ne _ _ (by omega)]; exact t3, fun x hx => ?_, fun x hx => ?_, fun x hx => ?_, fun x hx => ?_, tl⟩
  · rw [nS_ne _ _ (by omega)] at hx
    rw [nS_eq, e 3 (by omega) (by omega), e 2 (by omega) (by omega)]
    exact ⟨vp_mono (th x hx).1 (by omega), (th x hx).2⟩
  · rw [nS_ne _ _ (by omega)] at hx
    rw [nS_eq, nS_ne _ _ (by omega), e 4 (by omega) (by omega), e 5 (by omega) (by omega), e 6 (by omega) (by omega), e 7 (by omega) (by omega)]
    exact ⟨vp_mono (tr x hx).1 (by omega), (tr x hx).2⟩
  · rw [nS_ne _ _ (by omega)] at hx
    rw [nS_eq, e 9 (by omega) (by omega), e 10 (by omega) (by omega)]
    exact ⟨(tm x hx).1, fun i hi => vp_mono ((tm x hx).2 i hi) (by omega)⟩
  · rw [nS_eq] at hx
    by_cases c : x = n 0
    · have w0 : sU 0 (n 0) p (sU 1 (n 0) q t) 0 x = p := by rw [sU_if, if_pos ⟨rfl, c⟩]
      have w1 : sU 0 (n 0) p (sU 1 (n 0) q t) 1 x = q := by rw [sU_ne (by omega), sU_if, if_pos ⟨rfl, c⟩]
      rw [w0, w1]; exact ⟨hp.1, hp.2, hq.1, hq.2⟩
    · have w0 : ∀ y, sU 0 (n 0) p (sU 1 (n 0) q t) y x = t y x := fun y => by rw [sU_if, if_neg (by omega), sU_if, if_neg (by omega)]
      rw [w0, w0]; exact tg x (by omega)
theorem TW.hole {n : Nat → Nat} {t : tab} {lw : Nat → Option LAW} (h : TW n t lw) (hn : n 1 < 6) {p q : Int32} (hp : 1 ≤ p) (hq : vp_in q (n 0)) : TW (nS 1 (n 1 + 1) n) (sU 2 (n 1) p (sU 3 (n 1) q t)) lw := by
  obtain ⟨t0, t1, t2, t3, th, tr, tm, tg, tl⟩ := h
  have e : ∀ k, k ≠ 2 → k ≠ 3 → sU 2 (n 1) p (sU 3 (n 1) q t) k = t k := fun k h1 h2 => by rw [sU_ne h1, sU_ne h2]
  refine ⟨by rw [nS_ne _ _ (by omega)]; exact t0, by rw [nS_eq]; omega, by rw [nS_ne _ _ (by omega)]; exact t2, by rw [nS_ne _ _ (by omega)]; exact t3, fun x hx => ?_, fun x hx => ?_, fun x hx => ?_, fun x hx => ?_, tl⟩
  · rw [nS_eq] at hx
    rw [nS_ne _ _ (by omega)]
    by_cases c : x = n 1
    · have w0 : sU 2 (n 1) p (sU 3 (n 1) q t) 2 x = p := by rw [sU_if, if_pos ⟨rfl, c⟩]
      have w1 : sU 2 (n 1) p (sU 3 (n 1) q t) 3 x = q := by rw [sU_ne (by omega), sU_if, if_pos ⟨rfl, c⟩]
      rw [w0, w1]; exact ⟨hq, hp⟩
    · have w0 : ∀ y, sU 2 (n 1) p (sU 3 (n 1) q t) y x = t y x := fun y => by rw [sU_if, if_neg (by omega), sU_if, if_neg (by omega)]
      rw [w0, w0]; exact th x (by omega)
  · rw [nS_ne _ _ (by omega)] at hx
    rw [nS_eq, nS_ne _ _ (by omega), e 4 (by omega) (by omega), e 5 (by omega) (by omega), e 6 (by omega) (by omega), e 7 (by omega) (by omega)]
    exact ⟨(tr x hx).1, vp_mono (tr x hx).2.1 (by omega), (tr x hx).2.2⟩
  · rw [nS_ne _ _ (by omega)] at hx
    rw [nS_ne _ _ (by omega), e 9 (by omega) (by omega), e 10 (by omega) (by omega)]
    exact tm x hx
  · rw [nS_ne _ _ (by omega)] at hx
    rw [e 0 (by omega) (by omega), e 1 (by omega) (by omega)]
    exact tg x hx
theorem TW.rat {n : Nat → Nat} {t : tab} {lw : Nat → Option LAW} (h : TW n t lw) (hn : n 2 < 8) {p q x y : Int32} (hp : vp_in p (n 0)) (hq : vp_in q (n 1)) (hx : 0 ≤ x ∧ x ≤ 9) (hy : 0 ≤ y ∧ y ≤ 99) : TW (nS 2 (n 2 + 1) n) (sU 4 (n 2) p (sU 5 (n 2) q (sU 6 (n 2) x (sU 7 (n 2) y t)))) lw := by
  obtain ⟨t0, t1, t2, t3, th, tr, tm, tg, tl⟩ := h
  generalize hT : sU 4 (n 2) p (sU 5 (n 2) q (sU 6 (n 2) x (sU 7 (n 2) y t))) = T
  have e : ∀ k, k ≠ 4 → k ≠ 5 → k ≠ 6 → k ≠ 7 → T k = t k := fun k h1 h2 h3 h4 => by rw [← hT, sU_ne h1, sU_ne h2, sU_ne h3, sU_ne h4]
  refine ⟨by rw [nS_ne _ _ (by omega)]; exact t0, by rw [nS_ne _ _ (by omega)]; exact t1, by rw [nS_eq]; omega, by rw [nS_ne _ _ (by omega)]; exact t3, fun z hz => ?_, fun z hz => ?_, fun z hz => ?_, fun z hz => ?_, tl⟩
  · rw [nS_ne _ _ (by omega)] at hz
    rw [nS_ne _ _ (by omega), e 3 (by omega) (by omega) (by omega) (by omega), e 2 (by omega) (by omega) (by omega) (by omega)]
    exact th z hz
  · rw [nS_eq] at hz
    rw [nS_ne _ _ (by omega), nS_ne _ _ (by omega)]
    by_cases c : z = n 2
    · have w4 : T 4 z = p := by rw [← hT, sU_if, if_pos ⟨rfl, c⟩]
      have w5 : T 5 z = q := by rw [← hT, sU_ne (by omega), sU_if, if_pos ⟨rfl, c⟩]
      have w6 : T 6 z = x := by rw [← hT, sU_ne (by omega), sU_ne (by omega), sU_if, if_pos ⟨rfl, c⟩]
      have w7 : T 7 z = y := by rw [← hT, sU_ne (by omega), sU_ne (by omega), sU_ne (by omega), sU_if, if_pos ⟨rfl, c⟩]
      rw [w4, w5, w6, w7]; exact ⟨hp, hq, hx.1, hx.2, hy.1, hy.2⟩
    · have w0 : ∀ k, T k z = t k z := fun k => by rw [← hT, sU_if, if_neg (by omega), sU_if, if_neg (by omega), sU_if, if_neg (by omega), sU_if, if_neg (by omega)]
      rw [w0, w0, w0, w0]; exact tr z (by omega)
  · rw [nS_ne _ _ (by omega)] at hz
    rw [nS_ne _ _ (by omega), e 9 (by omega) (by omega) (by omega) (by omega), e 10 (by omega) (by omega) (by omega) (by omega)]
    exact tm z hz
  · rw [nS_ne _ _ (by omega)] at hz
    rw [e 0 (by omega) (by omega) (by omega) (by omega), e 1 (by omega) (by omega) (by omega) (by omega)]
    exact tg z hz
/-- tables that agree where a text looks -/
theorem TW.same {n : Nat → Nat} {t T : tab} {lw : Nat → Option LAW} (h : TW n t lw) (e : ∀ k, k ≠ 8 → k ≠ 12 → k ≠ 9 → k ≠ 10 → k ≠ 11 → T k = t k) (e9 : ∀ m, m < n 3 → T 9 m = t 9 m) (e10 : ∀ m i, m < n 3 → i < 4 → T 10 (4 * m + i) = t 10 (4 * m + i)) : TW n T lw := by
  obtain ⟨t0, t1, t2, t3, th, tr, tm, tg, tl⟩ := h
  refine ⟨t0, t1, t2, t3, fun z hz => ?_, fun z hz => ?_, fun z hz => ?_, fun z hz => ?_, tl⟩
  · rw [e 3 (by omega) (by omega) (by omega) (by omega) (by omega), e 2 (by omega) (by omega) (by omega) (by omega) (by omega)]; exact th z hz
  · rw [e 4 (by omega) (by omega) (by omega) (by omega) (by omega), e 5 (by omega) (by omega) (by omega) (by omega) (by omega), e 6 (by omega) (by omega) (by omega) (by omega) (by omega), e 7 (by omega) (by omega) (by omega) (by omega) (by omega)]; exact tr z hz
  · rw [e9 z hz]
    refine ⟨(tm z hz).1, fun i hi => ?_⟩
    have h5 : (t 9 z).toNatClampNeg < 5 := Nat.lt_of_not_le (fun q => (tm z hz).1 (Or.inr q))
    rw [e10 z i hz (by omega)]
    exact (tm z hz).2 i hi
  · rw [e 0 (by omega) (by omega) (by omega) (by omega) (by omega), e 1 (by omega) (by omega) (by omega) (by omega) (by omega)]; exact tg z hz
theorem TW.merch {n : Nat → Nat} {t : tab} {lw : Nat → Option LAW} (h : TW n t lw) (hn : n 3 < 5) {i : Nat} (hi : i ≤ 4) (hg : ∀ k, k < i → vp_in (t 10 (4 * n 3 + k)) (n 0)) : TW (nS 3 (n 3 + 1) n) (sU 9 (n 3) (nI i) t) lw := by
  obtain ⟨t0, t1, t2, t3, th, tr, tm, tg, tl⟩ := h
  have e : ∀ k, k ≠ 9 → sU 9 (n 3) (nI i) t k = t k := fun k h1 => sU_ne h1
  refine ⟨by rw [nS_ne _ _ (by omega)]; exact t0, by rw [nS_ne _ _ (by omega)]; exact t1, by rw [nS_ne _ _ (by omega)]; exact t2, by rw [nS_eq]; omega, fun z hz => ?_, fun z hz => ?_, fun z hz => ?_, fun z hz => ?_, tl⟩
  · rw [nS_ne _ _ (by omega)] at hz
    rw [nS_ne _ _ (by omega), e 3 (by omega), e 2 (by omega)]; exact th z hz
  · rw [nS_ne _ _ (by omega)] at hz
    rw [nS_ne _ _ (by omega), nS_ne _ _ (by omega), e 4 (by omega), e 5 (by omega), e 6 (by omega), e 7 (by omega)]; exact tr z hz
  · rw [nS_eq] at hz
    rw [nS_ne _ _ (by omega), e 10 (by omega)]
    by_cases c : z = n 3
    · have w : sU 9 (n 3) (nI i) t 9 z = nI i := by rw [sU_if, if_pos ⟨rfl, c⟩]
      rw [w, nI_clamp (by omega)]
      refine ⟨vp_in_nI (by omega) (by omega), fun k hk => ?_⟩
      rw [c]; exact hg k hk
    · have w : sU 9 (n 3) (nI i) t 9 z = t 9 z := by rw [sU_if, if_neg (by omega)]
      rw [w]; exact tm z (by omega)
  · rw [nS_ne _ _ (by omega)] at hz
    rw [e 0 (by omega), e 1 (by omega)]; exact tg z hz
section RDW
variable {kd : Nat → Nat} {vl : Nat → Int32} {nv : Nat → Nat}
theorem grain_good {s s' : PS} (hI : IV s) (h : grainR kd vl nv s = .ok s') : IV s' ∧ s.at_ < s'.at_ := by
  obtain ⟨s1, h1, h⟩ := bd_good h
  obtain ⟨hn, e1, -⟩ := room_good h1
  obtain ⟨r, h2, h⟩ := bd_good h
  obtain ⟨-, e2, -⟩ := name_good h2
  obtain ⟨p, h3, h⟩ := bd_good h
  obtain ⟨-, e3, b3⟩ := num_good h3
  obtain ⟨q, h4, h⟩ := bd_good h
  obtain ⟨-, e4, b4⟩ := num_good h4
  have I4 := (((hI.ext e1).ext e2).ext e3).ext e4
  have hn4 : q.2.n 0 ≠ 6 := by rw [e4.1, e3.1, e2.1, e1.1]; exact hn
  have a1 := e1.2.2.2.2.1; have a2 := e2.2.2.2.2.1; have a3 := e3.2.2.2.2.1; have a4 := e4.2.2.2.2.1
  have z3 := e4.2.2.2.2.2.2
  have m0 := I4.n0
  injection h with h
  subst h
  refine ⟨⟨I4.a4, ?_, I4.n1, I4.n2, I4.n3, ?_, I4.l1, I4.l2, I4.lo, fun z => ?_⟩, by show s.at_ < q.2.at_; omega⟩
  · show nS 0 (q.2.n 0 + 1) q.2.n 0 ≤ 6; rw [nS_eq]; omega
  · show (nS 0 (q.2.nm 0 ++ [r.1]) q.2.nm 0).length = nS 0 (q.2.n 0 + 1) q.2.n 0; rw [nS_eq, nS_eq, List.length_append, I4.l0]; rfl
  · obtain ⟨c1, c2⟩ := b4 z
    obtain ⟨c3, c4⟩ := b3 (z3 z)
    exact (I4.tw z).grain (by omega) ⟨i_nlt_le c3, i_nlt_le c4⟩ ⟨i_nlt_le c1, i_nlt_le c2⟩
theorem hole_good {s s' : PS} (hI : IV s) (h : holeR kd vl nv s = .ok s') : IV s' ∧ s.at_ < s'.at_ := by
  obtain ⟨s1, h1, h⟩ := bd_good h
  obtain ⟨hn, e1, -⟩ := room_good h1
  obtain ⟨r, h2, h⟩ := bd_good h
  obtain ⟨-, e2, -⟩ := name_good h2
  obtain ⟨p, h3, h⟩ := bd_good h
  obtain ⟨-, e3, b3⟩ := num_good h3
  obtain ⟨q, h4, h⟩ := bd_good h
  obtain ⟨-, e4, b4, -⟩ := known_good h4
  have I3 := ((hI.ext e1).ext e2).ext e3
  have I4 := I3.ext e4
  have hn4 : q.2.n 1 ≠ 6 := by rw [e4.1, e3.1, e2.1, e1.1]; exact hn
  have a1 := e1.2.2.2.2.1; have a2 := e2.2.2.2.2.1; have a3 := e3.2.2.2.2.1; have a4 := e4.2.2.2.2.1
  have z3 := e4.2.2.2.2.2.2
  have m0 := I4.n1
  have m1 := I4.n0
  have l0 := I3.l0
  have en := e4.1
  injection h with h
  subst h
  refine ⟨⟨I4.a4, I4.n0, ?_, I4.n2, I4.n3, I4.l0, ?_, I4.l2, I4.lo, fun z => ?_⟩, by show s.at_ < q.2.at_; omega⟩
  · show nS 1 (q.2.n 1 + 1) q.2.n 1 ≤ 6; rw [nS_eq]; omega
  · show (nS 1 (q.2.nm 1 ++ [r.1]) q.2.nm 1).length = nS 1 (q.2.n 1 + 1) q.2.n 1; rw [nS_eq, nS_eq, List.length_append, I4.l1]; rfl
  · obtain ⟨i, hi, ei⟩ := b4 z
    obtain ⟨c3, c4⟩ := b3 (z3 z)
    exact (I4.tw z).hole (by omega) (i_nlt_le c3) (by rw [ei]; exact vp_in_nI (by rw [en, ← l0]; exact hi) (by omega))
theorem rat_good {s s' : PS} (hI : IV s) (h : ratR kd vl nv s = .ok s') : IV s' ∧ s.at_ < s'.at_ := by
  obtain ⟨s1, h1, h⟩ := bd_good h
  obtain ⟨hn, e1, -⟩ := room_good h1
  obtain ⟨r, h2, h⟩ := bd_good h
  obtain ⟨-, e2, -⟩ := name_good h2
  obtain ⟨p, h3, h⟩ := bd_good h
  obtain ⟨-, e3, b3, -⟩ := known_good h3
  obtain ⟨q, h4, h⟩ := bd_good h
  obtain ⟨-, e4, b4, -⟩ := known_good h4
  obtain ⟨x, h5, h⟩ := bd_good h
  obtain ⟨-, e5, b5⟩ := num_good h5
  obtain ⟨y, h6, h⟩ := bd_good h
  obtain ⟨-, e6, b6⟩ := num_good h6
  have I2 := (hI.ext e1).ext e2
  have I3 := I2.ext e3
  have I6 := ((I3.ext e4).ext e5).ext e6
  have hn4 : y.2.n 2 ≠ 8 := by rw [e6.1, e5.1, e4.1, e3.1, e2.1, e1.1]; exact hn
  have a1 := e1.2.2.2.2.1; have a2 := e2.2.2.2.2.1; have a3 := e3.2.2.2.2.1; have a4 := e4.2.2.2.2.1; have a5 := e5.2.2.2.2.1; have a6 := e6.2.2.2.2.1
  have z5 := e6.2.2.2.2.2.2
  have z4 := e5.2.2.2.2.2.2
  have z3 := e4.2.2.2.2.2.2
  have m2 := I6.n2
  have m1 := I6.n1
  have m0 := I6.n0
  have l0 := I2.l0
  have l1 := I3.l1
  have en : y.2.n = r.2.n := by rw [e6.1, e5.1, e4.1, e3.1]
  have en2 : y.2.n = p.2.n := by rw [e6.1, e5.1, e4.1]
  injection h with h
  subst h
  refine ⟨⟨I6.a4, I6.n0, I6.n1, ?_, I6.n3, I6.l0, I6.l1, ?_, I6.lo, fun z => ?_⟩, by show s.at_ < y.2.at_; omega⟩
  · show nS 2 (y.2.n 2 + 1) y.2.n 2 ≤ 8; rw [nS_eq]; omega
  · show (nS 2 (y.2.nm 2 ++ [r.1]) y.2.nm 2).length = nS 2 (y.2.n 2 + 1) y.2.n 2; rw [nS_eq, nS_eq, List.length_append, I6.l2]; rfl
  · obtain ⟨i, hi, ei⟩ := b3 (z3 (z4 (z5 z)))
    obtain ⟨j, hj, ej⟩ := b4 (z4 (z5 z))
    obtain ⟨c1, c2⟩ := b5 (z5 z)
    obtain ⟨c3, c4⟩ := b6 z
    exact (I6.tw z).rat (by omega) (by rw [ei]; exact vp_in_nI (by rw [en, ← l0]; exact hi) (by omega)) (by rw [ej]; exact vp_in_nI (by rw [en2, ← l1]; exact hj) (by omega)) ⟨i_nlt_le c1, i_nlt_le c2⟩ ⟨i_nlt_le c3, i_nlt_le c4⟩
theorem want_good : ∀ f i s r, f + i = 5 → i ≤ 4 → IV s → s.n 3 < 5 → (s.wk = 0 → ∀ k, k < i → vp_in (s.t 10 (4 * s.n 3 + k)) (s.n 0)) → wantR kd vl nv f i s = .ok r → IV r.2 ∧ s.at_ ≤ r.2.at_ ∧ r.1 ≤ 4 ∧ r.2.n = s.n ∧ (r.2.wk = 0 → ∀ k, k < r.1 → vp_in (r.2.t 10 (4 * r.2.n 3 + k)) (r.2.n 0)) ∧ (s.at_ < 400 ∨ kd s.at_ = 4) := by
  intro f
  induction f with
  | zero =>
    intro i s r hf hi4 hI hn hg h
    omega
  | succ f ih =>
    intro i s r hf hi4 hI hn hg h
    unfold wantR at h
    split at h
    · rename_i hk
      injection h with h; subst h
      exact ⟨hI, Nat.le_refl _, by show i ≤ 4; omega, rfl, hg, Or.inr hk⟩
    · split at h
      · cases h
      · rename_i h4 h1
        obtain ⟨g, hk, h⟩ := bd_good h
        obtain ⟨k1, e1, b1, b2⟩ := known_good hk
        have I1 := hI.ext e1
        obtain ⟨v, hv, h⟩ := bd_good h
        have e2 : Ext s (if 0 ≤ g.1 ∧ hasW g.2.t (g.2.n 3) i g.1 then tellR 3 s.at_ g.2 else g.2) := by
          split
          · exact (tell_ext (by omega) e1).1
          · exact e1
        have b3 : (if 0 ≤ g.1 ∧ hasW g.2.t (g.2.n 3) i g.1 then tellR 3 s.at_ g.2 else g.2).wk = 0 → g.2.wk = 0 := by
          split
          · intro z; exact absurd z (tell_ext (k := 3) (x := s.at_) (by omega) e1).2
          · exact id
        generalize (if 0 ≤ g.1 ∧ hasW g.2.t (g.2.n 3) i g.1 then tellR 3 s.at_ g.2 else g.2) = w at hv e2 b3
        obtain ⟨k2, e3, b4⟩ := num_good hv
        have I3 := (hI.ext e2).ext e3
        have hi : i < 4 := by
          have : ¬ i = 4 := fun q => h1 ⟨k1, q⟩
          omega
        have en : v.2.n = s.n := by rw [e3.1, e2.1]
        have et : v.2.t = s.t := by rw [e3.2.1, e2.2.1]
        have hz : v.2.wk = 0 → s.wk = 0 := fun z => e2.2.2.2.2.2.2 (e3.2.2.2.2.2.2 z)
        have hv2 : IV (v.2.tx v.2.n (sU 10 (4 * v.2.n 3 + i) g.1 (sU 11 (4 * v.2.n 3 + i) v.1 v.2.t)) v.2.lw v.2.nm) := by
          refine ⟨I3.a4, I3.n0, I3.n1, I3.n2, I3.n3, I3.l0, I3.l1, I3.l2, I3.lo, fun z => ?_⟩
          refine (I3.tw z).same (fun k h8 h12 h9 h10 h11 => ?_) (fun m _ => ?_) (fun m k hm hk => ?_)
          · show sU 10 (4 * v.2.n 3 + i) g.1 (sU 11 (4 * v.2.n 3 + i) v.1 v.2.t) k = _
            rw [sU_ne h10, sU_ne h11]
          · show sU 10 (4 * v.2.n 3 + i) g.1 (sU 11 (4 * v.2.n 3 + i) v.1 v.2.t) 9 m = _
            rw [sU_ne (by omega), sU_ne (by omega)]
          · show sU 10 (4 * v.2.n 3 + i) g.1 (sU 11 (4 * v.2.n 3 + i) v.1 v.2.t) 10 _ = _
            rw [sU_if, if_neg (by omega), sU_ne (by omega)]
        obtain ⟨r1, r2, r3, r4, r5, -⟩ := ih (i + 1) _ r (by omega) (by omega) hv2 (by show v.2.n 3 < 5; rw [en]; exact hn) (fun z k hk => by
          show vp_in (sU 10 (4 * v.2.n 3 + i) g.1 (sU 11 (4 * v.2.n 3 + i) v.1 v.2.t) 10 (4 * v.2.n 3 + k)) (v.2.n 0)
          by_cases c : k = i
          · rw [sU_if, if_pos ⟨rfl, by omega⟩]
            obtain ⟨j, hj, ej⟩ := b1 (b3 (e3.2.2.2.2.2.2 z))
            have m0 := hI.n0
            rw [ej, en]; exact vp_in_nI (by rw [← hI.l0]; exact hj) (by omega)
          · rw [sU_if, if_neg (by omega), sU_ne (by omega), et, en]
            exact hg (hz z) k (by omega)) h
        have a2 := e2.2.2.2.2.1; have a3 := e3.2.2.2.2.1
        have a4 := e2.2.2.2.2.2.1
        refine ⟨r1, ?_, r3, r4.trans en, r5, Or.inl a4⟩
        have r2 : v.2.at_ ≤ r.2.at_ := r2
        omega
theorem wants_good {s s' : PS} (hI : IV s) (h : wantsR kd vl nv s = .ok s') : IV s' ∧ s.at_ < s'.at_ := by
  obtain ⟨s1, h1, h⟩ := bd_good h
  obtain ⟨hn, e1, -⟩ := room_good h1
  obtain ⟨p, h2, h⟩ := bd_good h
  obtain ⟨-, e2, -⟩ := num_good h2
  obtain ⟨q, h3, h⟩ := bd_good h
  have I2 := (hI.ext e1).ext e2
  have hn2 : p.2.n 3 ≠ 5 := by rw [e2.1, e1.1]; exact hn
  have m3 := I2.n3
  have hv2 : IV (p.2.tx p.2.n (sU 8 (p.2.n 3) p.1 p.2.t) p.2.lw p.2.nm) := by
    refine ⟨I2.a4, I2.n0, I2.n1, I2.n2, I2.n3, I2.l0, I2.l1, I2.l2, I2.lo, fun z => ?_⟩
    refine (I2.tw z).same (fun k h8 h12 h9 h10 h11 => sU_ne h8) (fun m _ => ?_) (fun m k hm hk => ?_)
    · show sU 8 (p.2.n 3) p.1 p.2.t 9 m = _; rw [sU_ne (by omega)]
    · show sU 8 (p.2.n 3) p.1 p.2.t 10 _ = _; rw [sU_ne (by omega)]
  obtain ⟨r1, r2, r3, r4, r5, -⟩ := want_good 5 0 _ q rfl (by omega) hv2 (by show p.2.n 3 < 5; omega) (fun _ k hk => by omega) h3
  have a1 := e1.2.2.2.2.1; have a2 := e2.2.2.2.2.1
  have r2 : p.2.at_ ≤ q.2.at_ := r2
  have r4 : q.2.n = p.2.n := r4
  have n3 : q.2.n 3 < 5 := by rw [r4]; omega
  injection h with h
  subst h
  refine ⟨⟨r1.a4, r1.n0, r1.n1, r1.n2, ?_, r1.l0, r1.l1, r1.l2, r1.lo, fun z => ?_⟩, by show s.at_ < q.2.at_; omega⟩
  · show nS 3 (q.2.n 3 + 1) q.2.n 3 ≤ 5; rw [nS_eq]; omega
  · exact (r1.tw z).merch n3 r3 (r5 z)
theorem ifs_good : ∀ f L s r, f + L.length = 5 → L.length ≤ 4 → IV s → lawOK (some (L, [(0, 0)])) → ifsR kd vl f L s = .ok r → lawOK (some r.1) ∧ IV r.2 ∧ s.at_ < r.2.at_ ∧ r.2 = s.go r.2.at_ ∧ r.1.1.length ≤ 4 := by
  intro f
  induction f with
  | zero => intro L s r hf hl4 hI hL h; omega
  | succ f ih =>
    intro L s r hf hl4 hI hL h
    unfold ifsR at h
    split at h
    · obtain ⟨s1, h1, h⟩ := bd_good h
      obtain ⟨hn, e1, q1⟩ := room_good h1
      obtain ⟨a, h2, h⟩ := bd_good h
      obtain ⟨-, g2, l2, q2⟩ := sum_good h2
      obtain ⟨s3, h3, h⟩ := bd_good h
      obtain ⟨-, e3, q3⟩ := must_good h3
      obtain ⟨b, h4, h⟩ := bd_good h
      obtain ⟨-, g4, l4, q4⟩ := sum_good h4
      obtain ⟨s5, h5, h⟩ := bd_good h
      obtain ⟨-, e5, q5⟩ := must_good h5
      obtain ⟨c, h6, h⟩ := bd_good h
      obtain ⟨-, g6, l6, q6⟩ := sum_good h6
      obtain ⟨s7, h7, h⟩ := bd_good h
      obtain ⟨-, e7, q7⟩ := must_good h7
      have a1 := e1.2.2.2.2.1; have a3 := e3.2.2.2.2.1; have a5 := e5.2.2.2.2.1; have a7 := e7.2.2.2.2.1
      have a7' := e7.2.2.2.2.2.1
      have eq : s7 = s.go s7.at_ := by rw [q7, q6, q5, q4, q3, q2, q1]; rfl
      have I7 : IV s7 := by
        rw [eq]; exact ⟨by show s7.at_ ≤ 400; omega, hI.n0, hI.n1, hI.n2, hI.n3, hI.l0, hI.l1, hI.l2, hI.lo, hI.tw⟩
      obtain ⟨r1, r2, r3, r4, r5⟩ := ih (L ++ [(a.1, b.1, c.1)]) s7 r (by rw [List.length_append]; show f + (L.length + 1) = 5; omega) (by rw [List.length_append]; show L.length + 1 ≤ 4; omega) I7 (by
        refine ⟨fun x hx => ?_, hL.2⟩
        rcases List.mem_append.mp hx with z | z
        · exact hL.1 x z
        · rw [List.mem_singleton.mp z]
          obtain ⟨u1, u2, u3, -⟩ := g2
          obtain ⟨v1, v2, v3, -⟩ := g4
          obtain ⟨w1, w2, w3, -⟩ := g6
          exact ⟨u3, v3, w3, by show a.1.length ≤ 400; omega, by show b.1.length ≤ 400; omega, by show c.1.length ≤ 400; omega⟩) h
      exact ⟨r1, r2, by omega, by rw [r4, eq]; rfl, r5⟩
    · obtain ⟨e, h2, h⟩ := bd_good h
      obtain ⟨-, g2, l2, q2⟩ := sum_good h2
      injection h with h
      subst h
      obtain ⟨u1, u2, u3, -⟩ := g2
      refine ⟨⟨hL.1, u3, by show e.1.length ≤ 400; omega⟩, ?_, l2, q2, by show L.length ≤ 4; omega⟩
      show IV e.2
      rw [q2]; exact ⟨by show e.2.at_ ≤ 400; omega, hI.n0, hI.n1, hI.n2, hI.n3, hI.l0, hI.l1, hI.l2, hI.lo, hI.tw⟩
theorem law_good {k : Nat} {s s' : PS} (hI : IV s) (h : lawR kd vl k s = .ok s') : IV s' ∧ s.at_ < s'.at_ := by
  obtain ⟨s1, h1, h⟩ := bd_good h
  obtain ⟨e1, -⟩ := pass_good h1
  obtain ⟨s2, h2, h⟩ := bd_good h
  obtain ⟨-, e2, -⟩ := must_good h2
  obtain ⟨q, h3, h⟩ := bd_good h
  obtain ⟨r1, r2, r3, r4, -⟩ := ifs_good 5 [] s2 q rfl (Nat.zero_le _) ((hI.ext e1).ext e2) ⟨fun x hx => by simp at hx, rfl, by show 1 ≤ 400; omega⟩ h3
  have a1 := e1.2.2.2.2.1; have a2 := e2.2.2.2.2.1
  injection h with h
  subst h
  have hlo : ∀ j, lawOK (nS k (some q.1) q.2.lw j) := fun j => by
    unfold nS; split
    · exact r1
    · exact r2.lo j
  refine ⟨⟨r2.a4, r2.n0, r2.n1, r2.n2, r2.n3, r2.l0, r2.l1, r2.l2, hlo, fun z => ?_⟩, by show s.at_ < q.2.at_; omega⟩
  obtain ⟨t0, t1, t2, t3, th, tr, tm, tg, tl⟩ := r2.tw z
  exact ⟨t0, t1, t2, t3, th, tr, tm, tg, hlo⟩
theorem one_good {j : Nat} {lo hi : Int32} {s s' : PS} (hI : IV s) (h : oneR kd vl j lo hi s = .ok s') : IV s' ∧ s.at_ < s'.at_ := by
  obtain ⟨s1, h1, h⟩ := bd_good h
  obtain ⟨e1, -⟩ := pass_good h1
  obtain ⟨v, h2, h⟩ := bd_good h
  obtain ⟨-, e2, -⟩ := num_good h2
  have I2 := (hI.ext e1).ext e2
  have a1 := e1.2.2.2.2.1; have a2 := e2.2.2.2.2.1
  injection h with h
  subst h
  refine ⟨⟨I2.a4, I2.n0, I2.n1, I2.n2, I2.n3, I2.l0, I2.l1, I2.l2, I2.lo, fun z => ?_⟩, by show s.at_ < v.2.at_; omega⟩
  refine (I2.tw z).same (fun k h8 h12 h9 h10 h11 => sU_ne h12) (fun m _ => ?_) (fun m k hm hk => ?_)
  · show sU 12 j v.1 v.2.t 9 m = _; rw [sU_ne (by omega)]
  · show sU 12 j v.1 v.2.t 10 _ = _; rw [sU_ne (by omega)]
theorem told_good {s s' : PS} (hI : IV s) (h : toldR kd vl nv s = .ok s') : IV s' ∧ s.at_ < s'.at_ := by
  unfold toldR at h
  split at h
  · exact grain_good hI h
  split at h
  · exact hole_good hI h
  split at h
  · exact rat_good hI h
  split at h
  · exact law_good hI h
  split at h
  · exact wants_good hI h
  split at h
  · exact one_good hI h
  split at h
  · exact one_good hI h
  split at h
  · exact one_good hI h
  · cases h
theorem read_good : ∀ f s r, 401 ≤ f + s.at_ → IV s → readR kd vl nv f s = .ok r → IV r ∧ kd r.at_ = 0 := by
  intro f
  induction f with
  | zero => intro s r hf hI h; have := hI.a4; omega
  | succ f ih =>
    intro s r hf hI h
    unfold readR at h
    split at h
    · rename_i hk; injection h with h; subst h; exact ⟨hI, hk⟩
    · obtain ⟨s1, h1, h⟩ := bd_good h
      obtain ⟨I1, a1⟩ := told_good hI h1
      obtain ⟨s2, h2, h⟩ := bd_good h
      obtain ⟨-, e2, -⟩ := must_good h2
      have a2 := e2.2.2.2.2.1
      exact ih s2 r (by omega) (I1.ext e2) h
theorem ps0_IV : IV ps0 := by
  refine ⟨by decide, by decide, by decide, by decide, by decide, rfl, rfl, rfl, fun _ => trivial, fun _ => ?_⟩
  exact ⟨by decide, by decide, by decide, by decide, fun h hh => absurd hh (Nat.not_lt_zero _), fun h hh => absurd hh (Nat.not_lt_zero _), fun h hh => absurd hh (Nat.not_lt_zero _), fun h hh => absurd hh (Nat.not_lt_zero _), fun _ => trivial⟩
end RDW
