/-! merchants are told -/
set_option maxRecDepth 100000
section TWA
variable {sd : Nat} {n : Nat → Nat} {t : tab} {r24 r25 r26 r27 r28 r29 r30 r31 r32 r33 r34 r35 r36 r37 r38 r39 r40 r41 r42 : Nat → Int32}
theorem TMn.merch (h : TMn sd n t r24 r25 r26 r27 r28 r29 r30 r31 r32 r33 r34 r35 r36 r37 r38 r39 r40 r41 r42) {i : Nat} (hi : i ≤ 4) (h8 : r36 (5 * sd + n 3) = t 8 (n 3)) (hw : ∀ k, k < i → r38 (4 * (5 * sd + n 3) + k) = t 10 (4 * n 3 + k) ∧ r39 (4 * (5 * sd + n 3) + k) = t 11 (4 * n 3 + k)) :
    TMn sd (nS 3 (n 3 + 1) n) (sU 9 (n 3) (nI i) t) r24 r25 r26 r27 r28 r29 r30 r31 r32 r33 r34 (upd r35 sd (nI (n 3 + 1))) r36 (upd r37 (5 * sd + n 3) (nI i)) r38 r39 r40 r41 r42 := by
  obtain ⟨⟨a1, a2, a3, a4, a5, a6, a7⟩, b1, b2, b3, b4⟩ := h
  have e : ∀ k, k ≠ 9 → sU 9 (n 3) (nI i) t k = t k := fun k h1 => sU_ne h1
  refine ⟨⟨by rw [nS_ne _ _ (by omega)]; exact a1, by rw [nS_ne _ _ (by omega)]; exact a2, by rw [nS_ne _ _ (by omega)]; exact a3, by rw [u_s, nS_eq], by rw [e 12 (by omega)]; exact a5, by rw [e 12 (by omega)]; exact a6, by rw [e 12 (by omega)]; exact a7⟩, fun j hj => ?_, fun j hj => ?_, fun j hj => ?_, fun j hj => ?_⟩
  · rw [nS_ne _ _ (by omega)] at hj; rw [e 0 (by omega), e 1 (by omega)]; exact b1 j hj
  · rw [nS_ne _ _ (by omega)] at hj; rw [e 2 (by omega), e 3 (by omega)]; exact b2 j hj
  · rw [nS_ne _ _ (by omega)] at hj; rw [e 4 (by omega), e 5 (by omega), e 6 (by omega), e 7 (by omega)]; exact b3 j hj
  · rw [nS_eq] at hj
    rw [e 8 (by omega), e 10 (by omega), e 11 (by omega)]
    by_cases c : j = n 3
    · subst c
      have w : sU 9 (n 3) (nI i) t 9 (n 3) = nI i := by rw [sU_if, if_pos ⟨rfl, rfl⟩]
      rw [w, u_s, nI_clamp (by omega)]
      exact ⟨h8, rfl, hw⟩
    · rw [u_n _ _ (by omega), sU_if, if_neg (by omega)]; exact b4 j (by omega)
/-- a row that is written behind what is told -/
theorem TMn.w8 (h : TMn sd n t r24 r25 r26 r27 r28 r29 r30 r31 r32 r33 r34 r35 r36 r37 r38 r39 r40 r41 r42) (p : Int32) : TMn sd n (sU 8 (n 3) p t) r24 r25 r26 r27 r28 r29 r30 r31 r32 r33 r34 r35 (upd r36 (5 * sd + n 3) p) r37 r38 r39 r40 r41 r42 := by
  obtain ⟨⟨a1, a2, a3, a4, a5, a6, a7⟩, b1, b2, b3, b4⟩ := h
  have e : ∀ k, k ≠ 8 → sU 8 (n 3) p t k = t k := fun k h1 => sU_ne h1
  refine ⟨⟨a1, a2, a3, a4, by rw [e 12 (by omega)]; exact a5, by rw [e 12 (by omega)]; exact a6, by rw [e 12 (by omega)]; exact a7⟩, fun j hj => ?_, fun j hj => ?_, fun j hj => ?_, fun j hj => ?_⟩
  · rw [e 0 (by omega), e 1 (by omega)]; exact b1 j hj
  · rw [e 2 (by omega), e 3 (by omega)]; exact b2 j hj
  · rw [e 4 (by omega), e 5 (by omega), e 6 (by omega), e 7 (by omega)]; exact b3 j hj
  · rw [e 9 (by omega), e 10 (by omega), e 11 (by omega), u_n _ _ (by omega), sU_if, if_neg (by omega)]; exact b4 j hj
theorem TMn.w10 (h : TMn sd n t r24 r25 r26 r27 r28 r29 r30 r31 r32 r33 r34 r35 r36 r37 r38 r39 r40 r41 r42) {i : Nat} (hi : i < 4) (h9 : ∀ j, j < n 3 → vp_in (t 9 j) 5) (g v : Int32) : TMn sd n (sU 10 (4 * n 3 + i) g (sU 11 (4 * n 3 + i) v t)) r24 r25 r26 r27 r28 r29 r30 r31 r32 r33 r34 r35 r36 r37 (upd r38 (4 * (5 * sd + n 3) + i) g) (upd r39 (4 * (5 * sd + n 3) + i) v) r40 r41 r42 := by
  obtain ⟨⟨a1, a2, a3, a4, a5, a6, a7⟩, b1, b2, b3, b4⟩ := h
  have e : ∀ k, k ≠ 10 → k ≠ 11 → sU 10 (4 * n 3 + i) g (sU 11 (4 * n 3 + i) v t) k = t k := fun k h1 h2 => by rw [sU_ne h1, sU_ne h2]
  refine ⟨⟨a1, a2, a3, a4, by rw [e 12 (by omega) (by omega)]; exact a5, by rw [e 12 (by omega) (by omega)]; exact a6, by rw [e 12 (by omega) (by omega)]; exact a7⟩, fun j hj => ?_, fun j hj => ?_, fun j hj => ?_, fun j hj => ?_⟩
  · rw [e 0 (by omega) (by omega), e 1 (by omega) (by omega)]; exact b1 j hj
  · rw [e 2 (by omega) (by omega), e 3 (by omega) (by omega)]; exact b2 j hj
  · rw [e 4 (by omega) (by omega), e 5 (by omega) (by omega), e 6 (by omega) (by omega), e 7 (by omega) (by omega)]; exact b3 j hj
  · rw [e 8 (by omega) (by omega), e 9 (by omega) (by omega)]
    have h5 : (t 9 j).toNatClampNeg < 5 := Nat.lt_of_not_le (fun q => h9 j hj (Or.inr q))
    refine ⟨(b4 j hj).1, (b4 j hj).2.1, fun k hk => ?_⟩
    rw [u_n _ _ (by omega), u_n _ _ (by omega), sU_if, if_neg (by omega), sU_ne (by omega), sU_ne (by omega), sU_if, if_neg (by omega)]
    exact (b4 j hj).2.2 k hk
end TWA
section TWB
variable (kd : Nat → Nat) (vl : Nat → Int32) (nv : Nat → Nat)
def paysB (s : PS) : PO PS := (numR kd vl 0 9999 s).bd fun p => .ok (p.2.tx p.2.n (sU 8 (p.2.n 3) p.1 p.2.t) p.2.lw p.2.nm)
def stepW (i : Nat) (s : PS) : PO PS := (knownR kd nv 0 s).bd fun g => (numR kd vl 1 9999 (if 0 ≤ g.1 ∧ hasW g.2.t (g.2.n 3) i g.1 then tellR 3 s.at_ g.2 else g.2)).bd fun v =>
  .ok (v.2.tx v.2.n (sU 10 (4 * v.2.n 3 + i) g.1 (sU 11 (4 * v.2.n 3 + i) v.1 v.2.t)) v.2.lw v.2.nm)
def wantsB (s : PS) : PO PS := (paysB kd vl s).bd fun s => (wantR kd vl nv 5 0 s).bd fun q =>
  .ok (q.2.tx (nS 3 (q.2.n 3 + 1) q.2.n) (sU 9 (q.2.n 3) (nI q.1) q.2.t) q.2.lw q.2.nm)
def endW (q : Nat × PS) : PO PS := .ok (q.2.tx (nS 3 (q.2.n 3 + 1) q.2.n) (sU 9 (q.2.n 3) (nI q.1) q.2.t) q.2.lw q.2.nm)
theorem wantsR_B (s : PS) : wantsR kd vl nv s = (roomR (s.n 3) 5 s).bd (wantsB kd vl nv) := by
  unfold wantsR wantsB paysB
  refine bd_congr (fun s1 _ => ?_)
  rw [bd_bd]; rfl
end TWB
section TWC
variable {kd pl : Nat → Nat} {vl : Nat → Int32} {nv : Nat → Nat}
theorem wantR_step {f i : Nat} {s : PS} (hk : kd s.at_ = 1) (hi : i ≠ 4) : wantR kd vl nv (f + 1) i s = (stepW kd vl nv i s).bd (wantR kd vl nv f (i + 1)) := by
  unfold stepW
  conv => lhs; unfold wantR
  rw [if_neg (by omega), if_neg (by omega), bd_bd]
  refine bd_congr (fun g _ => ?_)
  rw [bd_bd]; rfl
theorem wantR_4 {f i : Nat} {s : PS} (hk : kd s.at_ = 4) : wantR kd vl nv (f + 1) i s = .ok (i, s) := by
  unfold wantR; rw [if_pos hk]
theorem wantR_full {f : Nat} {s : PS} (hk : kd s.at_ = 1) : wantR kd vl nv (f + 1) 4 s = .error (2, s.at_) := by
  unfold wantR; rw [if_neg (by omega), if_pos ⟨hk, rfl⟩]
theorem wantR_bad {f i : Nat} {s : PS} (hk : kd s.at_ ≠ 4) (h1 : kd s.at_ ≠ 1) : wantR kd vl nv (f + 1) i s = .error (1, s.at_) := by
  unfold wantR; rw [if_neg hk, if_neg (fun z => h1 z.1)]
  unfold knownR mustR
  rw [if_neg h1]; rfl
/-- the wants that g was among -/
def wtl (g : Int32) (y m j : Nat) (s1 : PS) : PO PS := .ok (if 0 ≤ g ∧ hasW s1.t m j g then tellR 3 y s1 else s1)
theorem wtl_0 (g : Int32) (y m : Nat) (x : PO PS) : x.bd (wtl g y m 0) = x := by
  refine Eq.trans (bd_congr (fun s1 _ => ?_)) (bd_id x)
  unfold wtl
  rw [if_neg]
  rintro ⟨-, k, hk, -⟩; omega
theorem wtl_yes {g : Int32} {y m j : Nat} {s1 : PS} (h0 : 0 ≤ g) (he : s1.t 10 (4 * m + j) = g) : wtl g y m (j + 1) s1 = (wtl g y m j s1).bd fun s => .ok (tellR 3 y s) := by
  unfold wtl
  rw [if_pos ⟨h0, j, by omega, he⟩, bd_ok]
  split
  · rw [tellR_two]
  · rfl
theorem wtl_no {g : Int32} {y m j : Nat} {s1 : PS} (h : ¬ (0 ≤ g ∧ s1.t 10 (4 * m + j) = g)) : wtl g y m (j + 1) s1 = wtl g y m j s1 := by
  unfold wtl
  have : (0 ≤ g ∧ hasW s1.t m (j + 1) g) ↔ (0 ≤ g ∧ hasW s1.t m j g) := by
    constructor
    · rintro ⟨q, k, hk, e⟩
      by_cases c : k = j
      · subst c; exact absurd ⟨q, e⟩ h
      · exact ⟨q, k, by omega, e⟩
    · rintro ⟨q, k, hk, e⟩; exact ⟨q, k, by omega, e⟩
  by_cases c : 0 ≤ g ∧ hasW s1.t m j g
  · rw [if_pos c, if_pos (this.mpr c)]
  · rw [if_neg c, if_neg (fun z => c (this.mp z))]
theorem wtl_sm {g : Int32} {y m j : Nat} {s1 s2 : PS} (h : wtl g y m j s1 = .ok s2) : s2.n = s1.n ∧ s2.t = s1.t ∧ s2.lw = s1.lw ∧ s2.nm = s1.nm ∧ s2.at_ = s1.at_ := by
  unfold wtl at h
  injection h with h
  rw [← h]
  split
  · unfold tellR; split
    · exact ⟨rfl, rfl, rfl, rfl, rfl⟩
    · exact ⟨rfl, rfl, rfl, rfl, rfl⟩
  · exact ⟨rfl, rfl, rfl, rfl, rfl⟩
def chainW (kd : Nat → Nat) (vl : Nat → Int32) (nv : Nat → Nat) (g : Int32) (y m i : Nat) (s : PS) : PO PS := ((knownX kd nv 0 s).bd (wtl g y m i)).bd (numX kd vl 1 9999)
theorem step_er {g : Int32} {i : Nat} {s : PS} {e : Nat × Nat} (hg : ∀ q, knownR kd nv 0 s = .ok q → g = q.1) (h : chainW kd vl nv g s.at_ (s.n 3) i s = .error e) : stepW kd vl nv i s = .error e := by
  unfold chainW knownX at h
  unfold stepW
  cases h1 : knownR kd nv 0 s with
  | error e => simp only [h1, bd_error] at h ⊢; exact h
  | ok q =>
    have e1 := (known_good h1).2.1
    have eg := hg q h1
    simp only [h1, bd_ok] at h ⊢
    unfold wtl at h
    rw [eg, ← e1.1] at h
    simp only [bd_ok] at h
    unfold numX at h
    cases h2 : numR kd vl 1 9999 (if 0 ≤ q.1 ∧ hasW q.2.t (q.2.n 3) i q.1 then tellR 3 s.at_ q.2 else q.2) with
    | error e => simp only [h2, bd_error] at h ⊢; exact h
    | ok v => simp only [h2, bd_ok] at h; cases h
theorem step_ok {g : Int32} {i : Nat} {s s4 : PS} (hg : ∀ q, knownR kd nv 0 s = .ok q → g = q.1) (h : chainW kd vl nv g s.at_ (s.n 3) i s = .ok s4) : ∃ w v, (knownX kd nv 0 s).bd (wtl g s.at_ (s.n 3) i) = .ok w ∧ numR kd vl 1 9999 w = .ok v ∧ v.2 = s4 ∧ Sm s s4 ∧ s.at_ + 2 = s4.at_ ∧
    stepW kd vl nv i s = .ok (s4.tx s.n (sU 10 (4 * s.n 3 + i) g (sU 11 (4 * s.n 3 + i) v.1 s.t)) s.lw s.nm) := by
  unfold chainW knownX at h
  unfold stepW
  cases h1 : knownR kd nv 0 s with
  | error e => simp only [h1, bd_error] at h; cases h
  | ok q =>
    have e1 := (known_good h1).2.1
    have eg := hg q h1
    simp only [h1, bd_ok] at h ⊢
    have hw : ∃ w, wtl g s.at_ (s.n 3) i q.2 = .ok w ∧ w = (if 0 ≤ q.1 ∧ hasW q.2.t (q.2.n 3) i q.1 then tellR 3 s.at_ q.2 else q.2) := ⟨_, rfl, by rw [eg, e1.1]⟩
    obtain ⟨w, hw, ew⟩ := hw
    rw [hw, bd_ok] at h
    unfold numX at h
    rw [← ew]
    have sw := wtl_sm hw
    cases h2 : numR kd vl 1 9999 w with
    | error e => simp only [h2, bd_error] at h; cases h
    | ok v =>
      obtain ⟨-, e2, -⟩ := num_good h2
      simp only [h2, bd_ok] at h ⊢
      injection h with h
      have en : v.2.n = s.n := by rw [e2.1, sw.1, e1.1]
      have et : v.2.t = s.t := by rw [e2.2.1, sw.2.1, e1.2.1]
      have el : v.2.lw = s.lw := by rw [e2.2.2.1, sw.2.2.1, e1.2.2.1]
      have em : v.2.nm = s.nm := by rw [e2.2.2.2.1, sw.2.2.2.1, e1.2.2.2.1]
      have a1 := e1.2.2.2.2.1; have a2 := e2.2.2.2.2.1; have a3 := sw.2.2.2.2
      refine ⟨w, v, ?_, h2, h, ⟨by rw [← h]; exact en, by rw [← h]; exact et, by rw [← h]; exact el, by rw [← h]; exact em, by rw [← h]; omega⟩, by rw [← h]; omega, ?_⟩
      · simp only [knownX, h1, bd_ok]; exact hw
      · rw [en, et, el, em, ← h, eg]
theorem pays_ok {s s4 : PS} (h : numX kd vl 0 9999 s = .ok s4) : ∃ v, numR kd vl 0 9999 s = .ok v ∧ v.2 = s4 ∧ Sm s s4 ∧ s.at_ + 1 = s4.at_ ∧ paysB kd vl s = .ok (s4.tx s.n (sU 8 (s.n 3) v.1 s.t) s.lw s.nm) := by
  unfold numX at h
  unfold paysB
  cases h1 : numR kd vl 0 9999 s with
  | error e => simp only [h1, bd_error] at h; cases h
  | ok v =>
    obtain ⟨-, e1, -⟩ := num_good h1
    simp only [h1, bd_ok] at h ⊢
    injection h with h
    have sm := (Sm.refl s).ext e1
    refine ⟨v, rfl, h, by rw [← h]; exact sm, by rw [← h]; exact e1.2.2.2.2.1.symm, ?_⟩
    rw [e1.1, e1.2.1, e1.2.2.1, e1.2.2.2.1, ← h]
theorem pays_er {s : PS} {e : Nat × Nat} (h : numX kd vl 0 9999 s = .error e) : paysB kd vl s = .error e := by
  unfold numX at h
  unfold paysB
  cases h1 : numR kd vl 0 9999 s with
  | error e => simp only [h1, bd_error] at h ⊢; exact h
  | ok v => simp only [h1, bd_ok] at h; cases h
theorem IV.tx8 {s : PS} (h : IV s) (p : Int32) : IV (s.tx s.n (sU 8 (s.n 3) p s.t) s.lw s.nm) := by
  refine ⟨h.a4, h.n0, h.n1, h.n2, h.n3, h.l0, h.l1, h.l2, h.lo, fun z => ?_⟩
  refine (h.tw z).same (fun k h8 h12 h9 h10 h11 => sU_ne h8) (fun m _ => ?_) (fun m k hm hk => ?_)
  · show sU 8 (s.n 3) p s.t 9 m = _; rw [sU_ne (by omega)]
  · show sU 8 (s.n 3) p s.t 10 _ = _; rw [sU_ne (by omega)]
end TWC
