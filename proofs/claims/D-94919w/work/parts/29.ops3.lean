/-! more of what the orders leave behind; small laws for the model's walks -/
set_option maxRecDepth 100000
def undoO (σ : tab) (U : List tab) : RES := match U.getLast? with
  | none => no U σ 0
  | some τ => (1, τ, U.dropLast)
theorem KN.pop {k : Nat} {σ : tab} {U : List tab} {X Hs X' : Nat → Int32} {un : Nat} (h : KN k σ U X Hs un) (hk : k ≤ 8) (h0 : ¬ un = 0) (hx : ∀ j, j < 120 → X' j = Hs (120 * (un - 1) + j)) : 1 = (undoO σ U).1 ∧ KN k (undoO σ U).2.1 (undoO σ U).2.2 X' Hs (un - 1) := by
  obtain ⟨h1, h2, rfl, h4⟩ := h
  rcases List.eq_nil_or_concat U with e | ⟨V, τ, e⟩
  · subst e; exact absurd rfl h0
  · subst e
    have e1 : undoO σ (V.concat τ) = (1, τ, V) := by unfold undoO; simp
    rw [e1]
    refine ⟨rfl, ?_, ?_, ?_, ?_⟩
    · refine (h2 V.length τ (by simp)).copy hk (fun j hj => ?_)
      rw [hx j hj]; congr 3; simp
    · intro i ρ hi
      have hl : i < V.length := (List.getElem?_eq_some_iff.mp hi).1
      exact h2 i ρ (by simp [List.getElem?_append_left hl, hi])
    · simp
    · simp at h4; show V.length ≤ 40; omega
theorem KN.pop0 {k : Nat} {σ : tab} {U : List tab} {X Hs : Nat → Int32} {un : Nat} (h : KN k σ U X Hs un) (h0 : un = 0) : undoO σ U = no U σ 0 := by
  obtain ⟨h1, h2, rfl, h4⟩ := h
  rw [List.eq_nil_of_length_eq_zero h0]; rfl
/-! slots -/
noncomputable def holdO (σ : tab) (hd : Nat → Option tab) (s : Int32) : Int32 × (Nat → Option tab) :=
  zi (inP s 0 2) (1, fun j => if j = s.toNatClampNeg then some σ else hd j) (0, hd)
noncomputable def restoreO (σ : tab) (U : List tab) (hd : Nat → Option tab) (s : Int32) : RES :=
  zi (inP s 0 2) (match hd s.toNatClampNeg with | some τ => (1, τ, []) | none => no U σ 0) (no U σ 0)
def HD (k : Nat) (hd : Nat → Option tab) (I X : Nat → Int32) : Prop := ∀ s, s < 3 → I s = (if (hd s).isSome then 1 else 0) ∧ ∀ τ, hd s = some τ → MR k τ (fun j => X (120 * s + j))
theorem HD.put {k : Nat} {hd : Nat → Option tab} {I X X' Nw : Nat → Int32} {σ : tab} {s : Nat} (h : HD k hd I X) (hs : s < 3) (hk : k ≤ 8) (hM : MR k σ Nw) (e1 : ∀ j, j < 120 → X' (120 * s + j) = Nw j) (e2 : ∀ i j, i < 3 → i ≠ s → j < 120 → X' (120 * i + j) = X (120 * i + j)) : HD k (fun j => if j = s then some σ else hd j) (upd I s 1) X' := by
  intro i hi
  by_cases e : i = s
  · subst e
    simp only [if_pos]
    refine ⟨by rw [pk_us]; rfl, fun τ hτ => ?_⟩
    cases hτ
    exact hM.copy hk e1
  · simp only [if_neg e]
    refine ⟨by rw [pk_un e]; exact (h i hi).1, fun τ hτ => ?_⟩
    exact ((h i hi).2 τ hτ).copy hk (fun j hj => e2 i j hi e hj)
/-! what was weighed -/
def TD (c : Nat) (T : tab) (A B C E : Nat → Int32) : Prop := c ≤ 20 ∧ ∀ i, i < c → A i = T 0 i ∧ B i = T 1 i ∧ C i = T 2 i ∧ E i = T 3 i
def TOK (n : Nat → Nat) (c : Nat) (T : tab) : Prop := ∀ i, i < c → vp_in (T 0 i) (n 1) ∧ vp_in (T 1 i) (n 0) ∧ vp_in (T 2 i) 100
theorem TD.push {c : Nat} {T : tab} {A B C E : Nat → Int32} (h : TD c T A B C E) (hc : ¬ c = 20) (x y z w : Int32) : TD (c + 1) (sU 3 c w (sU 2 c z (sU 1 c y (sU 0 c x T)))) (upd A c x) (upd B c y) (upd C c z) (upd E c w) := by
  have h20 := h.1
  refine ⟨by omega, fun i hi => ?_⟩
  by_cases e : i = c
  · subst e; simp [sU_if, pk_us]
  · have := h.2 i (by omega)
    simp [sU_if, pk_un e, e, this]
theorem shl1 {k : Nat} (hk : k < 31) : (1 : Int32) <<< (nI k &&& 31) = nI (2 ^ k) := by
  have h : ∀ j, j < 31 → (1 : Int32) <<< (nI j &&& 31) = nI (2 ^ j) := by decide +kernel
  exact h k hk
theorem le_pred {m L : Nat} (hm : m < 2 ^ 30) (hL : L < 2 ^ 30) : nI m ≤ nI L - 1 ↔ m < L := by
  rw [Int32.le_iff_toInt_le, nI_toInt (by omega), i_sub (by rw [nI_toInt (by omega)]; show (-2147483648 : Int) ≤ _ - 1; omega) (by rw [nI_toInt (by omega)]; show (_ : Int) - 1 < _; omega), nI_toInt (by omega)]
  show (m : Int) ≤ (L : Int) - 1 ↔ _
  omega
theorem RS.far' {n : Nat → Nat} {σ : tab} {X F : Nat → Int32} {lots : Int32} (h : RS n σ X F lots) {a b : Nat} : RS n (farT σ a b) X (upd (upd F a (σ 1 b)) b (σ 1 a)) lots := by
  refine ⟨h.1.irr 1 (by omega) _, fun j hj => ?_, ?_⟩
  · unfold farT; rw [sA_eq]; unfold upd
    split
    · rfl
    · split
      · rfl
      · exact h.2.1 j hj
  · unfold farT; rw [sA_ne (by omega)]; exact h.2.2
theorem RS.lots {n : Nat → Nat} {σ : tab} {X F : Nat → Int32} {l v : Int32} (h : RS n σ X F l) : RS n (sS 18 v σ) X F v :=
  ⟨h.1.irr 18 (by omega) _, fun j hj => by rw [sS_ne (by omega)]; exact h.2.1 j hj, by rw [sS_if, if_pos rfl]⟩
theorem WF.far {n : Nat → Nat} {B : Int} {σ : tab} (h : WF n B σ) {a b : Nat} (ha : a < n 1) (hb : b < n 1) : WF n B (farT σ a b) := by
  have e : ∀ k, k ≠ 1 → farT σ a b k = σ k := fun k hk => sA_ne hk
  obtain ⟨a1, a2, a3, a4, a5, a6, a7, a8, am⟩ := h
  refine ⟨by rw [e 10 (by omega)]; exact a1, by rw [e 3 (by omega)]; exact a2, by rw [e 3 (by omega), e 7 (by omega)]; exact a3, by rw [e 5 (by omega), e 3 (by omega), e 6 (by omega)]; exact a4, by rw [e 3 (by omega), e 4 (by omega)]; exact a5, by rw [e 8 (by omega)]; exact a6, fun j hj => ?_, by rw [e 12 (by omega)]; exact a8, am.congr (e 0 (by omega)) (e 5 (by omega)) (fun q => e _ (by omega))⟩
  unfold farT; rw [sA_eq]; unfold upd
  split
  · exact a7 a ha
  · split
    · exact a7 b hb
    · exact a7 j hj
theorem WF.swap1 {n : Nat → Nat} {B : Int} {σ : tab} (h : WF n B σ) {a b g : Nat} (ha : a < 6) (hb : b < 6) (hg : g < 6) : WF n B (sU (30 + b) g (σ (30 + a) g) (sU (30 + a) g (σ (30 + b) g) σ)) := by
  have e : ∀ k, k < 30 → sU (30 + b) g (σ (30 + a) g) (sU (30 + a) g (σ (30 + b) g) σ) k = σ k := fun k hk => by rw [sU_ne (by omega), sU_ne (by omega)]
  have hB := h.am.2.2.2.2
  have h1 := h.am.2.1 a g ha hg
  have h2 := h.am.2.1 b g hb hg
  have hl := h.am.2.2.2.1
  have am : AM B (sU (30 + b) g (σ (30 + a) g) (sU (30 + a) g (σ (30 + b) g) σ)) := by
    refine ⟨by rw [e 0 (by omega)]; exact h.am.1, fun q r hq hr => ?_, by rw [e 5 (by omega)]; exact h.am.2.2.1, ?_, hB⟩
    · rw [sU_if, sU_if]
      split
      · exact h1
      · split
        · exact h2
        · exact h.am.2.1 q r hq hr
    · rw [tot_uh _ hb hg, tot_uh _ ha hg, sU_if]
      split
      · next q => have e2 : b = a := by omega
                  subst e2; omega
      · omega
  obtain ⟨a1, a2, a3, a4, a5, a6, a7, a8, -⟩ := h
  exact ⟨by rw [e 10 (by omega)]; exact a1, by rw [e 3 (by omega)]; exact a2, by rw [e 3 (by omega), e 7 (by omega)]; exact a3, by rw [e 5 (by omega), e 3 (by omega), e 6 (by omega)]; exact a4, by rw [e 3 (by omega), e 4 (by omega)]; exact a5, by rw [e 8 (by omega)]; exact a6, by rw [e 1 (by omega)]; exact a7, by rw [e 12 (by omega)]; exact a8, am⟩
theorem WF.swap {n : Nat → Nat} {B : Int} {σ : tab} (h : WF n B σ) {a b : Nat} (ha : a < 6) (hb : b < 6) : ∀ k, k ≤ 6 → WF n B (swapTo σ a b k)
  | 0, _ => h
  | k + 1, hk => (WF.swap h ha hb k (by omega)).swap1 ha hb (by omega)
theorem WF.begin {n : Nat → Nat} {t : tab} {lw : Nat → Option LAW} (hT : TW n t lw) : WF n 60000 (beginP n t) := by
  obtain ⟨t0, t1, t2, t3, th, tr, tm, tg, tl⟩ := hT
  have e0 : ∀ g, beginP n t 0 g = if g < n 0 then t 0 g else 0 := fun g => by simp [beginP]
  have e1 : ∀ g, beginP n t 1 g = t 2 g := fun g => by simp [beginP]
  have e10 : ∀ r, beginP n t 10 r = if r < n 2 then t 4 r else 0 := fun g => by simp [beginP]
  have ez : ∀ k j, k ≠ 0 → k ≠ 1 → k ≠ 6 → k ≠ 7 → k ≠ 9 → k ≠ 10 → k ≠ 18 → beginP n t k j = 0 := fun k j h0 h1 h2 h3 h4 h5 h6 => by simp [beginP, h0, h1, h2, h3, h4, h5, h6]
  have hg : ∀ g, 0 ≤ (beginP n t 0 g).toInt ∧ (beginP n t 0 g).toInt ≤ 9999 := fun g => by
    rw [e0]; split
    · next q => exact ⟨(i_le0 _).mp (tg g q).1, by have := (tg g q).2.1; rw [Int32.le_iff_toInt_le] at this; exact this⟩
    · exact ⟨by decide, by decide⟩
  have hs : ∀ k, sumI (beginP n t 0) k ≤ 9999 * k := by
    intro k
    induction k with
    | zero => exact Int.le_refl _
    | succ k ih => show sumI (beginP n t 0) k + (beginP n t 0 k).toInt ≤ _; have := (hg k).2; omega
  have hz : ∀ f : Nat → Int32, (∀ j, f j = 0) → ∀ k, sumI f k = 0 := by
    intro f hf k
    induction k with
    | zero => rfl
    | succ k ih => show sumI f k + (f k).toInt = 0; rw [ih, hf]; rfl
  have hh : ∀ k, sumH (beginP n t) k = 0 := by
    intro k
    induction k with
    | zero => rfl
    | succ k ih => show sumH (beginP n t) k + sumI (beginP n t (30 + k)) 6 = 0; rw [ih, hz _ (fun j => ez _ j (by omega) (by omega) (by omega) (by omega) (by omega) (by omega) (by omega))]; rfl
  refine ⟨fun r hr => by rw [e10, if_pos hr]; exact (tr r hr).1, fun r hr => Or.inl (ez 3 r (by omega) (by omega) (by omega) (by omega) (by omega) (by omega) (by omega)), fun r hr h => ?_, fun r hr h => ?_, fun r hr h => ?_, fun r hr => ?_, fun h hh => by rw [e1]; exact (th h hh).2, ?_, ?_⟩
  · rw [ez 3 r (by omega) (by omega) (by omega) (by omega) (by omega) (by omega) (by omega)] at h; exact absurd h (by decide)
  · rw [ez 5 r (by omega) (by omega) (by omega) (by omega) (by omega) (by omega) (by omega)] at h; exact absurd (by decide) h
  · rw [ez 3 r (by omega) (by omega) (by omega) (by omega) (by omega) (by omega) (by omega)] at h; exact absurd h (by decide)
  · rw [ez 8 r (by omega) (by omega) (by omega) (by omega) (by omega) (by omega) (by omega)]; decide
  · rw [ez 12 0 (by omega) (by omega) (by omega) (by omega) (by omega) (by omega) (by omega)]; decide
  · refine ⟨fun g _ => (hg g).1, fun h g _ _ => by rw [ez _ g (by omega) (by omega) (by omega) (by omega) (by omega) (by omega) (by omega)]; decide, fun r _ => by rw [ez 5 r (by omega) (by omega) (by omega) (by omega) (by omega) (by omega) (by omega)]; decide, ?_, by decide⟩
    unfold tot
    rw [hh, hz _ (fun j => ez 5 j (by omega) (by omega) (by omega) (by omega) (by omega) (by omega) (by omega))]
    have := hs 6
    omega
/-! fees and worths have no end above -/
theorem TW.fee {n : Nat → Nat} {t : tab} {lw : Nat → Option LAW} (h : TW n t lw) {r : Nat} (hr : r < n 2) : 0 ≤ (t 7 r).toInt ∧ (t 7 r).toInt ≤ 99 := by
  have := (h.2.2.2.2.2.1 r hr).2.2.2.2
  exact ⟨(i_le0 _).mp this.1, by have q := this.2; rw [Int32.le_iff_toInt_le] at q; exact q⟩
theorem TW.pence {n : Nat → Nat} {t : tab} {lw : Nat → Option LAW} (h : TW n t lw) {g : Nat} (hg : g < n 0) : 0 ≤ (t 1 g).toInt ∧ (t 1 g).toInt ≤ 99 := by
  have := (h.2.2.2.2.2.2.2.1 g hg).2.2
  exact ⟨(i_le0 _).mp this.1, by have q := this.2; rw [Int32.le_iff_toInt_le] at q; exact q⟩
theorem fees_in {n : Nat → Nat} {t : tab} {lw : Nat → Option LAW} (h : TW n t lw) (set : Int32) : ∀ k, k ≤ n 2 → 0 ≤ (feesTo t set k).toInt ∧ (feesTo t set k).toInt ≤ 99 * k
  | 0, _ => ⟨by show (0 : Int) ≤ (0 : Int32).toInt; decide, by show (0 : Int32).toInt ≤ 99 * ((0 : Nat) : Int); decide⟩
  | k + 1, hk => by
    have ih := fees_in h set k (by omega)
    have hf := h.fee (show k < n 2 by omega)
    have h8 := h.n2
    by_cases hb : bitP set k
    · rw [show feesTo t set (k + 1) = feesTo t set k + t 7 k from zi_t hb _ _, i_add (by omega) (by omega)]; omega
    · rw [show feesTo t set (k + 1) = feesTo t set k from zi_f hb _ _]; omega
theorem i_mul {a b : Int32} (h1 : -2147483648 ≤ a.toInt * b.toInt) (h2 : a.toInt * b.toInt < 2147483648) : (a * b).toInt = a.toInt * b.toInt := by
  rw [Int32.toInt_mul]; exact Int.bmod_eq_of_le_mul_two (by omega) (by omega)
theorem sumI6 (f : Nat → Int32) : sumI f 6 = (f 0).toInt + (f 1).toInt + (f 2).toInt + (f 3).toInt + (f 4).toInt + (f 5).toInt := by
  show 0 + (f 0).toInt + (f 1).toInt + (f 2).toInt + (f 3).toInt + (f 4).toInt + (f 5).toInt = _; omega
theorem inHole_i {B : Int} {σ : tab} (h : AM B σ) {a : Nat} (ha : a < 6) : (inHoleP σ a).toInt = sumI (σ (30 + a)) 6 ∧ 0 ≤ sumI (σ (30 + a)) 6 ∧ sumI (σ (30 + a)) 6 ≤ B := by
  have hn := fun g hg => h.2.1 a g ha hg
  have s0 := sumI_nn 6 hn
  have hH : sumI (σ (30 + a)) 6 ≤ sumH σ 6 := by
    have key : ∀ k, k ≤ 6 → a < k → sumI (σ (30 + a)) 6 ≤ sumH σ k := by
      intro k
      induction k with
      | zero => intro _ h; omega
      | succ k ih =>
        intro h6 hk
        show _ ≤ sumH σ k + sumI (σ (30 + k)) 6
        have p1 := sumI_nn 6 (fun g hg => h.2.1 k g (by omega) hg)
        have p2 := sumH_nn k (fun q g hq hg => h.2.1 q g (by omega) hg)
        by_cases e : a = k
        · subst e; omega
        · have := ih (by omega) (by omega); omega
    exact key 6 (Nat.le_refl _) ha
  have ht := h.2.2.2.1
  have hB := h.2.2.2.2
  have p0 := sumI_nn 6 h.1
  have p5 := sumI_nn 8 h.2.2.1
  unfold tot at ht
  have hs : sumI (σ (30 + a)) 6 ≤ B := by omega
  refine ⟨?_, s0, hs⟩
  have g0 := hn 0 (by omega); have g1 := hn 1 (by omega); have g2 := hn 2 (by omega); have g3 := hn 3 (by omega); have g4 := hn 4 (by omega); have g5 := hn 5 (by omega)
  rw [sumI6] at hs ⊢
  have z : (0 : Int32).toInt = 0 := rfl
  unfold inHoleP
  have e1 : ((0 : Int32) + σ (30 + a) 0).toInt = (σ (30 + a) 0).toInt := by rw [i_add (by omega) (by omega)]; omega
  have e2 : ((0 : Int32) + σ (30 + a) 0 + σ (30 + a) 1).toInt = (σ (30 + a) 0).toInt + (σ (30 + a) 1).toInt := by rw [i_add (by omega) (by omega), e1]
  have e3 : ((0 : Int32) + σ (30 + a) 0 + σ (30 + a) 1 + σ (30 + a) 2).toInt = (σ (30 + a) 0).toInt + (σ (30 + a) 1).toInt + (σ (30 + a) 2).toInt := by rw [i_add (by omega) (by omega), e2]
  have e4 : ((0 : Int32) + σ (30 + a) 0 + σ (30 + a) 1 + σ (30 + a) 2 + σ (30 + a) 3).toInt = (σ (30 + a) 0).toInt + (σ (30 + a) 1).toInt + (σ (30 + a) 2).toInt + (σ (30 + a) 3).toInt := by rw [i_add (by omega) (by omega), e3]
  have e5 : ((0 : Int32) + σ (30 + a) 0 + σ (30 + a) 1 + σ (30 + a) 2 + σ (30 + a) 3 + σ (30 + a) 4).toInt = (σ (30 + a) 0).toInt + (σ (30 + a) 1).toInt + (σ (30 + a) 2).toInt + (σ (30 + a) 3).toInt + (σ (30 + a) 4).toInt := by rw [i_add (by omega) (by omega), e4]
  rw [i_add (by omega) (by omega), e5]
theorem worth_in {n : Nat → Nat} {B : Int} {t σ : tab} {lw : Nat → Option LAW} (hT : TW n t lw) (h : AM B σ) (hB : B ≤ 5000000) {a : Nat} (ha : a < n 1) : 0 ≤ (worthP t σ a).toInt ∧ (worthP t σ a).toInt ≤ 99 * sumI (σ (30 + a)) 6 := by
  have h6 := hT.n1
  have h0 := hT.n0
  have hgr := Nat.lt_of_lt_of_le (vp_lt (hT.h3 ha)) h0
  have hp := hT.pence (vp_lt (hT.h3 ha))
  obtain ⟨i1, i2, i3⟩ := inHole_i h (show a < 6 by omega)
  have ho := h.2.1 a (t 3 a).toNatClampNeg (by omega) hgr
  have hle := sumI_ge 6 (fun g hg => h.2.1 a g (show a < 6 by omega) hg) hgr
  unfold worthP; simp only
  generalize hown : σ (30 + a) (t 3 a).toNatClampNeg = own at *
  generalize hpe : t 1 (t 3 a).toNatClampNeg = pe at *
  generalize hall : inHoleP σ a = all at *
  have z2 : (2 : Int32).toInt = 2 := rfl
  have d1 : (all - own).toInt = all.toInt - own.toInt := i_sub (by omega) (by omega)
  have d2 : (2 * (all - own)).toInt = 2 * (all.toInt - own.toInt) := by rw [i_mul (by rw [z2, d1]; omega) (by rw [z2, d1]; omega), z2, d1]
  have d3 : (own - 2 * (all - own)).toInt = own.toInt - 2 * (all.toInt - own.toInt) := by rw [i_sub (by omega) (by omega), d2]
  have b1 : own.toInt - 2 * (all.toInt - own.toInt) ≤ all.toInt := by omega
  have b2 : -10000000 ≤ own.toInt - 2 * (all.toInt - own.toInt) := by omega
  generalize hv : own.toInt - 2 * (all.toInt - own.toInt) = v at *
  have m1 : pe.toInt * v ≤ 99 * all.toInt := by
    rcases Int.le_total 0 v with q | q
    · have := Int.mul_le_mul_of_nonneg_right hp.2 q; omega
    · have := Int.mul_nonpos_of_nonneg_of_nonpos hp.1 q; omega
  have m2 : -990000000 ≤ pe.toInt * v := by
    rcases Int.le_total 0 v with q | q
    · have := Int.mul_nonneg hp.1 q; omega
    · have q1 := Int.mul_le_mul_of_nonpos_right hp.2 q; omega
  have d4 : (pe * (own - 2 * (all - own))).toInt = pe.toInt * v := by rw [i_mul (by rw [d3]; omega) (by rw [d3]; omega), d3]
  split
  · next q => rw [Int32.lt_iff_toInt_lt] at q; rw [d4] at q ⊢; exact ⟨Int.le_of_lt q, by omega⟩
  · exact ⟨Int.le_refl _, by show (0 : Int) ≤ _; omega⟩
theorem worths_in {n : Nat → Nat} {B : Int} {t σ : tab} {lw : Nat → Option LAW} (hT : TW n t lw) (h : AM B σ) (hB : B ≤ 5000000) : ∀ k, k ≤ n 1 → 0 ≤ (worthTo t σ k).toInt ∧ (worthTo t σ k).toInt ≤ 99 * sumH σ k
  | 0, _ => ⟨by show (0 : Int) ≤ (0 : Int32).toInt; decide, by show (0 : Int32).toInt ≤ 99 * (0 : Int); decide⟩
  | k + 1, hk => by
    have ih := worths_in hT h hB k (by omega)
    have hw := worth_in hT h hB (show k < n 1 by omega)
    have h6 := hT.n1
    have hH : sumH σ (k + 1) ≤ B := by
      have key : ∀ m, m ≤ 6 → ∀ j, j ≤ m → sumH σ j ≤ sumH σ m := by
        intro m
        induction m with
        | zero => intro _ j hj; rw [show j = 0 by omega]; exact Int.le_refl _
        | succ m ih =>
          intro h6 j hj
          by_cases e : j = m + 1
          · rw [e]; exact Int.le_refl _
          · have q := ih (by omega) j (by omega)
            have p1 := sumI_nn 6 (fun g hg => h.2.1 m g (by omega) hg)
            show _ ≤ sumH σ m + sumI (σ (30 + m)) 6; omega
      have q := key 6 (Nat.le_refl _) (k + 1) (by omega)
      have ht := h.2.2.2.1
      have p0 := sumI_nn 6 h.1
      have p5 := sumI_nn 8 h.2.2.1
      unfold tot at ht; omega
    have e : sumH σ (k + 1) = sumH σ k + sumI (σ (30 + k)) 6 := rfl
    rw [show worthTo t σ (k + 1) = worthTo t σ k + worthP t σ k from rfl, i_add (by omega) (by omega)]
    omega
