/-! what is right of a house, and stays so -/
set_option maxRecDepth 100000
def sumI (f : Nat → Int32) : Nat → Int
  | 0 => 0
  | k + 1 => sumI f k + (f k).toInt
def sumH (σ : tab) : Nat → Int
  | 0 => 0
  | k + 1 => sumH σ k + sumI (σ (30 + k)) 6
/-- all that lies anywhere -/
def tot (σ : tab) : Int := sumI (σ 0) 6 + sumH σ 6 + sumI (σ 5) 8
def AM (B : Int) (σ : tab) : Prop := (∀ g, g < 6 → 0 ≤ (σ 0 g).toInt) ∧ (∀ h g, h < 6 → g < 6 → 0 ≤ (σ (30 + h) g).toInt) ∧ (∀ r, r < 8 → 0 ≤ (σ 5 r).toInt) ∧ tot σ ≤ B ∧ B < 2147483648
def WF (n : Nat → Nat) (B : Int) (σ : tab) : Prop :=
  (∀ r, r < n 2 → vp_in (σ 10 r) (n 0)) ∧ (∀ r, r < n 2 → σ 3 r = 0 ∨ σ 3 r = 1 ∨ σ 3 r = 2 ∨ σ 3 r = 3) ∧ (∀ r, r < n 2 → σ 3 r = 1 → vp_in (σ 7 r) (n 1)) ∧
  (∀ r, r < n 2 → ¬ σ 5 r ≤ 0 → σ 3 r = 1 ∧ vp_in (σ 6 r) (n 0)) ∧ (∀ r, r < n 2 → σ 3 r = 2 → 1 ≤ σ 4 r) ∧ (∀ r, r < n 2 → 0 ≤ σ 8 r ∧ σ 8 r ≤ 99) ∧ (∀ h, h < n 1 → 1 ≤ σ 1 h) ∧ 0 ≤ σ 12 0 ∧ AM B σ
section WFS
variable {n : Nat → Nat} {B : Int} {σ : tab}
theorem WF.w10 (h : WF n B σ) {r : Nat} (hr : r < n 2) : vp_in (σ 10 r) (n 0) := h.1 r hr
theorem WF.w3 (h : WF n B σ) {r : Nat} (hr : r < n 2) : σ 3 r = 0 ∨ σ 3 r = 1 ∨ σ 3 r = 2 ∨ σ 3 r = 3 := h.2.1 r hr
theorem WF.w7 (h : WF n B σ) {r : Nat} (hr : r < n 2) (e : σ 3 r = 1) : vp_in (σ 7 r) (n 1) := h.2.2.1 r hr e
theorem WF.w5 (h : WF n B σ) {r : Nat} (hr : r < n 2) (e : ¬ σ 5 r ≤ 0) : σ 3 r = 1 ∧ vp_in (σ 6 r) (n 0) := h.2.2.2.1 r hr e
theorem WF.w4 (h : WF n B σ) {r : Nat} (hr : r < n 2) (e : σ 3 r = 2) : 1 ≤ σ 4 r := h.2.2.2.2.1 r hr e
theorem WF.w8 (h : WF n B σ) {r : Nat} (hr : r < n 2) : 0 ≤ σ 8 r ∧ σ 8 r ≤ 99 := h.2.2.2.2.2.1 r hr
theorem WF.w1 (h : WF n B σ) {k : Nat} (hk : k < n 1) : 1 ≤ σ 1 k := h.2.2.2.2.2.2.1 k hk
theorem WF.w12 (h : WF n B σ) : 0 ≤ σ 12 0 := h.2.2.2.2.2.2.2.1
theorem WF.am (h : WF n B σ) : AM B σ := h.2.2.2.2.2.2.2.2
theorem i_le0 (x : Int32) : 0 ≤ x ↔ 0 ≤ x.toInt := by rw [Int32.le_iff_toInt_le]; rfl
theorem i_nle0 (x : Int32) : ¬ x ≤ 0 ↔ 0 < x.toInt := by rw [Int32.le_iff_toInt_le]; show ¬ x.toInt ≤ 0 ↔ _; omega
theorem WF.nn (h : WF n B σ) : ∀ g, g < 6 → 0 ≤ σ 0 g := fun g hg => (i_le0 _).mpr (h.am.1 g hg)
/-- what WF asks of -/
theorem WF.congr {σ2 : tab} (h : WF n B σ) (e : ∀ k, k ≠ 19 → k ≠ 13 → k ≠ 14 → k ≠ 15 → k ≠ 16 → k ≠ 17 → k ≠ 18 → k ≠ 9 → k ≠ 11 → σ2 k = σ k) : WF n B σ2 := by
  have e0 := e 0 (by omega) (by omega) (by omega) (by omega) (by omega) (by omega) (by omega) (by omega) (by omega)
  have e1 := e 1 (by omega) (by omega) (by omega) (by omega) (by omega) (by omega) (by omega) (by omega) (by omega)
  have e3 := e 3 (by omega) (by omega) (by omega) (by omega) (by omega) (by omega) (by omega) (by omega) (by omega)
  have e4 := e 4 (by omega) (by omega) (by omega) (by omega) (by omega) (by omega) (by omega) (by omega) (by omega)
  have e5 := e 5 (by omega) (by omega) (by omega) (by omega) (by omega) (by omega) (by omega) (by omega) (by omega)
  have e6 := e 6 (by omega) (by omega) (by omega) (by omega) (by omega) (by omega) (by omega) (by omega) (by omega)
  have e7 := e 7 (by omega) (by omega) (by omega) (by omega) (by omega) (by omega) (by omega) (by omega) (by omega)
  have e8 := e 8 (by omega) (by omega) (by omega) (by omega) (by omega) (by omega) (by omega) (by omega) (by omega)
  have e10 := e 10 (by omega) (by omega) (by omega) (by omega) (by omega) (by omega) (by omega) (by omega) (by omega)
  have e12 := e 12 (by omega) (by omega) (by omega) (by omega) (by omega) (by omega) (by omega) (by omega) (by omega)
  have eh : ∀ a, σ2 (30 + a) = σ (30 + a) := fun a => e _ (by omega) (by omega) (by omega) (by omega) (by omega) (by omega) (by omega) (by omega) (by omega)
  have es : ∀ k, sumH σ2 k = sumH σ k := by
    intro k
    induction k with
    | zero => rfl
    | succ k ih => show sumH σ2 k + sumI (σ2 (30 + k)) 6 = sumH σ k + sumI (σ (30 + k)) 6; rw [ih, eh]
  have et : tot σ2 = tot σ := by unfold tot; rw [e0, e5, es]
  obtain ⟨a1, a2, a3, a4, a5, a6, a7, a8, b1, b2, b3, b4⟩ := h
  refine ⟨by rw [e10]; exact a1, by rw [e3]; exact a2, by rw [e3, e7]; exact a3, by rw [e5, e3, e6]; exact a4, by rw [e3, e4]; exact a5, by rw [e8]; exact a6, by rw [e1]; exact a7, by rw [e12]; exact a8, by rw [e0]; exact b1, fun a g ha hg => by rw [eh]; exact b2 a g ha hg, by rw [e5]; exact b3, by rw [et]; exact b4⟩
end WFS
theorem LD.zero {σ : tab} {X : Nat → Int32} (h : ∀ j, j < 6 → X j = 0) : LD (sS 19 0 σ) X := fun g hg => by
  rw [h g hg]
  refine zb_0 ?_
  rw [hasL_bt _ (by omega)]
  show ¬ bt 0 g = true
  rw [b_0]; simp
theorem dropsP_ne {σ : tab} {r j : Nat} (h1 : j ≠ 11) (h2 : j ≠ 5) (h3 : j ≠ 6) (h4 : j < 30) : dropsP σ r j = σ j := by
  unfold dropsP
  rw [sU_ne h3, sU_ne h2]
  split
  · rfl
  · rw [sU_ne h1, sU_ne (by omega)]
/-! sums of amounts -/
theorem i_lt (x : Int32) : x.toInt < 2147483648 := Int32.toInt_lt x
theorem i_ge (x : Int32) : -2147483648 ≤ x.toInt := Int32.le_toInt x
theorem i_add {a b : Int32} (h1 : -2147483648 ≤ a.toInt + b.toInt) (h2 : a.toInt + b.toInt < 2147483648) : (a + b).toInt = a.toInt + b.toInt := by
  rw [Int32.toInt_add]; exact Int.bmod_eq_of_le_mul_two (by omega) (by omega)
theorem i_sub {a b : Int32} (h1 : -2147483648 ≤ a.toInt - b.toInt) (h2 : a.toInt - b.toInt < 2147483648) : (a - b).toInt = a.toInt - b.toInt := by
  rw [Int32.toInt_sub]; exact Int.bmod_eq_of_le_mul_two (by omega) (by omega)
theorem sumI_nn {f : Nat → Int32} : ∀ k, (∀ j, j < k → 0 ≤ (f j).toInt) → 0 ≤ sumI f k
  | 0, _ => Int.le_refl _
  | k + 1, h => by have := sumI_nn k (fun j hj => h j (by omega)); have := h k (by omega); show 0 ≤ sumI f k + (f k).toInt; omega
theorem sumI_ge {f : Nat → Int32} {j : Nat} : ∀ k, (∀ j, j < k → 0 ≤ (f j).toInt) → j < k → (f j).toInt ≤ sumI f k
  | 0, _, hj => by omega
  | k + 1, h, hj => by
    show (f j).toInt ≤ sumI f k + (f k).toInt
    have h0 := h k (by omega)
    by_cases e : j = k
    · have := sumI_nn k (fun j hj => h j (by omega)); subst e; omega
    · have := sumI_ge k (fun j hj => h j (by omega)) (show j < k by omega); omega
theorem sumI_congr {f g : Nat → Int32} : ∀ k, (∀ j, j < k → f j = g j) → sumI f k = sumI g k
  | 0, _ => rfl
  | k + 1, h => by show sumI f k + (f k).toInt = sumI g k + (g k).toInt; rw [sumI_congr k (fun j hj => h j (by omega)), h k (by omega)]
theorem sumI_upd (f : Nat → Int32) {j : Nat} (v : Int32) : ∀ k, j < k → sumI (upd f j v) k = sumI f k - (f j).toInt + v.toInt
  | 0, hj => by omega
  | k + 1, hj => by
    show sumI (upd f j v) k + (upd f j v k).toInt = sumI f k + (f k).toInt - (f j).toInt + v.toInt
    by_cases e : j = k
    · subst e; rw [pk_us, sumI_congr (g := f) j (fun q hq => pk_un (by omega))]; omega
    · rw [pk_un (by omega), sumI_upd f v k (by omega)]; omega
theorem sumH_congr {σ σ' : tab} : ∀ k, (∀ h, h < k → σ' (30 + h) = σ (30 + h)) → sumH σ' k = sumH σ k
  | 0, _ => rfl
  | k + 1, h => by show sumH σ' k + sumI (σ' (30 + k)) 6 = sumH σ k + sumI (σ (30 + k)) 6; rw [sumH_congr k (fun j hj => h j (by omega)), h k (by omega)]
theorem sumH_upd (σ : tab) {a g : Nat} (hg : g < 6) (v : Int32) : ∀ k, a < k → sumH (sU (30 + a) g v σ) k = sumH σ k - (σ (30 + a) g).toInt + v.toInt
  | 0, h => by omega
  | k + 1, h => by
    show sumH (sU (30 + a) g v σ) k + sumI (sU (30 + a) g v σ (30 + k)) 6 = sumH σ k + sumI (σ (30 + k)) 6 - (σ (30 + a) g).toInt + v.toInt
    by_cases e : a = k
    · subst e; rw [sumH_congr (σ := σ) a (fun q hq => sU_ne (by omega)), show sU (30 + a) g v σ (30 + a) = upd (σ (30 + a)) g v from sA_eq _ _ _, sumI_upd _ _ _ hg]; omega
    · rw [sU_ne (by omega), sumH_upd σ hg v k (by omega)]; omega
theorem sumH_nn {σ : tab} : ∀ k, (∀ h g, h < k → g < 6 → 0 ≤ (σ (30 + h) g).toInt) → 0 ≤ sumH σ k
  | 0, _ => Int.le_refl _
  | k + 1, h => by have := sumH_nn k (fun j g hj hg => h j g (by omega) hg); have := sumI_nn 6 (fun g hg => h k g (by omega) hg); show 0 ≤ sumH σ k + sumI (σ (30 + k)) 6; omega
theorem sumH_ge {σ : tab} {a g : Nat} (hg : g < 6) : ∀ k, (∀ h g, h < k → g < 6 → 0 ≤ (σ (30 + h) g).toInt) → a < k → (σ (30 + a) g).toInt ≤ sumH σ k
  | 0, _, hj => by omega
  | k + 1, h, hj => by
    show (σ (30 + a) g).toInt ≤ sumH σ k + sumI (σ (30 + k)) 6
    have h6 := sumI_nn 6 (fun g hg => h k g (by omega) hg)
    have h0 := sumH_nn k (fun j g hj hg => h j g (by omega) hg)
    by_cases e : a = k
    · subst e; have := sumI_ge 6 (fun g hg => h a g (by omega) hg) hg; omega
    · have := sumH_ge hg k (fun j g hj hg => h j g (by omega) hg) (show a < k by omega); omega
theorem tot_u0 (σ : tab) {g : Nat} (hg : g < 6) (v : Int32) : tot (sU 0 g v σ) = tot σ - (σ 0 g).toInt + v.toInt := by
  unfold tot
  rw [show sU 0 g v σ 0 = upd (σ 0) g v from sA_eq _ _ _, sumI_upd _ _ _ hg, sumH_congr (σ := σ) 6 (fun h _ => sU_ne (by omega)), sU_ne (k' := 5) (by omega)]; omega
theorem tot_uh (σ : tab) {a g : Nat} (ha : a < 6) (hg : g < 6) (v : Int32) : tot (sU (30 + a) g v σ) = tot σ - (σ (30 + a) g).toInt + v.toInt := by
  unfold tot
  rw [sU_ne (k' := 0) (by omega), sumH_upd _ hg _ _ ha, sU_ne (k' := 5) (by omega)]; omega
theorem tot_u5 (σ : tab) {r : Nat} (hr : r < 8) (v : Int32) : tot (sU 5 r v σ) = tot σ - (σ 5 r).toInt + v.toInt := by
  unfold tot
  rw [show sU 5 r v σ 5 = upd (σ 5) r v from sA_eq _ _ _, sumI_upd _ _ _ hr, sumH_congr (σ := σ) 6 (fun h _ => sU_ne (by omega)), sU_ne (k' := 0) (by omega)]; omega
theorem AM.congr {B : Int} {σ σ' : tab} (h : AM B σ) (e0 : σ' 0 = σ 0) (e5 : σ' 5 = σ 5) (eh : ∀ a, σ' (30 + a) = σ (30 + a)) : AM B σ' := by
  obtain ⟨h1, h2, h3, h4, h5⟩ := h
  refine ⟨by rw [e0]; exact h1, fun a g ha hg => by rw [eh]; exact h2 a g ha hg, by rw [e5]; exact h3, ?_, h5⟩
  unfold tot
  rw [e0, e5, sumH_congr (σ := σ) 6 (fun h _ => eh h)]; exact h4
theorem AM.leg {B : Int} {σ : tab} (h : AM B σ) {g : Nat} (hg : g < 6) : (σ 0 g).toInt ≤ B := by
  obtain ⟨h1, h2, h3, h4, h5⟩ := h
  have := sumI_ge 6 h1 hg; have := sumH_nn 6 h2; have := sumI_nn 8 h3; unfold tot at h4; omega
theorem AM.lehr {B : Int} {σ : tab} (h : AM B σ) {a g r : Nat} (ha : a < 6) (hg : g < 6) (hr : r < 8) : (σ (30 + a) g).toInt + (σ 5 r).toInt ≤ B := by
  obtain ⟨h1, h2, h3, h4, h5⟩ := h
  have := sumI_nn 6 h1; have := sumH_ge (a := a) hg 6 h2 ha; have := sumI_ge 8 h3 hr; unfold tot at h4; omega
theorem AM.legr {B : Int} {σ : tab} (h : AM B σ) {g r : Nat} (hg : g < 6) (hr : r < 8) : (σ 0 g).toInt + (σ 5 r).toInt ≤ B := by
  obtain ⟨h1, h2, h3, h4, h5⟩ := h
  have := sumI_ge 6 h1 hg; have := sumH_nn 6 h2; have := sumI_ge 8 h3 hr; unfold tot at h4; omega
theorem AM.u0 {B B' : Int} {σ : tab} (h : AM B σ) {g : Nat} (hg : g < 6) {v : Int32} (h0 : 0 ≤ v.toInt) (hB : B - (σ 0 g).toInt + v.toInt ≤ B') (hB2 : B' < 2147483648) : AM B' (sU 0 g v σ) := by
  obtain ⟨h1, h2, h3, h4, h5⟩ := h
  refine ⟨fun q hq => ?_, fun a q ha hq => by rw [sU_ne (by omega)]; exact h2 a q ha hq, fun q hq => by rw [sU_ne (by omega)]; exact h3 q hq, by rw [tot_u0 _ hg]; omega, hB2⟩
  rw [sU_if]; split
  · exact h0
  · exact h1 q hq
theorem AM.uh {B B' : Int} {σ : tab} (h : AM B σ) {a g : Nat} (ha : a < 6) (hg : g < 6) {v : Int32} (h0 : 0 ≤ v.toInt) (hB : B - (σ (30 + a) g).toInt + v.toInt ≤ B') (hB2 : B' < 2147483648) : AM B' (sU (30 + a) g v σ) := by
  obtain ⟨h1, h2, h3, h4, h5⟩ := h
  refine ⟨fun q hq => by rw [sU_ne (by omega)]; exact h1 q hq, fun b q hb hq => ?_, fun q hq => by rw [sU_ne (by omega)]; exact h3 q hq, by rw [tot_uh _ ha hg]; omega, hB2⟩
  rw [sU_if]; split
  · exact h0
  · exact h2 b q hb hq
theorem AM.u5 {B B' : Int} {σ : tab} (h : AM B σ) {r : Nat} (hr : r < 8) {v : Int32} (h0 : 0 ≤ v.toInt) (hB : B - (σ 5 r).toInt + v.toInt ≤ B') (hB2 : B' < 2147483648) : AM B' (sU 5 r v σ) := by
  obtain ⟨h1, h2, h3, h4, h5⟩ := h
  refine ⟨fun q hq => by rw [sU_ne (by omega)]; exact h1 q hq, fun b q hb hq => by rw [sU_ne (by omega)]; exact h2 b q hb hq, fun q hq => ?_, by rw [tot_u5 _ hr]; omega, hB2⟩
  rw [sU_if]; split
  · exact h0
  · exact h3 q hq
/-- what one rat does -/
theorem WF.step {n : Nat → Nat} {B : Int} {σ σ' : tab} (h : WF n B σ) (r : Nat) (e10 : σ' 10 = σ 10) (e1 : σ' 1 = σ 1) (e12 : σ' 12 = σ 12)
    (eo : ∀ q, q ≠ r → σ' 3 q = σ 3 q ∧ σ' 4 q = σ 4 q ∧ σ' 5 q = σ 5 q ∧ σ' 6 q = σ 6 q ∧ σ' 7 q = σ 7 q ∧ σ' 8 q = σ 8 q)
    (c3 : σ' 3 r = 0 ∨ σ' 3 r = 1 ∨ σ' 3 r = 2 ∨ σ' 3 r = 3) (c7 : σ' 3 r = 1 → vp_in (σ' 7 r) (n 1)) (c5 : ¬ σ' 5 r ≤ 0 → σ' 3 r = 1 ∧ vp_in (σ' 6 r) (n 0)) (c4 : σ' 3 r = 2 → 1 ≤ σ' 4 r) (c8 : 0 ≤ σ' 8 r ∧ σ' 8 r ≤ 99) (am : AM B σ') : WF n B σ' := by
  refine ⟨by rw [e10]; exact h.1, fun q hq => ?_, fun q hq => ?_, fun q hq => ?_, fun q hq => ?_, fun q hq => ?_, by rw [e1]; exact fun k hk => h.w1 hk, by rw [e12]; exact h.w12, am⟩
  · by_cases e : q = r
    · rw [e]; exact c3
    · rw [(eo q e).1]; exact h.w3 hq
  · by_cases e : q = r
    · rw [e]; exact c7
    · rw [(eo q e).1, (eo q e).2.2.2.2.1]; exact h.w7 hq
  · by_cases e : q = r
    · rw [e]; exact c5
    · rw [(eo q e).1, (eo q e).2.2.1, (eo q e).2.2.2.1]; exact h.w5 hq
  · by_cases e : q = r
    · rw [e]; exact c4
    · rw [(eo q e).1, (eo q e).2.1]; exact h.w4 hq
  · by_cases e : q = r
    · rw [e]; exact c8
    · rw [(eo q e).2.2.2.2.2]; exact h.w8 hq
theorem WF.z5 {n : Nat → Nat} {B : Int} {σ : tab} (h : WF n B σ) {r : Nat} (hr : r < n 2) (h8 : n 2 ≤ 8) (hne : σ 3 r ≠ 1) : (σ 5 r).toInt = 0 := by
  have h1 := h.am.2.2.1 r (by omega)
  by_cases e : σ 5 r ≤ 0
  · rw [Int32.le_iff_toInt_le] at e; have e2 : (σ 5 r).toInt ≤ 0 := e; omega
  · exact absurd (h.w5 hr e).1 hne
theorem WF.work {n : Nat → Nat} {B : Int} {σ : tab} (h : WF n B σ) {r : Nat} (hr : r < n 2) : WF n B (workP σ r) := by
  have h8 := h.w8 hr
  refine h.step r (by unfold workP; exact sU_ne (by omega)) (by unfold workP; exact sU_ne (by omega)) (by unfold workP; exact sU_ne (by omega)) (fun q hq => ?_) ?_ ?_ ?_ ?_ ?_ ?_
  · unfold workP; simp only [sU_if, hq]; simp
  · exact h.w3 hr
  · exact h.w7 hr
  · exact h.w5 hr
  · exact h.w4 hr
  · unfold workP; rw [sU_if, if_pos ⟨rfl, rfl⟩]; grind
  · exact h.am.congr (sU_ne (by omega)) (sU_ne (by omega)) (fun a => sU_ne (by omega))
theorem held_in (v lo hi : Int32) (h : lo ≤ hi) : lo ≤ f_held v lo hi ∧ f_held v lo hi ≤ hi := by unfold f_held; grind
theorem eatsP_irr {B : Int} {σ : tab} (h : AM B σ) (r : Nat) (k : Int32) : AM B (eatsP σ r k) := h.congr (eatsP_ne (by omega) (by omega)) (eatsP_ne (by omega) (by omega)) (fun a => eatsP_ne (by omega) (by omega))
theorem eatsP_8 {σ : tab} {r : Nat} {k : Int32} (h : 0 ≤ σ 8 r ∧ σ 8 r ≤ 99) : 0 ≤ eatsP σ r k 8 r ∧ eatsP σ r k 8 r ≤ 99 := by
  unfold eatsP; split
  · rw [sS_ne (by omega)]; exact h
  · rw [sU_if, if_pos ⟨rfl, rfl⟩]; decide
theorem eatsP_8o {σ : tab} {r q : Nat} {k : Int32} (h : q ≠ r) : eatsP σ r k 8 q = σ 8 q := by
  unfold eatsP; split
  · rw [sS_ne (by omega)]
  · rw [sU_if, if_neg (fun z => h z.2), sS_ne (by omega)]
theorem WF.odd {n : Nat → Nat} {B : Int} {σ : tab} (h : WF n B σ) (h6 : n 0 ≤ 6) {r : Nat} (hr : r < n 2) : WF n B (oddP n σ r) := by
  unfold oddP
  have key : ∀ k, k ≤ 6 → ∀ b, bestP σ k = some b → b < 6 ∧ 0 < σ 0 b := by
    intro k
    induction k with
    | zero => intro _ b hb; cases hb
    | succ k ih =>
      intro hk b hb
      simp only [bestP] at hb
      cases hc : bestP σ k with
      | none =>
        rw [hc] at hb; simp only at hb
        split at hb
        · cases hb; exact ⟨by omega, by assumption⟩
        · cases hb
      | some b' =>
        rw [hc] at hb; simp only at hb
        split at hb
        · cases hb; rename_i q; exact ⟨by omega, q.1⟩
        · cases hb; exact ih (by omega) _ hc
  cases hb : bestP σ (n 0) with
  | none => exact h
  | some b =>
    show WF n B (eatsP (sU 0 b (σ 0 b - 1) σ) r 1)
    obtain ⟨hb6, hb0⟩ := key _ h6 b hb
    have h0 : 0 < (σ 0 b).toInt := by rw [Int32.lt_iff_toInt_lt] at hb0; exact hb0
    have hlt := i_lt (σ 0 b)
    have e1 : (σ 0 b - 1).toInt = (σ 0 b).toInt - 1 := i_sub (show _ ≤ (σ 0 b).toInt - 1 by omega) (show (σ 0 b).toInt - 1 < _ by omega)
    have hne : ∀ j, j ≠ 8 → j ≠ 14 → j ≠ 0 → eatsP (sU 0 b (σ 0 b - 1) σ) r 1 j = σ j := fun j a1 a2 a3 => by rw [eatsP_ne a1 a2, sU_ne a3]
    refine h.step r (hne 10 (by omega) (by omega) (by omega)) (hne 1 (by omega) (by omega) (by omega)) (hne 12 (by omega) (by omega) (by omega)) (fun q hq => ?_) ?_ ?_ ?_ ?_ ?_ ?_
    · simp only [hne 3 (by omega) (by omega) (by omega), hne 4 (by omega) (by omega) (by omega), hne 5 (by omega) (by omega) (by omega), hne 6 (by omega) (by omega) (by omega), hne 7 (by omega) (by omega) (by omega), true_and]
      rw [eatsP_8o hq, sU_ne (by omega)]
    · rw [hne 3 (by omega) (by omega) (by omega)]; exact h.w3 hr
    · rw [hne 3 (by omega) (by omega) (by omega), hne 7 (by omega) (by omega) (by omega)]; exact h.w7 hr
    · rw [hne 3 (by omega) (by omega) (by omega), hne 5 (by omega) (by omega) (by omega), hne 6 (by omega) (by omega) (by omega)]; exact h.w5 hr
    · rw [hne 3 (by omega) (by omega) (by omega), hne 4 (by omega) (by omega) (by omega)]; exact h.w4 hr
    · exact eatsP_8 (by rw [sU_ne (by omega)]; exact h.w8 hr)
    · exact eatsP_irr (h.am.u0 hb6 (by rw [e1]; omega) (by rw [e1]; omega) h.am.2.2.2.2) r 1
theorem to_in {n : Nat → Nat} {lw : Nat → Option LAW} {t σ : tab} {r : Nat} (hT : TW n t lw) (hr : r < n 2) : vp_in (loadTo n lw t σ r) (n 1) := by
  have h1 := hT.n1
  obtain ⟨ho, hho, eho⟩ := vp_in_of (hT.h5 hr) (by omega)
  by_cases he : errsP lw t σ r
  · rw [← loadTo_is (to := (ho + 1) % n 1) hho eho h1 (Or.inl ⟨he, rfl⟩)]
    exact vp_in_nI (Nat.mod_lt _ (by omega)) (by omega)
  · rw [← loadTo_is (to := ho) hho eho h1 (Or.inr ⟨he, rfl⟩)]
    exact vp_in_nI hho (by omega)
theorem WF.load {n : Nat → Nat} {B : Int} {t σ : tab} {lw : Nat → Option LAW} (hT : TW n t lw) (h : WF n B σ) {r : Nat} (hr : r < n 2) (h3 : σ 3 r = 0) (hm : 0 < σ 0 (σ 10 r).toNatClampNeg) : WF n B (loadP n lw t σ r) := by
  have hn2 := hT.n2
  have hn0 := hT.n0
  have hz5 := h.z5 hr hn2 (by rw [h3]; decide)
  have hg := Nat.lt_of_lt_of_le (vp_lt (h.w10 hr)) hn0
  have hm0 : 0 < (σ 0 (σ 10 r).toNatClampNeg).toInt := by rw [Int32.lt_iff_toInt_lt] at hm; exact hm
  have hN : 0 ≤ (loadN lw t σ r).toInt ∧ (loadN lw t σ r).toInt ≤ (σ 0 (σ 10 r).toNatClampNeg).toInt := by
    have hw := held_in (asksP (lw 0) 5 (varsP t σ r (σ 0 (σ 10 r).toNatClampNeg))) 1 99 (by decide)
    have hw1 := hw.1
    rw [Int32.le_iff_toInt_le] at hw1
    have hw2 : (1 : Int) ≤ (f_held (asksP (lw 0) 5 (varsP t σ r (σ 0 (σ 10 r).toNatClampNeg))) 1 99).toInt := hw1
    unfold loadN; simp only
    split
    · next hh => rw [Int32.lt_iff_toInt_lt] at hh; omega
    · exact ⟨by omega, by omega⟩
  have hF : 0 ≤ (loadF lw t σ r).toInt ∧ (loadF lw t σ r).toInt ≤ (loadN lw t σ r).toInt := by
    have hw := held_in (asksP (lw 1) 0 (varsP t (load1 lw t σ r) r (loadN lw t σ r))) 0 99 (by decide)
    have hw1 := hw.1
    rw [Int32.le_iff_toInt_le] at hw1
    have hw2 : (0 : Int) ≤ (f_held (asksP (lw 1) 0 (varsP t (load1 lw t σ r) r (loadN lw t σ r))) 0 99).toInt := hw1
    unfold loadF; simp only
    split
    · next hh => rw [Int32.lt_iff_toInt_lt] at hh; omega
    · omega
  have hl0 := i_lt (σ 0 (σ 10 r).toNatClampNeg)
  have es : (σ 0 (σ 10 r).toNatClampNeg - loadN lw t σ r).toInt = (σ 0 (σ 10 r).toNatClampNeg).toInt - (loadN lw t σ r).toInt := i_sub (by omega) (by omega)
  have ec : (loadN lw t σ r - loadF lw t σ r).toInt = (loadN lw t σ r).toInt - (loadF lw t σ r).toInt := i_sub (by omega) (by omega)
  have l2 : ∀ j, j ≠ 8 → j ≠ 14 → j ≠ 0 → j ≠ 19 → load2 lw t σ r j = σ j := fun j a b c d => load2_ne a b c d
  have am1 : AM (B - (loadN lw t σ r).toInt) (load1 lw t σ r) := by
    unfold load1
    have hc : AM B (sS 19 (σ 19 0 ||| ((1 : Int32) <<< (σ 10 r &&& 31))) σ) := h.am.congr (sS_ne (by omega)) (sS_ne (by omega)) (fun a => sS_ne (by omega))
    have e0 : sS 19 (σ 19 0 ||| ((1 : Int32) <<< (σ 10 r &&& 31))) σ 0 = σ 0 := sS_ne (by omega)
    exact hc.u0 hg (by rw [es]; omega) (by rw [e0, es]; omega) (by have := h.am.2.2.2.2; omega)
  have am2 : AM (B - (loadN lw t σ r).toInt) (load2 lw t σ r) := eatsP_irr am1 r _
  have am3 : AM B (sU 5 r (loadN lw t σ r - loadF lw t σ r) (load2 lw t σ r)) := am2.u5 (by omega) (by rw [ec]; omega) (by rw [l2 5 (by omega) (by omega) (by omega) (by omega), ec, hz5]; omega) h.am.2.2.2.2
  have eo8 : ∀ q, q ≠ r → load2 lw t σ r 8 q = σ 8 q := fun q hq => by unfold load2; rw [eatsP_8o hq]; unfold load1; rw [sU_ne (by omega), sS_ne (by omega)]
  have e8 : 0 ≤ load2 lw t σ r 8 r ∧ load2 lw t σ r 8 r ≤ 99 := by unfold load2; exact eatsP_8 (by unfold load1; rw [sU_ne (by omega), sS_ne (by omega)]; exact h.w8 hr)
  unfold loadP; simp only
  refine h.step r ?_ ?_ ?_ (fun q hq => ?_) ?_ ?_ ?_ ?_ ?_ ?_
  · rw [sU_ne (by omega), sU_ne (by omega), sU_ne (by omega), sU_ne (by omega), sU_ne (by omega), l2 10 (by omega) (by omega) (by omega) (by omega)]
  · rw [sU_ne (by omega), sU_ne (by omega), sU_ne (by omega), sU_ne (by omega), sU_ne (by omega), l2 1 (by omega) (by omega) (by omega) (by omega)]
  · rw [sU_ne (by omega), sU_ne (by omega), sU_ne (by omega), sU_ne (by omega), sU_ne (by omega), l2 12 (by omega) (by omega) (by omega) (by omega)]
  · simp [sU_if, hq, l2, eo8 q hq]
  · simp [sU_if]
  · simp only [sU_if]; simp only [show (7:Nat) ≠ 4 by omega, show (7:Nat) ≠ 3 by omega, false_and, and_self, if_true, if_false]; exact fun _ => to_in hT hr
  · intro hc
    have hc5 : ¬ (loadN lw t σ r - loadF lw t σ r) ≤ 0 := by simpa [sU_if] using hc
    have hcn : ¬ (loadN lw t σ r - loadF lw t σ r) = 0 := fun q => hc5 (by rw [q]; decide)
    refine ⟨by simp [sU_if], ?_⟩
    have e6 : (sU 4 r (σ 1 (loadTo n lw t σ r).toNatClampNeg) (sU 3 r 1 (sU 7 r (loadTo n lw t σ r) (sU 6 r (if loadN lw t σ r - loadF lw t σ r = 0 then -2 else σ 10 r) (sU 5 r (loadN lw t σ r - loadF lw t σ r) (load2 lw t σ r)))))) 6 r = σ 10 r := by simp [sU_if, hcn]
    rw [e6]; exact h.w10 hr
  · simp [sU_if]
  · simpa [sU_if] using e8
  · exact am3.congr (by simp [sU_ne]) (by simp [sU_ne]) (fun a => by rw [sU_ne (by omega), sU_ne (by omega), sU_ne (by omega), sU_ne (by omega)])
theorem i_le0i {x : Int32} : ¬ x ≤ 0 ↔ 0 < x.toInt := i_nle0 x
theorem AM.drop {B : Int} {σ : tab} (h : AM B σ) {r : Nat} (hr : r < 8) (ho : ¬ σ 5 r ≤ 0 → (σ 7 r).toNatClampNeg < 6 ∧ (σ 6 r).toNatClampNeg < 6) : AM B (dropsP σ r) := by
  unfold dropsP; simp only
  have hB := h.2.2.2.2
  refine AM.congr (σ := sU 5 r 0 (if σ 5 r ≤ 0 then σ else sU 11 r (σ 11 r + 1) (sU (30 + (σ 7 r).toNatClampNeg) (σ 6 r).toNatClampNeg (σ (30 + (σ 7 r).toNatClampNeg) (σ 6 r).toNatClampNeg + σ 5 r) σ))) ?_ (sU_ne (by omega)) (sU_ne (by omega)) (fun a => sU_ne (by omega))
  have h5 := h.2.2.1 r hr
  split
  · exact h.u5 hr (by decide) (by show B - _ + 0 ≤ B; omega) hB
  · next hc =>
    obtain ⟨h1, h2⟩ := ho hc
    have hl := h.lehr h1 h2 hr
    have hn := h.2.1 _ _ h1 h2
    have ea : (σ (30 + (σ 7 r).toNatClampNeg) (σ 6 r).toNatClampNeg + σ 5 r).toInt = (σ (30 + (σ 7 r).toNatClampNeg) (σ 6 r).toNatClampNeg).toInt + (σ 5 r).toInt := i_add (by omega) (by omega)
    have a1 : AM B (sU 5 r 0 σ) := h.u5 hr (by decide) (by show B - _ + 0 ≤ B; omega) hB
    have a1' : AM (B - (σ 5 r).toInt) (sU 5 r 0 σ) := h.u5 hr (by decide) (by show B - _ + 0 ≤ _; omega) (by omega)
    have a2 := a1'.uh (B' := B) h1 h2 (v := σ (30 + (σ 7 r).toNatClampNeg) (σ 6 r).toNatClampNeg + σ 5 r) (by rw [ea]; omega) (by rw [sU_ne (by omega), ea]; omega) hB
    refine a2.congr ?_ ?_ (fun a => ?_)
    · rw [sU_ne (by omega), sU_ne (by omega), sU_ne (by omega), sU_ne (by omega), sU_ne (by omega)]
    · funext q; simp only [sU_if]; simp [show ∀ k, (5:Nat) ≠ 30 + k by omega]
    · funext q; simp only [sU_if]; simp [show (30 + a) ≠ 5 by omega, show (30 + a) ≠ 11 by omega]
theorem WF.going {n : Nat → Nat} {B : Int} {t σ : tab} {lw : Nat → Option LAW} (hT : TW n t lw) (h : WF n B σ) {r : Nat} (hr : r < n 2) (h3 : σ 3 r = 1) : WF n B (goingP σ r) := by
  have hn2 := hT.n2
  have hn0 := hT.n0
  have hn1 := hT.n1
  have h7 := h.w7 hr h3
  have h8 := h.w8 hr
  unfold goingP; simp only
  split
  · refine h.step r (sU_ne (by omega)) (sU_ne (by omega)) (sU_ne (by omega)) (fun q hq => by simp [sU_if, hq]) ?_ ?_ ?_ ?_ ?_ (h.am.congr (sU_ne (by omega)) (sU_ne (by omega)) (fun a => sU_ne (by omega)))
    · rw [sU_ne (by omega)]; exact h.w3 hr
    · rw [sU_ne (by omega), sU_ne (by omega)]; exact h.w7 hr
    · rw [sU_ne (by omega), sU_ne (by omega), sU_ne (by omega)]; exact h.w5 hr
    · rw [sU_ne (by omega), h3]; intro q; exact absurd q (by decide)
    · rw [sU_ne (by omega)]; exact h8
  · have e7 : sU 3 r 2 (dropsP (sU 4 r (σ 4 r - 1) σ) r) 7 r = σ 7 r := by rw [sU_ne (by omega), dropsP_ne (by omega) (by omega) (by omega) (by omega), sU_ne (by omega)]
    have e1 : sU 3 r 2 (dropsP (sU 4 r (σ 4 r - 1) σ) r) 1 = σ 1 := by rw [sU_ne (by omega), dropsP_ne (by omega) (by omega) (by omega) (by omega), sU_ne (by omega)]
    rw [e7, e1]
    have d : ∀ j, j ≠ 11 → j ≠ 5 → j ≠ 6 → j < 30 → j ≠ 4 → dropsP (sU 4 r (σ 4 r - 1) σ) r j = σ j := fun j a b c d e => by rw [dropsP_ne a b c d, sU_ne e]
    have d5 : ∀ q, q ≠ r → dropsP (sU 4 r (σ 4 r - 1) σ) r 5 q = σ 5 q := fun q hq => by
      unfold dropsP
      rw [sU_ne (by omega), sU_if, if_neg (fun z => hq z.2)]
      split
      · rw [sU_ne (by omega)]
      · rw [sU_ne (by omega), sU_ne (by omega), sU_ne (by omega)]
    have d6 : ∀ q, q ≠ r → dropsP (sU 4 r (σ 4 r - 1) σ) r 6 q = σ 6 q := fun q hq => by
      unfold dropsP
      rw [sU_if, if_neg (fun z => hq z.2), sU_ne (by omega)]
      split
      · rw [sU_ne (by omega)]
      · rw [sU_ne (by omega), sU_ne (by omega), sU_ne (by omega)]
    have d4 : ∀ q, q ≠ r → dropsP (sU 4 r (σ 4 r - 1) σ) r 4 q = σ 4 q := fun q hq => by rw [dropsP_ne (by omega) (by omega) (by omega) (by omega), sU_if, if_neg (fun z => hq z.2)]
    have z5 : dropsP (sU 4 r (σ 4 r - 1) σ) r 5 r = 0 := by unfold dropsP; rw [sU_ne (by omega), sU_if, if_pos ⟨rfl, rfl⟩]
    refine h.step r ?_ ?_ ?_ (fun q hq => ?_) ?_ ?_ ?_ ?_ ?_ ?_
    · rw [sU_ne (by omega), sU_ne (by omega), sU_ne (by omega), d 10 (by omega) (by omega) (by omega) (by omega) (by omega)]
    · rw [sU_ne (by omega), sU_ne (by omega), sU_ne (by omega), d 1 (by omega) (by omega) (by omega) (by omega) (by omega)]
    · rw [sU_ne (by omega), sU_ne (by omega), sU_ne (by omega), d 12 (by omega) (by omega) (by omega) (by omega) (by omega)]
    · simp [sU_if, hq, d, d5 q hq, d6 q hq, d4 q hq]
    · simp [sU_if]
    · simp [sU_if]
    · intro hc; exfalso; apply hc
      rw [sU_ne (by omega), sU_ne (by omega), sU_ne (by omega), z5]; decide
    · intro _; simp [sU_if]; exact h.w1 (vp_lt h7)
    · rw [sU_ne (by omega), sU_ne (by omega), sU_ne (by omega), d 8 (by omega) (by omega) (by omega) (by omega) (by omega)]; exact h8
    · have a0 : AM B (sU 4 r (σ 4 r - 1) σ) := h.am.congr (sU_ne (by omega)) (sU_ne (by omega)) (fun a => sU_ne (by omega))
      have a1 := a0.drop (r := r) (by omega) (fun hc => by
        rw [sU_ne (by omega)] at hc
        rw [sU_ne (by omega), sU_ne (by omega)]
        exact ⟨Nat.lt_of_lt_of_le (vp_lt h7) hn1, Nat.lt_of_lt_of_le (vp_lt (h.w5 hr hc).2) hn0⟩)
      exact a1.congr (by simp [sU_ne]) (by simp [sU_ne]) (fun a => by rw [sU_ne (by omega), sU_ne (by omega), sU_ne (by omega)])
theorem WF.backs {n : Nat → Nat} {B : Int} {σ : tab} (h : WF n B σ) (hn2 : n 2 ≤ 8) {r : Nat} (hr : r < n 2) (h3 : σ 3 r = 2) : WF n B (backP σ r) := by
  have h4 := h.w4 hr h3
  have h5 := h.z5 hr hn2 (by rw [h3]; decide)
  have h5' : σ 5 r ≤ 0 := by rw [Int32.le_iff_toInt_le]; show _ ≤ (0 : Int); omega
  unfold backP; simp only
  split
  · refine h.step r ?_ ?_ ?_ (fun q hq => ?_) ?_ ?_ ?_ ?_ ?_ ?_
    · rw [sU_ne (by omega), sU_ne (by omega)]
    · rw [sU_ne (by omega), sU_ne (by omega)]
    · rw [sU_ne (by omega), sU_ne (by omega)]
    · simp [sU_if, hq]
    · simp [sU_if]
    · simp [sU_if]
    · intro hc; exact absurd (show _ ≤ (0:Int32) by rw [sU_ne (by omega), sU_ne (by omega)]; exact h5') hc
    · simp [sU_if]
    · rw [sU_ne (by omega), sU_ne (by omega)]; exact h.w8 hr
    · exact h.am.congr (by simp [sU_ne]) (by simp [sU_ne]) (fun a => by rw [sU_ne (by omega), sU_ne (by omega)])
  · next hz =>
    rw [sU_if, if_pos ⟨rfl, rfl⟩] at hz
    refine h.step r (sU_ne (by omega)) (sU_ne (by omega)) (sU_ne (by omega)) (fun q hq => by simp [sU_if, hq]) ?_ ?_ ?_ ?_ ?_ (h.am.congr (sU_ne (by omega)) (sU_ne (by omega)) (fun a => sU_ne (by omega)))
    · rw [sU_ne (by omega)]; exact h.w3 hr
    · rw [sU_ne (by omega), sU_ne (by omega)]; exact h.w7 hr
    · rw [sU_ne (by omega), sU_ne (by omega), sU_ne (by omega)]; exact h.w5 hr
    · intro _; rw [sU_if, if_pos ⟨rfl, rfl⟩]; grind
    · rw [sU_ne (by omega)]; exact h.w8 hr
theorem WF.rat {n : Nat → Nat} {B : Int} {t σ : tab} {lw : Nat → Option LAW} (hT : TW n t lw) (h : WF n B σ) {r : Nat} (hr : r < n 2) : WF n B (ratP n lw t σ r) := by
  have hw := h.work hr
  have e3 : workP σ r 3 = σ 3 := sU_ne (by omega)
  unfold ratP
  split
  · next h0 =>
    unfold atP
    split
    · next hc =>
      split
      · exact hw.congr (fun k _ _ _ _ _ h _ _ _ => sS_ne h)
      · exact hw.load hT hr (by rw [e3]; exact h0) hc.2
    · split
      · exact hw.odd hT.n0 hr
      · exact hw
  · split
    · next h1 => exact hw.going hT hr (by rw [e3]; exact h1)
    · split
      · next h2 => exact hw.backs hT.n2 hr (by rw [e3]; exact h2)
      · exact h
theorem WF.back {n : Nat → Nat} {B : Int} {σ : tab} (h : WF n B σ) {r : Nat} (hr : r < n 2) (h3 : σ 3 r = 3) : WF n B (sU 3 r 0 σ) := by
  refine h.step r (sU_ne (by omega)) (sU_ne (by omega)) (sU_ne (by omega)) (fun q hq => by simp [sU_if, hq]) ?_ ?_ ?_ ?_ ?_ (h.am.congr (sU_ne (by omega)) (sU_ne (by omega)) (fun a => sU_ne (by omega)))
  · simp [sU_if]
  · simp [sU_if]
  · intro hc; rw [sU_ne (by omega)] at hc; have := (h.w5 hr hc).1; rw [h3] at this; exact absurd this (by decide)
  · simp [sU_if]
  · rw [sU_ne (by omega)]; exact h.w8 hr
theorem WF.home {n : Nat → Nat} {B : Int} {t σ : tab} {lw : Nat → Option LAW} (hT : TW n t lw) (h : WF n B σ) {r : Nat} (hr : r < n 2) : WF n B (homeP σ r) := by
  have hn2 := hT.n2
  have hn0 := hT.n0
  have hB := h.am.2.2.2.2
  have h5 := h.am.2.2.1 r (by omega)
  have am : AM B (sU 5 r 0 (if σ 5 r ≤ 0 then σ else sU 0 (σ 6 r).toNatClampNeg (σ 0 (σ 6 r).toNatClampNeg + σ 5 r) σ)) := by
    split
    · exact h.am.u5 (by omega) (by decide) (by show B - _ + 0 ≤ B; omega) hB
    · next hc =>
      have h6 := Nat.lt_of_lt_of_le (vp_lt (h.w5 hr hc).2) hn0
      have hl := h.am.legr h6 (show r < 8 by omega)
      have hn := h.am.1 _ h6
      have ea : (σ 0 (σ 6 r).toNatClampNeg + σ 5 r).toInt = (σ 0 (σ 6 r).toNatClampNeg).toInt + (σ 5 r).toInt := i_add (by omega) (by omega)
      have a1 : AM (B - (σ 5 r).toInt) (sU 5 r 0 σ) := h.am.u5 (by omega) (by decide) (by show B - _ + 0 ≤ _; omega) (by omega)
      have a2 := a1.u0 (B' := B) h6 (v := σ 0 (σ 6 r).toNatClampNeg + σ 5 r) (by rw [ea]; omega) (by rw [sU_ne (by omega), ea]; omega) hB
      refine a2.congr ?_ ?_ (fun a => ?_)
      · funext q; simp [sU_if]
      · funext q; simp [sU_if]
      · funext q; rw [sU_ne (by omega), sU_ne (by omega), sU_ne (by omega), sU_ne (by omega)]
  have e : ∀ j, j ≠ 0 → (if σ 5 r ≤ 0 then σ else sU 0 (σ 6 r).toNatClampNeg (σ 0 (σ 6 r).toNatClampNeg + σ 5 r) σ) j = σ j := fun j hj => by
    split
    · rfl
    · exact sU_ne hj
  unfold homeP; simp only
  refine h.step r ?_ ?_ ?_ (fun q hq => ?_) ?_ ?_ ?_ ?_ ?_ ?_
  · rw [sU_ne (by omega), sU_ne (by omega), sU_ne (by omega), sU_ne (by omega), sU_ne (by omega), e _ (by omega)]
  · rw [sU_ne (by omega), sU_ne (by omega), sU_ne (by omega), sU_ne (by omega), sU_ne (by omega), e _ (by omega)]
  · rw [sU_ne (by omega), sU_ne (by omega), sU_ne (by omega), sU_ne (by omega), sU_ne (by omega), e _ (by omega)]
  · simp [sU_if, hq, e]
  · simp [sU_if]
  · simp [sU_if]
  · intro hc; exfalso; apply hc; simp [sU_if]
  · simp [sU_if]
  · rw [sU_ne (by omega), sU_ne (by omega), sU_ne (by omega), sU_ne (by omega), sU_ne (by omega), e _ (by omega)]; exact h.w8 hr
  · exact am.congr (by simp [sU_ne]) (by simp [sU_ne]) (fun a => by rw [sU_ne (by omega), sU_ne (by omega), sU_ne (by omega), sU_ne (by omega)])
theorem MR.same12 {k : Nat} {σ : tab} {X : Nat → Int32} (h : MR k σ X) {v : Int32} (e : v = σ 12 0) : MR k (sS 12 v σ) X := by
  obtain ⟨h1, h2, h3, h4, h5, h6, h7, h8, h9, h10, h11, h12, h13, h14, h15, h16, h17⟩ := h
  subst e
  refine ⟨?_, ?_, ?_, ?_, ?_, ?_, ?_, ?_, ?_, ?_, ?_, ?_, ?_, ?_, ?_, ?_, ?_⟩
  · intro q hq; rw [sS_ne (by omega)]; exact h1 q hq
  · intro b q hb hq; rw [sS_ne (by omega)]; exact h2 b q hb hq
  · intro q hq; rw [sS_ne (by omega)]; exact h3 q hq
  · intro q hq; rw [sS_ne (by omega)]; exact h4 q hq
  · intro q hq; rw [sS_ne (by omega)]; exact h5 q hq
  · intro q hq; rw [sS_ne (by omega)]; exact h6 q hq
  · intro q hq; rw [sS_ne (by omega)]; exact h7 q hq
  · intro q hq; rw [sS_ne (by omega)]; exact h8 q hq
  · intro q hq; rw [sS_ne (by omega)]; exact h9 q hq
  · intro q hq; rw [sS_ne (by omega)]; exact h10 q hq
  · intro q hq; rw [sS_ne (by omega)]; exact h11 q hq
  · rw [sS_ne (by omega)]; exact h12
  · rw [sS_ne (by omega)]; exact h13
  · rw [sS_ne (by omega)]; exact h14
  · rw [sS_ne (by omega)]; exact h15
  · rw [sS_if, if_pos rfl]; exact h16
  · rw [sS_ne (by omega)]; exact h17
theorem h_up {x : Int32} (h : 0 ≤ x ∧ x ≤ 99) (h1 : ¬ 99 ≤ x) : (if x + 1 < 99 then x + 1 else 99) = x + 1 := by grind
theorem h_no {x : Int32} (h : 0 ≤ x ∧ x ≤ 99) (h1 : 99 ≤ x) : (if x + 1 < 99 then x + 1 else 99) = x := by grind
theorem cat_up {x : Int32} (h : ¬ x ≤ 0) : (if 0 < x - 1 then x - 1 else 0) = x - 1 := by grind
theorem cat_no {x : Int32} (h0 : 0 ≤ x) (h : x ≤ 0) : (if 0 < x - 1 then x - 1 else 0) = x := by grind
theorem left_z {x : Int32} (h : x - 1 ≤ 0) (h1 : 1 ≤ x) : x - 1 = 0 := by grind
theorem WF.s12 {n : Nat → Nat} {B : Int} {σ : tab} (h : WF n B σ) {v : Int32} (hv : 0 ≤ v) : WF n B (sS 12 v σ) := by
  have es : ∀ k, sumH (sS 12 v σ) k = sumH σ k := by
    intro k
    induction k with
    | zero => rfl
    | succ k ih => show sumH (sS 12 v σ) k + sumI (sS 12 v σ (30 + k)) 6 = sumH σ k + sumI (σ (30 + k)) 6; rw [ih, sS_ne (by omega)]
  have et : tot (sS 12 v σ) = tot σ := by unfold tot; rw [es]; rfl
  obtain ⟨a1, a2, a3, a4, a5, a6, a7, a8, b1, b2, b3, b4⟩ := h
  exact ⟨a1, a2, a3, a4, a5, a6, a7, hv, b1, fun a g ha hg => by rw [sS_ne (by omega)]; exact b2 a g ha hg, b3, by rw [et]; exact b4⟩
theorem WF.rats {n : Nat → Nat} {B : Int} {t σ : tab} {lw : Nat → Option LAW} (hT : TW n t lw) (h : WF n B σ) : ∀ k, k ≤ n 2 → WF n B (ratsP n lw t σ k)
  | 0, _ => h
  | k + 1, hk => WF.rat hT (WF.rats hT h k (by omega)) (by omega)
theorem cat_nn (x : Int32) : 0 ≤ (if 0 < x then x else 0) := by
  split
  · exact Int32.le_of_lt (by assumption)
  · exact Int32.le_refl _
theorem WF.minute {n : Nat → Nat} {B : Int} {t σ : tab} {lw : Nat → Option LAW} (hT : TW n t lw) (h : WF n B σ) : WF n B (minuteP n lw t σ) := by
  have h1 := WF.rats hT (h.congr (σ2 := sS 19 0 σ) (fun k h1 _ _ _ _ _ _ _ _ => sS_ne h1)) (n 2) (Nat.le_refl _)
  unfold minuteP
  exact (h1.s12 (cat_nn _)).congr (fun k _ h2 _ _ _ _ _ _ _ => sS_ne h2)
theorem WF.runs {n : Nat → Nat} {B : Int} {t σ : tab} {lw : Nat → Option LAW} (hT : TW n t lw) (h : WF n B σ) : ∀ k, WF n B (runsP n lw t σ k)
  | 0 => h
  | k + 1 => WF.minute hT (WF.runs hT h k)
def swapTo (σ : tab) (a b : Nat) : Nat → tab
  | 0 => σ
  | k + 1 => sU (30 + b) k (swapTo σ a b k (30 + a) k) (sU (30 + a) k (swapTo σ a b k (30 + b) k) (swapTo σ a b k))
def partTo (X : Nat → Int32) (gr : Nat) (own : Bool) : Nat → Int32
  | 0 => 0
  | k + 1 => partTo X gr own k + (if decide (gr = k) = own then X k else 0)
theorem part6 (X : Nat → Int32) {gr : Nat} (h : gr < 6) (own : Bool) : partTo X gr own 6 = if own = true then X gr else (0 + X 0 + X 1 + X 2 + X 3 + X 4 + X 5) - X gr := by
  rcases (show gr = 0 ∨ gr = 1 ∨ gr = 2 ∨ gr = 3 ∨ gr = 4 ∨ gr = 5 by omega) with rfl | rfl | rfl | rfl | rfl | rfl <;> cases own <;> simp [partTo] <;> grind
theorem beg_s2 {X F Kn : Nat → Int32} {r lv : Nat} (h : ∀ j, j < r → X (66 + j) = -2 ∧ X (82 + j) = F (8 * lv + j) ∧ X (90 + j) = Kn (8 * lv + j) ∧ X (106 + j) = -2) (hr : r < 8) :
    ∀ j, j < r + 1 → (upd (upd (upd (upd X (66 + r) (-2)) (82 + r) (F (8 * lv + r))) (90 + r) (Kn (8 * lv + r))) (106 + r) (-2)) (66 + j) = -2 ∧ (upd (upd (upd (upd X (66 + r) (-2)) (82 + r) (F (8 * lv + r))) (90 + r) (Kn (8 * lv + r))) (106 + r) (-2)) (82 + j) = F (8 * lv + j) ∧ (upd (upd (upd (upd X (66 + r) (-2)) (82 + r) (F (8 * lv + r))) (90 + r) (Kn (8 * lv + r))) (106 + r) (-2)) (90 + j) = Kn (8 * lv + j) ∧ (upd (upd (upd (upd X (66 + r) (-2)) (82 + r) (F (8 * lv + r))) (90 + r) (Kn (8 * lv + r))) (106 + r) (-2)) (106 + j) = -2 := by
  intro j hj
  unfold upd
  by_cases e : j = r
  · subst e
    refine ⟨?_, ?_, ?_, ?_⟩
    · rw [if_neg (by omega), if_neg (by omega), if_neg (by omega), if_pos rfl]
    · rw [if_neg (by omega), if_neg (by omega), if_pos rfl]
    · rw [if_neg (by omega), if_pos rfl]
    · rw [if_pos rfl]
  · obtain ⟨h1, h2, h3, h4⟩ := h j (by omega)
    refine ⟨?_, ?_, ?_, ?_⟩
    · rw [if_neg (by omega), if_neg (by omega), if_neg (by omega), if_neg (by omega)]; exact h1
    · rw [if_neg (by omega), if_neg (by omega), if_neg (by omega), if_neg (by omega)]; exact h2
    · rw [if_neg (by omega), if_neg (by omega), if_neg (by omega), if_neg (by omega)]; exact h3
    · rw [if_neg (by omega), if_neg (by omega), if_neg (by omega), if_neg (by omega)]; exact h4
theorem beg_RS {n : Nat → Nat} {t g : tab} {lw : Nat → Option LAW} {lv : Nat} {X F : Nat → Int32} {lots : Int32} (hM : TM lv n t lw g) (hT : TW n t lw) (h1 : ∀ j, j < 6 → X j = if j < n 0 then t 0 j else 0)
    (h2 : ∀ j, j < 8 → X (66 + j) = -2 ∧ X (82 + j) = g 33 (8 * lv + j) ∧ X (90 + j) = g 31 (8 * lv + j) ∧ X (106 + j) = -2)
    (h3 : ∀ j, 6 ≤ j → j < 120 → ¬ (66 ≤ j ∧ j < 74) → ¬ (82 ≤ j ∧ j < 98) → ¬ (106 ≤ j ∧ j < 114) → X j = 0) (h4 : lots = t 12 2 ∧ ∀ h, h < n 1 → F h = t 2 h) : RS n (beginP n t) X F lots := by
  have hk := hT.n2
  refine ⟨⟨?_, ?_, ?_, ?_, ?_, ?_, ?_, ?_, ?_, ?_, ?_, ?_, ?_, ?_, ?_, ?_, ?_⟩, fun h hh => by rw [h4.2 h hh]; simp [beginP], by rw [h4.1]; simp [beginP]⟩
  · intro q hq; rw [h1 q hq]; simp [beginP]
  · intro b q hb hq; rw [h3 _ (by omega) (by omega) (by omega) (by omega) (by omega)]
    unfold beginP; rw [if_neg (by omega), if_neg (by omega), if_neg (by omega), if_neg (by omega), if_neg (by omega), if_neg (by omega)]
  · intro q hq; rw [h3 _ (by omega) (by omega) (by omega) (by omega) (by omega)]; simp [beginP]
  · intro q hq; rw [h3 _ (by omega) (by omega) (by omega) (by omega) (by omega)]; simp [beginP]
  · intro q hq; rw [h3 _ (by omega) (by omega) (by omega) (by omega) (by omega)]; simp [beginP]
  · intro q hq; rw [(h2 q (by omega)).1]; simp [beginP]
  · intro q hq; rw [h3 _ (by omega) (by omega) (by omega) (by omega) (by omega)]; simp [beginP]
  · intro q hq; rw [(h2 q (by omega)).2.1, hM.c33 hq]; simp [beginP, hq]
  · intro q hq; rw [(h2 q (by omega)).2.2.1, hM.c31 hq]; simp [beginP, hq]
  · intro q hq; rw [h3 _ (by omega) (by omega) (by omega) (by omega) (by omega)]; simp [beginP]
  · intro q hq; rw [(h2 q (by omega)).2.2.2]; simp [beginP]
  · rw [h3 _ (by omega) (by omega) (by omega) (by omega) (by omega)]; simp [beginP]
  · rw [h3 _ (by omega) (by omega) (by omega) (by omega) (by omega)]; simp [beginP]
  · rw [h3 _ (by omega) (by omega) (by omega) (by omega) (by omega)]; simp [beginP]
  · rw [h3 _ (by omega) (by omega) (by omega) (by omega) (by omega)]; simp [beginP]
  · rw [h3 _ (by omega) (by omega) (by omega) (by omega) (by omega)]; simp [beginP]
  · rw [h3 _ (by omega) (by omega) (by omega) (by omega) (by omega)]; simp [beginP]
