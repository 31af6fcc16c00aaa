/-! the model's row against a house; its tables against a text -/
set_option maxRecDepth 100000
theorem vp_lt {x : Int32} {N : Nat} (h : vp_in x N) : x.toNatClampNeg < N := Nat.lt_of_not_le (fun q => h (Or.inr q))
theorem vp_nI {x : Int32} {N : Nat} (h : vp_in x N) (hN : N < 2 ^ 31 := by decide) : x = nI x.toNatClampNeg := by
  obtain ⟨j, hj, rfl⟩ := vp_in_of h hN
  rw [nI_clamp (by omega)]
theorem vp_mono {x : Int32} {N M : Nat} (h : vp_in x N) (hNM : N ≤ M) : vp_in x M := fun q => by
  rcases q with q | q
  · exact h (Or.inl q)
  · exact h (Or.inr (by omega))
theorem sA_row {α : Type} {k h : Nat} {X : α} {g : Nat → α} (hk : k < 30) : sA (30 + h) X g k = g k := sA_ne (by omega)
theorem sA_rowc {α : Type} {k h : Nat} {X Y : α} {g : Nat → α} (hk : k < 30) : sA (30 + h) X (sA k Y g) = sA k Y (sA (30 + h) X g) := (sA_comm _ _ _ (by omega)).symm
theorem sU_ne {k j k' : Nat} {v : Int32} {σ : tab} (h : k' ≠ k) : sU k j v σ k' = σ k' := sA_ne h
theorem sS_ne {k k' : Nat} {v : Int32} {σ : tab} (h : k' ≠ k) : sS k v σ k' = σ k' := sA_ne h
theorem sU_id (k j : Nat) (σ : tab) : sU k j (σ k j) σ = σ := by
  funext a b
  rw [sU_if]
  split
  · next h => rw [h.1, h.2]
  · rfl
def MR (k : Nat) (σ : tab) (X : Nat → Int32) : Prop :=
  (∀ g, g < 6 → X g = σ 0 g) ∧ (∀ h g, h < 6 → g < 6 → X (6 + 6 * h + g) = σ (30 + h) g) ∧
  (∀ r, r < k → X (42 + r) = σ 3 r) ∧ (∀ r, r < k → X (50 + r) = σ 4 r) ∧ (∀ r, r < k → X (58 + r) = σ 5 r) ∧ (∀ r, r < k → X (66 + r) = σ 6 r) ∧ (∀ r, r < k → X (74 + r) = σ 8 r) ∧ (∀ r, r < k → X (82 + r) = σ 9 r) ∧ (∀ r, r < k → X (90 + r) = σ 10 r) ∧ (∀ r, r < k → X (98 + r) = σ 11 r) ∧ (∀ r, r < k → X (106 + r) = σ 7 r) ∧
  X 114 = σ 13 0 ∧ X 115 = σ 14 0 ∧ X 116 = σ 15 0 ∧ X 117 = σ 16 0 ∧ X 118 = σ 12 0 ∧ X 119 = σ 17 0
section MRS
variable {k : Nat} {σ : tab} {X : Nat → Int32}
theorem MR.heap (h : MR k σ X) {g : Nat} (hg : g < 6) : X g = σ 0 g := h.1 g hg
theorem MR.hole (h : MR k σ X) {a g : Nat} (ha : a < 6) (hg : g < 6) : X (6 + 6 * a + g) = σ (30 + a) g := h.2.1 a g ha hg
theorem MR.r3 (h : MR k σ X) {r : Nat} (hr : r < k) : X (42 + r) = σ 3 r := h.2.2.1 r hr
theorem MR.r4 (h : MR k σ X) {r : Nat} (hr : r < k) : X (50 + r) = σ 4 r := h.2.2.2.1 r hr
theorem MR.r5 (h : MR k σ X) {r : Nat} (hr : r < k) : X (58 + r) = σ 5 r := h.2.2.2.2.1 r hr
theorem MR.r6 (h : MR k σ X) {r : Nat} (hr : r < k) : X (66 + r) = σ 6 r := h.2.2.2.2.2.1 r hr
theorem MR.r8 (h : MR k σ X) {r : Nat} (hr : r < k) : X (74 + r) = σ 8 r := h.2.2.2.2.2.2.1 r hr
theorem MR.r9 (h : MR k σ X) {r : Nat} (hr : r < k) : X (82 + r) = σ 9 r := h.2.2.2.2.2.2.2.1 r hr
theorem MR.r10 (h : MR k σ X) {r : Nat} (hr : r < k) : X (90 + r) = σ 10 r := h.2.2.2.2.2.2.2.2.1 r hr
theorem MR.r11 (h : MR k σ X) {r : Nat} (hr : r < k) : X (98 + r) = σ 11 r := h.2.2.2.2.2.2.2.2.2.1 r hr
theorem MR.r7 (h : MR k σ X) {r : Nat} (hr : r < k) : X (106 + r) = σ 7 r := h.2.2.2.2.2.2.2.2.2.2.1 r hr
theorem MR.s13 (h : MR k σ X) : X 114 = σ 13 0 := h.2.2.2.2.2.2.2.2.2.2.2.1
theorem MR.s14 (h : MR k σ X) : X 115 = σ 14 0 := h.2.2.2.2.2.2.2.2.2.2.2.2.1
theorem MR.s15 (h : MR k σ X) : X 116 = σ 15 0 := h.2.2.2.2.2.2.2.2.2.2.2.2.2.1
theorem MR.s16 (h : MR k σ X) : X 117 = σ 16 0 := h.2.2.2.2.2.2.2.2.2.2.2.2.2.2.1
theorem MR.s12 (h : MR k σ X) : X 118 = σ 12 0 := h.2.2.2.2.2.2.2.2.2.2.2.2.2.2.2.1
theorem MR.s17 (h : MR k σ X) : X 119 = σ 17 0 := h.2.2.2.2.2.2.2.2.2.2.2.2.2.2.2.2
set_option maxHeartbeats 2000000
theorem MR.of_eq {σ' : tab} (h : MR k σ X) (e : σ' = σ) : MR k σ' X := by rw [e]; exact h
theorem MR.uheap (hk : k ≤ 8) (h : MR k σ X) {g : Nat} (hg : g < 6) (v : Int32) : MR k (sU 0 g v σ) (upd X g v) := by
  obtain ⟨h1, h2, h3, h4, h5, h6, h7, h8, h9, h10, h11, h12, h13, h14, h15, h16, h17⟩ := h
  refine ⟨?_, ?_, ?_, ?_, ?_, ?_, ?_, ?_, ?_, ?_, ?_, ?_, ?_, ?_, ?_, ?_, ?_⟩
  · intro q hq; rw [sU_if]; unfold upd; by_cases e : q = g
    · subst e; rw [if_pos rfl, if_pos ⟨rfl, rfl⟩]
    · rw [if_neg e, if_neg (fun z => e z.2)]; exact h1 q hq
  · intro b q hb hq; rw [sU_ne (by omega), pk_un (by omega)]; exact h2 b q hb hq
  · intro q hq; rw [sU_ne (by omega), pk_un (by omega)]; exact h3 q hq
  · intro q hq; rw [sU_ne (by omega), pk_un (by omega)]; exact h4 q hq
  · intro q hq; rw [sU_ne (by omega), pk_un (by omega)]; exact h5 q hq
  · intro q hq; rw [sU_ne (by omega), pk_un (by omega)]; exact h6 q hq
  · intro q hq; rw [sU_ne (by omega), pk_un (by omega)]; exact h7 q hq
  · intro q hq; rw [sU_ne (by omega), pk_un (by omega)]; exact h8 q hq
  · intro q hq; rw [sU_ne (by omega), pk_un (by omega)]; exact h9 q hq
  · intro q hq; rw [sU_ne (by omega), pk_un (by omega)]; exact h10 q hq
  · intro q hq; rw [sU_ne (by omega), pk_un (by omega)]; exact h11 q hq
  · rw [sU_ne (by omega), pk_un (by omega)]; exact h12
  · rw [sU_ne (by omega), pk_un (by omega)]; exact h13
  · rw [sU_ne (by omega), pk_un (by omega)]; exact h14
  · rw [sU_ne (by omega), pk_un (by omega)]; exact h15
  · rw [sU_ne (by omega), pk_un (by omega)]; exact h16
  · rw [sU_ne (by omega), pk_un (by omega)]; exact h17
theorem MR.uhole (hk : k ≤ 8) (h : MR k σ X) {a g : Nat} (ha : a < 6) (hg : g < 6) (v : Int32) : MR k (sU (30 + a) g v σ) (upd X (6 + 6 * a + g) v) := by
  obtain ⟨h1, h2, h3, h4, h5, h6, h7, h8, h9, h10, h11, h12, h13, h14, h15, h16, h17⟩ := h
  refine ⟨?_, ?_, ?_, ?_, ?_, ?_, ?_, ?_, ?_, ?_, ?_, ?_, ?_, ?_, ?_, ?_, ?_⟩
  · intro q hq; rw [sU_ne (by omega), pk_un (by omega)]; exact h1 q hq
  · intro b q hb hq; rw [sU_if]; unfold upd; by_cases e : b = a ∧ q = g
    · obtain ⟨rfl, rfl⟩ := e; rw [if_pos rfl, if_pos ⟨rfl, rfl⟩]
    · rw [if_neg (by omega), if_neg (by omega)]; exact h2 b q hb hq
  · intro q hq; rw [sU_ne (by omega), pk_un (by omega)]; exact h3 q hq
  · intro q hq; rw [sU_ne (by omega), pk_un (by omega)]; exact h4 q hq
  · intro q hq; rw [sU_ne (by omega), pk_un (by omega)]; exact h5 q hq
  · intro q hq; rw [sU_ne (by omega), pk_un (by omega)]; exact h6 q hq
  · intro q hq; rw [sU_ne (by omega), pk_un (by omega)]; exact h7 q hq
  · intro q hq; rw [sU_ne (by omega), pk_un (by omega)]; exact h8 q hq
  · intro q hq; rw [sU_ne (by omega), pk_un (by omega)]; exact h9 q hq
  · intro q hq; rw [sU_ne (by omega), pk_un (by omega)]; exact h10 q hq
  · intro q hq; rw [sU_ne (by omega), pk_un (by omega)]; exact h11 q hq
  · rw [sU_ne (by omega), pk_un (by omega)]; exact h12
  · rw [sU_ne (by omega), pk_un (by omega)]; exact h13
  · rw [sU_ne (by omega), pk_un (by omega)]; exact h14
  · rw [sU_ne (by omega), pk_un (by omega)]; exact h15
  · rw [sU_ne (by omega), pk_un (by omega)]; exact h16
  · rw [sU_ne (by omega), pk_un (by omega)]; exact h17
theorem MR.u3 (hk : k ≤ 8) (h : MR k σ X) {r : Nat} (hr : r < k) (v : Int32) : MR k (sU 3 r v σ) (upd X (42 + r) v) := by
  obtain ⟨h1, h2, h3, h4, h5, h6, h7, h8, h9, h10, h11, h12, h13, h14, h15, h16, h17⟩ := h
  refine ⟨?_, ?_, ?_, ?_, ?_, ?_, ?_, ?_, ?_, ?_, ?_, ?_, ?_, ?_, ?_, ?_, ?_⟩
  · intro q hq; rw [sU_ne (by omega), pk_un (by omega)]; exact h1 q hq
  · intro b q hb hq; rw [sU_ne (by omega), pk_un (by omega)]; exact h2 b q hb hq
  · intro q hq; rw [sU_if]; unfold upd; by_cases e : q = r
    · subst e; rw [if_pos rfl, if_pos ⟨rfl, rfl⟩]
    · rw [if_neg (by omega), if_neg (fun z => e z.2)]; exact h3 q hq
  · intro q hq; rw [sU_ne (by omega), pk_un (by omega)]; exact h4 q hq
  · intro q hq; rw [sU_ne (by omega), pk_un (by omega)]; exact h5 q hq
  · intro q hq; rw [sU_ne (by omega), pk_un (by omega)]; exact h6 q hq
  · intro q hq; rw [sU_ne (by omega), pk_un (by omega)]; exact h7 q hq
  · intro q hq; rw [sU_ne (by omega), pk_un (by omega)]; exact h8 q hq
  · intro q hq; rw [sU_ne (by omega), pk_un (by omega)]; exact h9 q hq
  · intro q hq; rw [sU_ne (by omega), pk_un (by omega)]; exact h10 q hq
  · intro q hq; rw [sU_ne (by omega), pk_un (by omega)]; exact h11 q hq
  · rw [sU_ne (by omega), pk_un (by omega)]; exact h12
  · rw [sU_ne (by omega), pk_un (by omega)]; exact h13
  · rw [sU_ne (by omega), pk_un (by omega)]; exact h14
  · rw [sU_ne (by omega), pk_un (by omega)]; exact h15
  · rw [sU_ne (by omega), pk_un (by omega)]; exact h16
  · rw [sU_ne (by omega), pk_un (by omega)]; exact h17
theorem MR.u4 (hk : k ≤ 8) (h : MR k σ X) {r : Nat} (hr : r < k) (v : Int32) : MR k (sU 4 r v σ) (upd X (50 + r) v) := by
  obtain ⟨h1, h2, h3, h4, h5, h6, h7, h8, h9, h10, h11, h12, h13, h14, h15, h16, h17⟩ := h
  refine ⟨?_, ?_, ?_, ?_, ?_, ?_, ?_, ?_, ?_, ?_, ?_, ?_, ?_, ?_, ?_, ?_, ?_⟩
  · intro q hq; rw [sU_ne (by omega), pk_un (by omega)]; exact h1 q hq
  · intro b q hb hq; rw [sU_ne (by omega), pk_un (by omega)]; exact h2 b q hb hq
  · intro q hq; rw [sU_ne (by omega), pk_un (by omega)]; exact h3 q hq
  · intro q hq; rw [sU_if]; unfold upd; by_cases e : q = r
    · subst e; rw [if_pos rfl, if_pos ⟨rfl, rfl⟩]
    · rw [if_neg (by omega), if_neg (fun z => e z.2)]; exact h4 q hq
  · intro q hq; rw [sU_ne (by omega), pk_un (by omega)]; exact h5 q hq
  · intro q hq; rw [sU_ne (by omega), pk_un (by omega)]; exact h6 q hq
  · intro q hq; rw [sU_ne (by omega), pk_un (by omega)]; exact h7 q hq
  · intro q hq; rw [sU_ne (by omega), pk_un (by omega)]; exact h8 q hq
  · intro q hq; rw [sU_ne (by omega), pk_un (by omega)]; exact h9 q hq
  · intro q hq; rw [sU_ne (by omega), pk_un (by omega)]; exact h10 q hq
  · intro q hq; rw [sU_ne (by omega), pk_un (by omega)]; exact h11 q hq
  · rw [sU_ne (by omega), pk_un (by omega)]; exact h12
  · rw [sU_ne (by omega), pk_un (by omega)]; exact h13
  · rw [sU_ne (by omega), pk_un (by omega)]; exact h14
  · rw [sU_ne (by omega), pk_un (by omega)]; exact h15
  · rw [sU_ne (by omega), pk_un (by omega)]; exact h16
  · rw [sU_ne (by omega), pk_un (by omega)]; exact h17
theorem MR.u5 (hk : k ≤ 8) (h : MR k σ X) {r : Nat} (hr : r < k) (v : Int32) : MR k (sU 5 r v σ) (upd X (58 + r) v) := by
  obtain ⟨h1, h2, h3, h4, h5, h6, h7, h8, h9, h10, h11, h12, h13, h14, h15, h16, h17⟩ := h
  refine ⟨?_, ?_, ?_, ?_, ?_, ?_, ?_, ?_, ?_, ?_, ?_, ?_, ?_, ?_, ?_, ?_, ?_⟩
  · intro q hq; rw [sU_ne (by omega), pk_un (by omega)]; exact h1 q hq
  · intro b q hb hq; rw [sU_ne (by omega), pk_un (by omega)]; exact h2 b q hb hq
  · intro q hq; rw [sU_ne (by omega), pk_un (by omega)]; exact h3 q hq
  · intro q hq; rw [sU_ne (by omega), pk_un (by omega)]; exact h4 q hq
  · intro q hq; rw [sU_if]; unfold upd; by_cases e : q = r
    · subst e; rw [if_pos rfl, if_pos ⟨rfl, rfl⟩]
    · rw [if_neg (by omega), if_neg (fun z => e z.2)]; exact h5 q hq
  · intro q hq; rw [sU_ne (by omega), pk_un (by omega)]; exact h6 q hq
  · intro q hq; rw [sU_ne (by omega), pk_un (by omega)]; exact h7 q hq
  · intro q hq; rw [sU_ne (by omega), pk_un (by omega)]; exact h8 q hq
  · intro q hq; rw [sU_ne (by omega), pk_un (by omega)]; exact h9 q hq
  · intro q hq; rw [sU_ne (by omega), pk_un (by omega)]; exact h10 q hq
  · intro q hq; rw [sU_ne (by omega), pk_un (by omega)]; exact h11 q hq
  · rw [sU_ne (by omega), pk_un (by omega)]; exact h12
  · rw [sU_ne (by omega), pk_un (by omega)]; exact h13
  · rw [sU_ne (by omega), pk_un (by omega)]; exact h14
  · rw [sU_ne (by omega), pk_un (by omega)]; exact h15
  · rw [sU_ne (by omega), pk_un (by omega)]; exact h16
  · rw [sU_ne (by omega), pk_un (by omega)]; exact h17
theorem MR.u6 (hk : k ≤ 8) (h : MR k σ X) {r : Nat} (hr : r < k) (v : Int32) : MR k (sU 6 r v σ) (upd X (66 + r) v) := by
  obtain ⟨h1, h2, h3, h4, h5, h6, h7, h8, h9, h10, h11, h12, h13, h14, h15, h16, h17⟩ := h
  refine ⟨?_, ?_, ?_, ?_, ?_, ?_, ?_, ?_, ?_, ?_, ?_, ?_, ?_, ?_, ?_, ?_, ?_⟩
  · intro q hq; rw [sU_ne (by omega), pk_un (by omega)]; exact h1 q hq
  · intro b q hb hq; rw [sU_ne (by omega), pk_un (by omega)]; exact h2 b q hb hq
  · intro q hq; rw [sU_ne (by omega), pk_un (by omega)]; exact h3 q hq
  · intro q hq; rw [sU_ne (by omega), pk_un (by omega)]; exact h4 q hq
  · intro q hq; rw [sU_ne (by omega), pk_un (by omega)]; exact h5 q hq
  · intro q hq; rw [sU_if]; unfold upd; by_cases e : q = r
    · subst e; rw [if_pos rfl, if_pos ⟨rfl, rfl⟩]
    · rw [if_neg (by omega), if_neg (fun z => e z.2)]; exact h6 q hq
  · intro q hq; rw [sU_ne (by omega), pk_un (by omega)]; exact h7 q hq
  · intro q hq; rw [sU_ne (by omega), pk_un (by omega)]; exact h8 q hq
  · intro q hq; rw [sU_ne (by omega), pk_un (by omega)]; exact h9 q hq
  · intro q hq; rw [sU_ne (by omega), pk_un (by omega)]; exact h10 q hq
  · intro q hq; rw [sU_ne (by omega), pk_un (by omega)]; exact h11 q hq
  · rw [sU_ne (by omega), pk_un (by omega)]; exact h12
  · rw [sU_ne (by omega), pk_un (by omega)]; exact h13
  · rw [sU_ne (by omega), pk_un (by omega)]; exact h14
  · rw [sU_ne (by omega), pk_un (by omega)]; exact h15
  · rw [sU_ne (by omega), pk_un (by omega)]; exact h16
  · rw [sU_ne (by omega), pk_un (by omega)]; exact h17
theorem MR.u8 (hk : k ≤ 8) (h : MR k σ X) {r : Nat} (hr : r < k) (v : Int32) : MR k (sU 8 r v σ) (upd X (74 + r) v) := by
  obtain ⟨h1, h2, h3, h4, h5, h6, h7, h8, h9, h10, h11, h12, h13, h14, h15, h16, h17⟩ := h
  refine ⟨?_, ?_, ?_, ?_, ?_, ?_, ?_, ?_, ?_, ?_, ?_, ?_, ?_, ?_, ?_, ?_, ?_⟩
  · intro q hq; rw [sU_ne (by omega), pk_un (by omega)]; exact h1 q hq
  · intro b q hb hq; rw [sU_ne (by omega), pk_un (by omega)]; exact h2 b q hb hq
  · intro q hq; rw [sU_ne (by omega), pk_un (by omega)]; exact h3 q hq
  · intro q hq; rw [sU_ne (by omega), pk_un (by omega)]; exact h4 q hq
  · intro q hq; rw [sU_ne (by omega), pk_un (by omega)]; exact h5 q hq
  · intro q hq; rw [sU_ne (by omega), pk_un (by omega)]; exact h6 q hq
  · intro q hq; rw [sU_if]; unfold upd; by_cases e : q = r
    · subst e; rw [if_pos rfl, if_pos ⟨rfl, rfl⟩]
    · rw [if_neg (by omega), if_neg (fun z => e z.2)]; exact h7 q hq
  · intro q hq; rw [sU_ne (by omega), pk_un (by omega)]; exact h8 q hq
  · intro q hq; rw [sU_ne (by omega), pk_un (by omega)]; exact h9 q hq
  · intro q hq; rw [sU_ne (by omega), pk_un (by omega)]; exact h10 q hq
  · intro q hq; rw [sU_ne (by omega), pk_un (by omega)]; exact h11 q hq
  · rw [sU_ne (by omega), pk_un (by omega)]; exact h12
  · rw [sU_ne (by omega), pk_un (by omega)]; exact h13
  · rw [sU_ne (by omega), pk_un (by omega)]; exact h14
  · rw [sU_ne (by omega), pk_un (by omega)]; exact h15
  · rw [sU_ne (by omega), pk_un (by omega)]; exact h16
  · rw [sU_ne (by omega), pk_un (by omega)]; exact h17
theorem MR.u9 (hk : k ≤ 8) (h : MR k σ X) {r : Nat} (hr : r < k) (v : Int32) : MR k (sU 9 r v σ) (upd X (82 + r) v) := by
  obtain ⟨h1, h2, h3, h4, h5, h6, h7, h8, h9, h10, h11, h12, h13, h14, h15, h16, h17⟩ := h
  refine ⟨?_, ?_, ?_, ?_, ?_, ?_, ?_, ?_, ?_, ?_, ?_, ?_, ?_, ?_, ?_, ?_, ?_⟩
  · intro q hq; rw [sU_ne (by omega), pk_un (by omega)]; exact h1 q hq
  · intro b q hb hq; rw [sU_ne (by omega), pk_un (by omega)]; exact h2 b q hb hq
  · intro q hq; rw [sU_ne (by omega), pk_un (by omega)]; exact h3 q hq
  · intro q hq; rw [sU_ne (by omega), pk_un (by omega)]; exact h4 q hq
  · intro q hq; rw [sU_ne (by omega), pk_un (by omega)]; exact h5 q hq
  · intro q hq; rw [sU_ne (by omega), pk_un (by omega)]; exact h6 q hq
  · intro q hq; rw [sU_ne (by omega), pk_un (by omega)]; exact h7 q hq
  · intro q hq; rw [sU_if]; unfold upd; by_cases e : q = r
    · subst e; rw [if_pos rfl, if_pos ⟨rfl, rfl⟩]
    · rw [if_neg (by omega), if_neg (fun z => e z.2)]; exact h8 q hq
  · intro q hq; rw [sU_ne (by omega), pk_un (by omega)]; exact h9 q hq
  · intro q hq; rw [sU_ne (by omega), pk_un (by omega)]; exact h10 q hq
  · intro q hq; rw [sU_ne (by omega), pk_un (by omega)]; exact h11 q hq
  · rw [sU_ne (by omega), pk_un (by omega)]; exact h12
  · rw [sU_ne (by omega), pk_un (by omega)]; exact h13
  · rw [sU_ne (by omega), pk_un (by omega)]; exact h14
  · rw [sU_ne (by omega), pk_un (by omega)]; exact h15
  · rw [sU_ne (by omega), pk_un (by omega)]; exact h16
  · rw [sU_ne (by omega), pk_un (by omega)]; exact h17
theorem MR.u10 (hk : k ≤ 8) (h : MR k σ X) {r : Nat} (hr : r < k) (v : Int32) : MR k (sU 10 r v σ) (upd X (90 + r) v) := by
  obtain ⟨h1, h2, h3, h4, h5, h6, h7, h8, h9, h10, h11, h12, h13, h14, h15, h16, h17⟩ := h
  refine ⟨?_, ?_, ?_, ?_, ?_, ?_, ?_, ?_, ?_, ?_, ?_, ?_, ?_, ?_, ?_, ?_, ?_⟩
  · intro q hq; rw [sU_ne (by omega), pk_un (by omega)]; exact h1 q hq
  · intro b q hb hq; rw [sU_ne (by omega), pk_un (by omega)]; exact h2 b q hb hq
  · intro q hq; rw [sU_ne (by omega), pk_un (by omega)]; exact h3 q hq
  · intro q hq; rw [sU_ne (by omega), pk_un (by omega)]; exact h4 q hq
  · intro q hq; rw [sU_ne (by omega), pk_un (by omega)]; exact h5 q hq
  · intro q hq; rw [sU_ne (by omega), pk_un (by omega)]; exact h6 q hq
  · intro q hq; rw [sU_ne (by omega), pk_un (by omega)]; exact h7 q hq
  · intro q hq; rw [sU_ne (by omega), pk_un (by omega)]; exact h8 q hq
  · intro q hq; rw [sU_if]; unfold upd; by_cases e : q = r
    · subst e; rw [if_pos rfl, if_pos ⟨rfl, rfl⟩]
    · rw [if_neg (by omega), if_neg (fun z => e z.2)]; exact h9 q hq
  · intro q hq; rw [sU_ne (by omega), pk_un (by omega)]; exact h10 q hq
  · intro q hq; rw [sU_ne (by omega), pk_un (by omega)]; exact h11 q hq
  · rw [sU_ne (by omega), pk_un (by omega)]; exact h12
  · rw [sU_ne (by omega), pk_un (by omega)]; exact h13
  · rw [sU_ne (by omega), pk_un (by omega)]; exact h14
  · rw [sU_ne (by omega), pk_un (by omega)]; exact h15
  · rw [sU_ne (by omega), pk_un (by omega)]; exact h16
  · rw [sU_ne (by omega), pk_un (by omega)]; exact h17
theorem MR.u11 (hk : k ≤ 8) (h : MR k σ X) {r : Nat} (hr : r < k) (v : Int32) : MR k (sU 11 r v σ) (upd X (98 + r) v) := by
  obtain ⟨h1, h2, h3, h4, h5, h6, h7, h8, h9, h10, h11, h12, h13, h14, h15, h16, h17⟩ := h
  refine ⟨?_, ?_, ?_, ?_, ?_, ?_, ?_, ?_, ?_, ?_, ?_, ?_, ?_, ?_, ?_, ?_, ?_⟩
  · intro q hq; rw [sU_ne (by omega), pk_un (by omega)]; exact h1 q hq
  · intro b q hb hq; rw [sU_ne (by omega), pk_un (by omega)]; exact h2 b q hb hq
  · intro q hq; rw [sU_ne (by omega), pk_un (by omega)]; exact h3 q hq
  · intro q hq; rw [sU_ne (by omega), pk_un (by omega)]; exact h4 q hq
  · intro q hq; rw [sU_ne (by omega), pk_un (by omega)]; exact h5 q hq
  · intro q hq; rw [sU_ne (by omega), pk_un (by omega)]; exact h6 q hq
  · intro q hq; rw [sU_ne (by omega), pk_un (by omega)]; exact h7 q hq
  · intro q hq; rw [sU_ne (by omega), pk_un (by omega)]; exact h8 q hq
  · intro q hq; rw [sU_ne (by omega), pk_un (by omega)]; exact h9 q hq
  · intro q hq; rw [sU_if]; unfold upd; by_cases e : q = r
    · subst e; rw [if_pos rfl, if_pos ⟨rfl, rfl⟩]
    · rw [if_neg (by omega), if_neg (fun z => e z.2)]; exact h10 q hq
  · intro q hq; rw [sU_ne (by omega), pk_un (by omega)]; exact h11 q hq
  · rw [sU_ne (by omega), pk_un (by omega)]; exact h12
  · rw [sU_ne (by omega), pk_un (by omega)]; exact h13
  · rw [sU_ne (by omega), pk_un (by omega)]; exact h14
  · rw [sU_ne (by omega), pk_un (by omega)]; exact h15
  · rw [sU_ne (by omega), pk_un (by omega)]; exact h16
  · rw [sU_ne (by omega), pk_un (by omega)]; exact h17
theorem MR.u7 (hk : k ≤ 8) (h : MR k σ X) {r : Nat} (hr : r < k) (v : Int32) : MR k (sU 7 r v σ) (upd X (106 + r) v) := by
  obtain ⟨h1, h2, h3, h4, h5, h6, h7, h8, h9, h10, h11, h12, h13, h14, h15, h16, h17⟩ := h
  refine ⟨?_, ?_, ?_, ?_, ?_, ?_, ?_, ?_, ?_, ?_, ?_, ?_, ?_, ?_, ?_, ?_, ?_⟩
  · intro q hq; rw [sU_ne (by omega), pk_un (by omega)]; exact h1 q hq
  · intro b q hb hq; rw [sU_ne (by omega), pk_un (by omega)]; exact h2 b q hb hq
  · intro q hq; rw [sU_ne (by omega), pk_un (by omega)]; exact h3 q hq
  · intro q hq; rw [sU_ne (by omega), pk_un (by omega)]; exact h4 q hq
  · intro q hq; rw [sU_ne (by omega), pk_un (by omega)]; exact h5 q hq
  · intro q hq; rw [sU_ne (by omega), pk_un (by omega)]; exact h6 q hq
  · intro q hq; rw [sU_ne (by omega), pk_un (by omega)]; exact h7 q hq
  · intro q hq; rw [sU_ne (by omega), pk_un (by omega)]; exact h8 q hq
  · intro q hq; rw [sU_ne (by omega), pk_un (by omega)]; exact h9 q hq
  · intro q hq; rw [sU_ne (by omega), pk_un (by omega)]; exact h10 q hq
  · intro q hq; rw [sU_if]; unfold upd; by_cases e : q = r
    · subst e; rw [if_pos rfl, if_pos ⟨rfl, rfl⟩]
    · rw [if_neg (by omega), if_neg (fun z => e z.2)]; exact h11 q hq
  · rw [sU_ne (by omega), pk_un (by omega)]; exact h12
  · rw [sU_ne (by omega), pk_un (by omega)]; exact h13
  · rw [sU_ne (by omega), pk_un (by omega)]; exact h14
  · rw [sU_ne (by omega), pk_un (by omega)]; exact h15
  · rw [sU_ne (by omega), pk_un (by omega)]; exact h16
  · rw [sU_ne (by omega), pk_un (by omega)]; exact h17
theorem MR.v13 (hk : k ≤ 8) (h : MR k σ X) (v : Int32) : MR k (sS 13 v σ) (upd X 114 v) := by
  obtain ⟨h1, h2, h3, h4, h5, h6, h7, h8, h9, h10, h11, h12, h13, h14, h15, h16, h17⟩ := h
  refine ⟨?_, ?_, ?_, ?_, ?_, ?_, ?_, ?_, ?_, ?_, ?_, ?_, ?_, ?_, ?_, ?_, ?_⟩
  · intro q hq; rw [sS_ne (by omega), pk_un (by omega)]; exact h1 q hq
  · intro b q hb hq; rw [sS_ne (by omega), pk_un (by omega)]; exact h2 b q hb hq
  · intro q hq; rw [sS_ne (by omega), pk_un (by omega)]; exact h3 q hq
  · intro q hq; rw [sS_ne (by omega), pk_un (by omega)]; exact h4 q hq
  · intro q hq; rw [sS_ne (by omega), pk_un (by omega)]; exact h5 q hq
  · intro q hq; rw [sS_ne (by omega), pk_un (by omega)]; exact h6 q hq
  · intro q hq; rw [sS_ne (by omega), pk_un (by omega)]; exact h7 q hq
  · intro q hq; rw [sS_ne (by omega), pk_un (by omega)]; exact h8 q hq
  · intro q hq; rw [sS_ne (by omega), pk_un (by omega)]; exact h9 q hq
  · intro q hq; rw [sS_ne (by omega), pk_un (by omega)]; exact h10 q hq
  · intro q hq; rw [sS_ne (by omega), pk_un (by omega)]; exact h11 q hq
  · rw [sS_if, if_pos rfl]; exact pk_us
  · rw [sS_ne (by omega), pk_un (by omega)]; exact h13
  · rw [sS_ne (by omega), pk_un (by omega)]; exact h14
  · rw [sS_ne (by omega), pk_un (by omega)]; exact h15
  · rw [sS_ne (by omega), pk_un (by omega)]; exact h16
  · rw [sS_ne (by omega), pk_un (by omega)]; exact h17
theorem MR.v14 (hk : k ≤ 8) (h : MR k σ X) (v : Int32) : MR k (sS 14 v σ) (upd X 115 v) := by
  obtain ⟨h1, h2, h3, h4, h5, h6, h7, h8, h9, h10, h11, h12, h13, h14, h15, h16, h17⟩ := h
  refine ⟨?_, ?_, ?_, ?_, ?_, ?_, ?_, ?_, ?_, ?_, ?_, ?_, ?_, ?_, ?_, ?_, ?_⟩
  · intro q hq; rw [sS_ne (by omega), pk_un (by omega)]; exact h1 q hq
  · intro b q hb hq; rw [sS_ne (by omega), pk_un (by omega)]; exact h2 b q hb hq
  · intro q hq; rw [sS_ne (by omega), pk_un (by omega)]; exact h3 q hq
  · intro q hq; rw [sS_ne (by omega), pk_un (by omega)]; exact h4 q hq
  · intro q hq; rw [sS_ne (by omega), pk_un (by omega)]; exact h5 q hq
  · intro q hq; rw [sS_ne (by omega), pk_un (by omega)]; exact h6 q hq
  · intro q hq; rw [sS_ne (by omega), pk_un (by omega)]; exact h7 q hq
  · intro q hq; rw [sS_ne (by omega), pk_un (by omega)]; exact h8 q hq
  · intro q hq; rw [sS_ne (by omega), pk_un (by omega)]; exact h9 q hq
  · intro q hq; rw [sS_ne (by omega), pk_un (by omega)]; exact h10 q hq
  · intro q hq; rw [sS_ne (by omega), pk_un (by omega)]; exact h11 q hq
  · rw [sS_ne (by omega), pk_un (by omega)]; exact h12
  · rw [sS_if, if_pos rfl]; exact pk_us
  · rw [sS_ne (by omega), pk_un (by omega)]; exact h14
  · rw [sS_ne (by omega), pk_un (by omega)]; exact h15
  · rw [sS_ne (by omega), pk_un (by omega)]; exact h16
  · rw [sS_ne (by omega), pk_un (by omega)]; exact h17
theorem MR.v15 (hk : k ≤ 8) (h : MR k σ X) (v : Int32) : MR k (sS 15 v σ) (upd X 116 v) := by
  obtain ⟨h1, h2, h3, h4, h5, h6, h7, h8, h9, h10, h11, h12, h13, h14, h15, h16, h17⟩ := h
  refine ⟨?_, ?_, ?_, ?_, ?_, ?_, ?_, ?_, ?_, ?_, ?_, ?_, ?_, ?_, ?_, ?_, ?_⟩
  · intro q hq; rw [sS_ne (by omega), pk_un (by omega)]; exact h1 q hq
  · intro b q hb hq; rw [sS_ne (by omega), pk_un (by omega)]; exact h2 b q hb hq
  · intro q hq; rw [sS_ne (by omega), pk_un (by omega)]; exact h3 q hq
  · intro q hq; rw [sS_ne (by omega), pk_un (by omega)]; exact h4 q hq
  · intro q hq; rw [sS_ne (by omega), pk_un (by omega)]; exact h5 q hq
  · intro q hq; rw [sS_ne (by omega), pk_un (by omega)]; exact h6 q hq
  · intro q hq; rw [sS_ne (by omega), pk_un (by omega)]; exact h7 q hq
  · intro q hq; rw [sS_ne (by omega), pk_un (by omega)]; exact h8 q hq
  · intro q hq; rw [sS_ne (by omega), pk_un (by omega)]; exact h9 q hq
  · intro q hq; rw [sS_ne (by omega), pk_un (by omega)]; exact h10 q hq
  · intro q hq; rw [sS_ne (by omega), pk_un (by omega)]; exact h11 q hq
  · rw [sS_ne (by omega), pk_un (by omega)]; exact h12
  · rw [sS_ne (by omega), pk_un (by omega)]; exact h13
  · rw [sS_if, if_pos rfl]; exact pk_us
  · rw [sS_ne (by omega), pk_un (by omega)]; exact h15
  · rw [sS_ne (by omega), pk_un (by omega)]; exact h16
  · rw [sS_ne (by omega), pk_un (by omega)]; exact h17
theorem MR.v16 (hk : k ≤ 8) (h : MR k σ X) (v : Int32) : MR k (sS 16 v σ) (upd X 117 v) := by
  obtain ⟨h1, h2, h3, h4, h5, h6, h7, h8, h9, h10, h11, h12, h13, h14, h15, h16, h17⟩ := h
  refine ⟨?_, ?_, ?_, ?_, ?_, ?_, ?_, ?_, ?_, ?_, ?_, ?_, ?_, ?_, ?_, ?_, ?_⟩
  · intro q hq; rw [sS_ne (by omega), pk_un (by omega)]; exact h1 q hq
  · intro b q hb hq; rw [sS_ne (by omega), pk_un (by omega)]; exact h2 b q hb hq
  · intro q hq; rw [sS_ne (by omega), pk_un (by omega)]; exact h3 q hq
  · intro q hq; rw [sS_ne (by omega), pk_un (by omega)]; exact h4 q hq
  · intro q hq; rw [sS_ne (by omega), pk_un (by omega)]; exact h5 q hq
  · intro q hq; rw [sS_ne (by omega), pk_un (by omega)]; exact h6 q hq
  · intro q hq; rw [sS_ne (by omega), pk_un (by omega)]; exact h7 q hq
  · intro q hq; rw [sS_ne (by omega), pk_un (by omega)]; exact h8 q hq
  · intro q hq; rw [sS_ne (by omega), pk_un (by omega)]; exact h9 q hq
  · intro q hq; rw [sS_ne (by omega), pk_un (by omega)]; exact h10 q hq
  · intro q hq; rw [sS_ne (by omega), pk_un (by omega)]; exact h11 q hq
  · rw [sS_ne (by omega), pk_un (by omega)]; exact h12
  · rw [sS_ne (by omega), pk_un (by omega)]; exact h13
  · rw [sS_ne (by omega), pk_un (by omega)]; exact h14
  · rw [sS_if, if_pos rfl]; exact pk_us
  · rw [sS_ne (by omega), pk_un (by omega)]; exact h16
  · rw [sS_ne (by omega), pk_un (by omega)]; exact h17
theorem MR.v12 (hk : k ≤ 8) (h : MR k σ X) (v : Int32) : MR k (sS 12 v σ) (upd X 118 v) := by
  obtain ⟨h1, h2, h3, h4, h5, h6, h7, h8, h9, h10, h11, h12, h13, h14, h15, h16, h17⟩ := h
  refine ⟨?_, ?_, ?_, ?_, ?_, ?_, ?_, ?_, ?_, ?_, ?_, ?_, ?_, ?_, ?_, ?_, ?_⟩
  · intro q hq; rw [sS_ne (by omega), pk_un (by omega)]; exact h1 q hq
  · intro b q hb hq; rw [sS_ne (by omega), pk_un (by omega)]; exact h2 b q hb hq
  · intro q hq; rw [sS_ne (by omega), pk_un (by omega)]; exact h3 q hq
  · intro q hq; rw [sS_ne (by omega), pk_un (by omega)]; exact h4 q hq
  · intro q hq; rw [sS_ne (by omega), pk_un (by omega)]; exact h5 q hq
  · intro q hq; rw [sS_ne (by omega), pk_un (by omega)]; exact h6 q hq
  · intro q hq; rw [sS_ne (by omega), pk_un (by omega)]; exact h7 q hq
  · intro q hq; rw [sS_ne (by omega), pk_un (by omega)]; exact h8 q hq
  · intro q hq; rw [sS_ne (by omega), pk_un (by omega)]; exact h9 q hq
  · intro q hq; rw [sS_ne (by omega), pk_un (by omega)]; exact h10 q hq
  · intro q hq; rw [sS_ne (by omega), pk_un (by omega)]; exact h11 q hq
  · rw [sS_ne (by omega), pk_un (by omega)]; exact h12
  · rw [sS_ne (by omega), pk_un (by omega)]; exact h13
  · rw [sS_ne (by omega), pk_un (by omega)]; exact h14
  · rw [sS_ne (by omega), pk_un (by omega)]; exact h15
  · rw [sS_if, if_pos rfl]; exact pk_us
  · rw [sS_ne (by omega), pk_un (by omega)]; exact h17
theorem MR.v17 (hk : k ≤ 8) (h : MR k σ X) (v : Int32) : MR k (sS 17 v σ) (upd X 119 v) := by
  obtain ⟨h1, h2, h3, h4, h5, h6, h7, h8, h9, h10, h11, h12, h13, h14, h15, h16, h17⟩ := h
  refine ⟨?_, ?_, ?_, ?_, ?_, ?_, ?_, ?_, ?_, ?_, ?_, ?_, ?_, ?_, ?_, ?_, ?_⟩
  · intro q hq; rw [sS_ne (by omega), pk_un (by omega)]; exact h1 q hq
  · intro b q hb hq; rw [sS_ne (by omega), pk_un (by omega)]; exact h2 b q hb hq
  · intro q hq; rw [sS_ne (by omega), pk_un (by omega)]; exact h3 q hq
  · intro q hq; rw [sS_ne (by omega), pk_un (by omega)]; exact h4 q hq
  · intro q hq; rw [sS_ne (by omega), pk_un (by omega)]; exact h5 q hq
  · intro q hq; rw [sS_ne (by omega), pk_un (by omega)]; exact h6 q hq
  · intro q hq; rw [sS_ne (by omega), pk_un (by omega)]; exact h7 q hq
  · intro q hq; rw [sS_ne (by omega), pk_un (by omega)]; exact h8 q hq
  · intro q hq; rw [sS_ne (by omega), pk_un (by omega)]; exact h9 q hq
  · intro q hq; rw [sS_ne (by omega), pk_un (by omega)]; exact h10 q hq
  · intro q hq; rw [sS_ne (by omega), pk_un (by omega)]; exact h11 q hq
  · rw [sS_ne (by omega), pk_un (by omega)]; exact h12
  · rw [sS_ne (by omega), pk_un (by omega)]; exact h13
  · rw [sS_ne (by omega), pk_un (by omega)]; exact h14
  · rw [sS_ne (by omega), pk_un (by omega)]; exact h15
  · rw [sS_ne (by omega), pk_un (by omega)]; exact h16
  · rw [sS_if, if_pos rfl]; exact pk_us
theorem MR.irr (h : MR k σ X) (j : Nat) (hj : j = 1 ∨ j = 18 ∨ j = 19) (Z : Nat → Int32) : MR k (sA j Z σ) X := by
  obtain ⟨h1, h2, h3, h4, h5, h6, h7, h8, h9, h10, h11, h12, h13, h14, h15, h16, h17⟩ := h
  refine ⟨?_, ?_, ?_, ?_, ?_, ?_, ?_, ?_, ?_, ?_, ?_, ?_, ?_, ?_, ?_, ?_, ?_⟩
  · intro q hq; rw [sA_ne (by omega)]; exact h1 q hq
  · intro b q hb hq; rw [sA_ne (by omega)]; exact h2 b q hb hq
  · intro q hq; rw [sA_ne (by omega)]; exact h3 q hq
  · intro q hq; rw [sA_ne (by omega)]; exact h4 q hq
  · intro q hq; rw [sA_ne (by omega)]; exact h5 q hq
  · intro q hq; rw [sA_ne (by omega)]; exact h6 q hq
  · intro q hq; rw [sA_ne (by omega)]; exact h7 q hq
  · intro q hq; rw [sA_ne (by omega)]; exact h8 q hq
  · intro q hq; rw [sA_ne (by omega)]; exact h9 q hq
  · intro q hq; rw [sA_ne (by omega)]; exact h10 q hq
  · intro q hq; rw [sA_ne (by omega)]; exact h11 q hq
  · rw [sA_ne (by omega)]; exact h12
  · rw [sA_ne (by omega)]; exact h13
  · rw [sA_ne (by omega)]; exact h14
  · rw [sA_ne (by omega)]; exact h15
  · rw [sA_ne (by omega)]; exact h16
  · rw [sA_ne (by omega)]; exact h17
theorem MR.far {σ2 : tab} (h : MR k σ X) (e : ∀ j, j ≠ 1 → j ≠ 18 → j ≠ 19 → σ2 j = σ j) : MR k σ2 X := by
  obtain ⟨h1, h2, h3, h4, h5, h6, h7, h8, h9, h10, h11, h12, h13, h14, h15, h16, h17⟩ := h
  refine ⟨?_, ?_, ?_, ?_, ?_, ?_, ?_, ?_, ?_, ?_, ?_, ?_, ?_, ?_, ?_, ?_, ?_⟩
  · intro q hq; rw [e _ (by omega) (by omega) (by omega)]; exact h1 q hq
  · intro b q hb hq; rw [e _ (by omega) (by omega) (by omega)]; exact h2 b q hb hq
  · intro q hq; rw [e _ (by omega) (by omega) (by omega)]; exact h3 q hq
  · intro q hq; rw [e _ (by omega) (by omega) (by omega)]; exact h4 q hq
  · intro q hq; rw [e _ (by omega) (by omega) (by omega)]; exact h5 q hq
  · intro q hq; rw [e _ (by omega) (by omega) (by omega)]; exact h6 q hq
  · intro q hq; rw [e _ (by omega) (by omega) (by omega)]; exact h7 q hq
  · intro q hq; rw [e _ (by omega) (by omega) (by omega)]; exact h8 q hq
  · intro q hq; rw [e _ (by omega) (by omega) (by omega)]; exact h9 q hq
  · intro q hq; rw [e _ (by omega) (by omega) (by omega)]; exact h10 q hq
  · intro q hq; rw [e _ (by omega) (by omega) (by omega)]; exact h11 q hq
  · rw [e _ (by omega) (by omega) (by omega)]; exact h12
  · rw [e _ (by omega) (by omega) (by omega)]; exact h13
  · rw [e _ (by omega) (by omega) (by omega)]; exact h14
  · rw [e _ (by omega) (by omega) (by omega)]; exact h15
  · rw [e _ (by omega) (by omega) (by omega)]; exact h16
  · rw [e _ (by omega) (by omega) (by omega)]; exact h17
theorem MR.copy {X2 : Nat → Int32} (h : MR k σ X) (hk : k ≤ 8) (e : ∀ j, j < 120 → X2 j = X j) : MR k σ X2 := by
  obtain ⟨h1, h2, h3, h4, h5, h6, h7, h8, h9, h10, h11, h12, h13, h14, h15, h16, h17⟩ := h
  refine ⟨?_, ?_, ?_, ?_, ?_, ?_, ?_, ?_, ?_, ?_, ?_, ?_, ?_, ?_, ?_, ?_, ?_⟩
  · intro q hq; rw [e _ (by omega)]; exact h1 q hq
  · intro b q hb hq; rw [e _ (by omega)]; exact h2 b q hb hq
  · intro q hq; rw [e _ (by omega)]; exact h3 q hq
  · intro q hq; rw [e _ (by omega)]; exact h4 q hq
  · intro q hq; rw [e _ (by omega)]; exact h5 q hq
  · intro q hq; rw [e _ (by omega)]; exact h6 q hq
  · intro q hq; rw [e _ (by omega)]; exact h7 q hq
  · intro q hq; rw [e _ (by omega)]; exact h8 q hq
  · intro q hq; rw [e _ (by omega)]; exact h9 q hq
  · intro q hq; rw [e _ (by omega)]; exact h10 q hq
  · intro q hq; rw [e _ (by omega)]; exact h11 q hq
  · rw [e _ (by omega)]; exact h12
  · rw [e _ (by omega)]; exact h13
  · rw [e _ (by omega)]; exact h14
  · rw [e _ (by omega)]; exact h15
  · rw [e _ (by omega)]; exact h16
  · rw [e _ (by omega)]; exact h17
end MRS
/-- a term stands in the code's rows from a to b -/
def codeAt (C I : Nat → Int32) (a b : Nat) (c : RPN) : Prop := b = a + c.length ∧ ∀ (i : Nat) (q : Nat × Int32), c[i]? = some q → q.1 ≤ 5 ∧ C (a + i) = nI q.1 ∧ I (a + i) = q.2 ∧ (q.1 = 1 → vp_in q.2 7)
/-- a branch with its test stands at row b -/
def brAt (g : tab) (b : Nat) (x : RPN × RPN × RPN) : Prop := ∃ i0 i1 i2 i3 : Nat, g 47 b = nI i0 ∧ g 48 b = nI i1 ∧ g 49 b = nI i2 ∧ g 50 b = nI i3 ∧ i3 ≤ 840 ∧ codeAt (g 52) (g 53) i0 i1 x.1 ∧ codeAt (g 52) (g 53) i1 i2 x.2.1 ∧ codeAt (g 52) (g 53) i2 i3 x.2.2
def elAt (g : tab) (b : Nat) (x : RPN) : Prop := ∃ i2 i3 : Nat, g 49 b = nI i2 ∧ g 50 b = nI i3 ∧ i3 ≤ 840 ∧ codeAt (g 52) (g 53) i2 i3 x
def lawAt (g : tab) (j : Nat) (q : Option LAW) : Prop := match q with
  | none => g 43 j = g 44 j
  | some q => ∃ b0 : Nat, g 43 j = nI b0 ∧ g 44 j = nI (b0 + q.1.length + 1) ∧ b0 + q.1.length + 1 ≤ 260 ∧ (∀ (i : Nat) (x : RPN × RPN × RPN), q.1[i]? = some x → g 46 (b0 + i) = 1 ∧ brAt g (b0 + i) x) ∧ g 46 (b0 + q.1.length) = 0 ∧ elAt g (b0 + q.1.length) q.2
/-- terms of a law are whole, and short -/
def lawOK (q : Option LAW) : Prop := match q with
  | none => True
  | some q => (∀ x ∈ q.1, rpOK x.1 ∧ rpOK x.2.1 ∧ rpOK x.2.2 ∧ x.1.length ≤ 400 ∧ x.2.1.length ≤ 400 ∧ x.2.2.length ≤ 400) ∧ rpOK q.2 ∧ q.2.length ≤ 400
/-- a text is right -/
def TW (n : Nat → Nat) (t : tab) (lw : Nat → Option LAW) : Prop :=
  n 0 ≤ 6 ∧ n 1 ≤ 6 ∧ n 2 ≤ 8 ∧ n 3 ≤ 5 ∧ (∀ h, h < n 1 → vp_in (t 3 h) (n 0) ∧ 1 ≤ t 2 h) ∧ (∀ r, r < n 2 → vp_in (t 4 r) (n 0) ∧ vp_in (t 5 r) (n 1) ∧ 0 ≤ t 6 r ∧ t 6 r ≤ 9 ∧ 0 ≤ t 7 r ∧ t 7 r ≤ 99) ∧ (∀ m, m < n 3 → vp_in (t 9 m) 5 ∧ ∀ i, i < (t 9 m).toNatClampNeg → vp_in (t 10 (4 * m + i)) (n 0)) ∧ (∀ g, g < n 0 → 0 ≤ t 0 g ∧ t 0 g ≤ 9999 ∧ 0 ≤ t 1 g ∧ t 1 g ≤ 99) ∧ (∀ k, lawOK (lw k))
/-- the model's tables at a side hold a text -/
def TM (lv : Nat) (n : Nat → Nat) (t : tab) (lw : Nat → Option LAW) (g : tab) : Prop :=
  g 24 lv = nI (n 0) ∧ g 27 lv = nI (n 1) ∧ g 30 lv = nI (n 2) ∧ g 35 lv = nI (n 3) ∧ g 40 lv = t 12 0 ∧ g 41 lv = t 12 1 ∧ g 42 lv = t 12 2 ∧
  (∀ j, j < n 0 → g 25 (6 * lv + j) = t 0 j ∧ g 26 (6 * lv + j) = t 1 j) ∧ (∀ j, j < n 1 → g 28 (6 * lv + j) = t 2 j ∧ g 29 (6 * lv + j) = t 3 j) ∧
  (∀ j, j < n 2 → g 31 (8 * lv + j) = t 4 j ∧ g 32 (8 * lv + j) = t 5 j ∧ g 33 (8 * lv + j) = t 6 j ∧ g 34 (8 * lv + j) = t 7 j) ∧
  (∀ j, j < n 3 → g 36 (5 * lv + j) = t 8 j ∧ g 37 (5 * lv + j) = t 9 j ∧ ∀ i, i < (t 9 j).toNatClampNeg → g 38 (4 * (5 * lv + j) + i) = t 10 (4 * j + i) ∧ g 39 (4 * (5 * lv + j) + i) = t 11 (4 * j + i)) ∧
  (∀ k, k < 3 → lawAt g (3 * lv + k) (lw k))
/-- the model's worked row, its far row and its lots hold house σ -/
def RS (n : Nat → Nat) (σ : tab) (X F : Nat → Int32) (lots : Int32) : Prop := MR (n 2) σ X ∧ (∀ h, h < n 1 → F h = σ 1 h) ∧ lots = σ 18 0
theorem RS.mk' {n : Nat → Nat} {σ σ2 : tab} {X X2 F : Nat → Int32} {lots : Int32} (h : RS n σ X F lots) (hm : MR (n 2) σ2 X2) (e1 : σ2 1 = σ 1) (e2 : σ2 18 = σ 18) : RS n σ2 X2 F lots := ⟨hm, by rw [e1]; exact h.2.1, by rw [e2]; exact h.2.2⟩
section TWS
variable {n : Nat → Nat} {t : tab} {lw : Nat → Option LAW}
theorem TW.h3 (h : TW n t lw) {k : Nat} (hk : k < n 1) : vp_in (t 3 k) (n 0) := (h.2.2.2.2.1 k hk).1
theorem TW.h4 (h : TW n t lw) {k : Nat} (hk : k < n 2) : vp_in (t 4 k) (n 0) := (h.2.2.2.2.2.1 k hk).1
theorem TW.h5 (h : TW n t lw) {k : Nat} (hk : k < n 2) : vp_in (t 5 k) (n 1) := (h.2.2.2.2.2.1 k hk).2.1
theorem TW.h9 (h : TW n t lw) {k : Nat} (hk : k < n 3) : vp_in (t 9 k) 5 := (h.2.2.2.2.2.2.1 k hk).1
theorem TW.h10 (h : TW n t lw) {k i : Nat} (hk : k < n 3) (hi : i < (t 9 k).toNatClampNeg) : vp_in (t 10 (4 * k + i)) (n 0) := (h.2.2.2.2.2.2.1 k hk).2 i hi
theorem TW.n0 (h : TW n t lw) : n 0 ≤ 6 := h.1
theorem TW.n1 (h : TW n t lw) : n 1 ≤ 6 := h.2.1
theorem TW.n2 (h : TW n t lw) : n 2 ≤ 8 := h.2.2.1
theorem TW.n3 (h : TW n t lw) : n 3 ≤ 5 := h.2.2.2.1
theorem TW.law (h : TW n t lw) (k : Nat) : lawOK (lw k) := h.2.2.2.2.2.2.2.2 k
variable {lv : Nat} {g : tab}
theorem TM.c24 (h : TM lv n t lw g) : g 24 lv = nI (n 0) := h.1
theorem TM.c27 (h : TM lv n t lw g) : g 27 lv = nI (n 1) := h.2.1
theorem TM.c30 (h : TM lv n t lw g) : g 30 lv = nI (n 2) := h.2.2.1
theorem TM.c35 (h : TM lv n t lw g) : g 35 lv = nI (n 3) := h.2.2.2.1
theorem TM.c40 (h : TM lv n t lw g) : g 40 lv = t 12 0 := h.2.2.2.2.1
theorem TM.c41 (h : TM lv n t lw g) : g 41 lv = t 12 1 := h.2.2.2.2.2.1
theorem TM.c42 (h : TM lv n t lw g) : g 42 lv = t 12 2 := h.2.2.2.2.2.2.1
theorem TM.c25 (h : TM lv n t lw g) {j : Nat} (hj : j < n 0) : g 25 (6 * lv + j) = t 0 j := (h.2.2.2.2.2.2.2.1 j hj).1
theorem TM.c26 (h : TM lv n t lw g) {j : Nat} (hj : j < n 0) : g 26 (6 * lv + j) = t 1 j := (h.2.2.2.2.2.2.2.1 j hj).2
theorem TM.c28 (h : TM lv n t lw g) {j : Nat} (hj : j < n 1) : g 28 (6 * lv + j) = t 2 j := (h.2.2.2.2.2.2.2.2.1 j hj).1
theorem TM.c29 (h : TM lv n t lw g) {j : Nat} (hj : j < n 1) : g 29 (6 * lv + j) = t 3 j := (h.2.2.2.2.2.2.2.2.1 j hj).2
theorem TM.c31 (h : TM lv n t lw g) {j : Nat} (hj : j < n 2) : g 31 (8 * lv + j) = t 4 j := (h.2.2.2.2.2.2.2.2.2.1 j hj).1
theorem TM.c32 (h : TM lv n t lw g) {j : Nat} (hj : j < n 2) : g 32 (8 * lv + j) = t 5 j := (h.2.2.2.2.2.2.2.2.2.1 j hj).2.1
theorem TM.c33 (h : TM lv n t lw g) {j : Nat} (hj : j < n 2) : g 33 (8 * lv + j) = t 6 j := (h.2.2.2.2.2.2.2.2.2.1 j hj).2.2.1
theorem TM.c34 (h : TM lv n t lw g) {j : Nat} (hj : j < n 2) : g 34 (8 * lv + j) = t 7 j := (h.2.2.2.2.2.2.2.2.2.1 j hj).2.2.2
theorem TM.c36 (h : TM lv n t lw g) {j : Nat} (hj : j < n 3) : g 36 (5 * lv + j) = t 8 j := (h.2.2.2.2.2.2.2.2.2.2.1 j hj).1
theorem TM.c37 (h : TM lv n t lw g) {j : Nat} (hj : j < n 3) : g 37 (5 * lv + j) = t 9 j := (h.2.2.2.2.2.2.2.2.2.2.1 j hj).2.1
theorem TM.c38 (h : TM lv n t lw g) {j i : Nat} (hj : j < n 3) (hi : i < (t 9 j).toNatClampNeg) : g 38 (4 * (5 * lv + j) + i) = t 10 (4 * j + i) := ((h.2.2.2.2.2.2.2.2.2.2.1 j hj).2.2 i hi).1
theorem TM.c39 (h : TM lv n t lw g) {j i : Nat} (hj : j < n 3) (hi : i < (t 9 j).toNatClampNeg) : g 39 (4 * (5 * lv + j) + i) = t 11 (4 * j + i) := ((h.2.2.2.2.2.2.2.2.2.2.1 j hj).2.2 i hi).2
theorem TM.lawk (h : TM lv n t lw g) {k : Nat} (hk : k < 3) : lawAt g (3 * lv + k) (lw k) := h.2.2.2.2.2.2.2.2.2.2.2 k hk
end TWS
theorem f_pos (v : Int32) : (if 0 < v then v else 0) = (if v < 0 then 0 else v) := by
  by_cases h1 : 0 < v
  · rw [if_pos h1, if_neg (Int32.not_lt.mpr (Int32.le_of_lt h1))]
  · rw [if_neg h1]
    by_cases h2 : v < 0
    · rw [if_pos h2]
    · rw [if_neg h2]
      exact Int32.le_antisymm (Int32.not_lt.mp h2) (Int32.not_lt.mp h1)
/-- nibbles' loop: among the first g places, b is the first of the most -/
def nibI (σ : tab) (g b : Nat) : Prop := b < g ∧ (∀ j, j < b → σ 0 j < σ 0 b) ∧ ∀ j, b ≤ j → j < g → σ 0 j ≤ σ 0 b
theorem nibI_1 (σ : tab) : nibI σ 1 0 := ⟨Nat.zero_lt_one, fun j h => absurd h (Nat.not_lt_zero _), fun j _ h => by rw [show j = 0 by omega]; exact Int32.le_refl _⟩
theorem nibI_up {σ : tab} {g b : Nat} (h : nibI σ g b) (hc : σ 0 b < σ 0 g) : nibI σ (g + 1) g := by
  refine ⟨Nat.lt_succ_self _, fun j hj => ?_, fun j h1 h2 => by rw [show j = g by omega]; exact Int32.le_refl _⟩
  by_cases hjb : j < b
  · exact Int32.lt_trans (h.2.1 j hjb) hc
  · exact Int32.lt_of_le_of_lt (h.2.2 j (by omega) hj) hc
theorem nibI_no {σ : tab} {g b : Nat} (h : nibI σ g b) (hc : σ 0 g ≤ σ 0 b) : nibI σ (g + 1) b := by
  refine ⟨by have := h.1; omega, h.2.1, fun j h1 h2 => ?_⟩
  by_cases hj : j = g
  · rw [hj]; exact hc
  · exact h.2.2 j h1 (by omega)
theorem bestP_none {σ : tab} : ∀ k, (∀ j, j < k → σ 0 j ≤ 0) → bestP σ k = none
  | 0, _ => rfl
  | k + 1, h => by
    rw [bestP, bestP_none k (fun j hj => h j (by omega))]
    simp [Int32.not_lt.mpr (h k (by omega))]
theorem bestP_some {σ : tab} {b : Nat} (h0 : 0 < σ 0 b) : ∀ k, b < k → (∀ j, j < b → σ 0 j < σ 0 b) → (∀ j, b ≤ j → j < k → σ 0 j ≤ σ 0 b) → bestP σ k = some b
  | 0, hb, _, _ => absurd hb (Nat.not_lt_zero _)
  | k + 1, hb, h1, h2 => by
    have key : ∀ m, m ≤ b → bestP σ m = none ∨ ∃ c, c < m ∧ bestP σ m = some c := by
      intro m
      induction m with
      | zero => intro _; exact Or.inl rfl
      | succ m ih =>
        intro hm
        rcases ih (by omega) with e | ⟨c, hc, e⟩
        · rw [bestP, e]
          by_cases hp : 0 < σ 0 m
          · exact Or.inr ⟨m, by omega, by simp [hp]⟩
          · exact Or.inl (by simp [hp])
        · rw [bestP, e]
          by_cases hp : 0 < σ 0 m ∧ σ 0 c < σ 0 m
          · exact Or.inr ⟨m, by omega, by simp [hp]⟩
          · exact Or.inr ⟨c, by omega, by simp [hp]⟩
    by_cases hk : k = b
    · subst hk
      rw [bestP]
      rcases key k (Nat.le_refl _) with e | ⟨c, hc, e⟩
      · rw [e]; simp [h0]
      · rw [e]; simp [h0, h1 c hc]
    · rw [bestP, bestP_some h0 k (by omega) h1 (fun j hj hj2 => h2 j hj (by omega))]
      have : ¬ σ 0 b < σ 0 k := Int32.not_lt.mpr (h2 k (by omega) (by omega))
      simp [this]
theorem nibI_end {σ : tab} {k g b : Nat} (hn : ∀ j, j < 6 → 0 ≤ σ 0 j) (hk : k ≤ 6) (h : nibI σ g b) (e : g = k) (h0 : σ 0 b = 0) : bestP σ k = none := by
  subst e
  refine bestP_none _ (fun j hj => ?_)
  by_cases hjb : j < b
  · exact Int32.le_of_lt (by rw [← h0]; exact h.2.1 j hjb)
  · rw [← h0]; exact h.2.2 j (by omega) hj
theorem nibI_end2 {σ : tab} {k g b : Nat} (hn : ∀ j, j < 6 → 0 ≤ σ 0 j) (hk : k ≤ 6) (h : nibI σ g b) (e : g = k) (h0 : ¬ σ 0 b = 0) : bestP σ k = some b := by
  subst e
  refine bestP_some ?_ _ h.1 h.2.1 h.2.2
  have := hn b (by have := h.1; omega)
  exact Int32.lt_of_le_of_ne this (fun q => h0 q.symm)
