/-! small laws of the questions -/
set_option maxRecDepth 100000
theorem nI_ne_m1 {k : Nat} (h : k < 2 ^ 31) : ¬ nI k = -1 := fun q => by
  have e := congrArg Int32.toInt q
  rw [nI_toInt h] at e
  have : (-1 : Int32).toInt = -1 := rfl
  omega
theorem sale_no {a b r1 r2 : Int32} (h1 : r1 = a) (h2 : r2 = b) (h : r1 ≤ r2) (q : b < a) : False := by subst h1 h2; exact Int32.not_lt.mpr h q
theorem sale_yes {a b r1 r2 : Int32} (h1 : r1 = a) (h2 : r2 = b) (h : ¬ r1 ≤ r2) : b < a := by subst h1 h2; exact Int32.not_le.mp h
section HS
variable {n : Nat → Nat} {t : tab} {lw : Nat → Option LAW} {b s st : Int32}
theorem hs_a (h : b < 0) : ¬ hskip n (fun s => feesTo t s (n 2)) b s := fun q => q.1 h
theorem hs_i (hT : TW n t lw) (hm : st = if b < 0 then 0 else feesTo t s (n 2) - feesTo t b (n 2)) (hb : ¬ b < 0) : st.toInt = (feesTo t s (n 2)).toInt - (feesTo t b (n 2)).toInt := by
  have f1 := fees_in hT s (n 2) (Nat.le_refl _)
  have f2 := fees_in hT b (n 2) (Nat.le_refl _)
  have h8 := hT.n2
  rw [hm, if_neg hb]
  exact i_sub (by omega) (by omega)
theorem hs_d (hT : TW n t lw) (hm : st = if b < 0 then 0 else feesTo t s (n 2) - feesTo t b (n 2)) (hb : ¬ b < 0) (h : 0 < st) : hskip n (fun s => feesTo t s (n 2)) b s := by
  have e := hs_i hT hm hb
  refine ⟨hb, Or.inl ?_⟩
  rw [Int32.lt_iff_toInt_lt] at h ⊢
  have z : (0 : Int32).toInt = 0 := rfl
  show (feesTo t b (n 2)).toInt < (feesTo t s (n 2)).toInt
  omega
theorem hs_e (hT : TW n t lw) (hm : st = if b < 0 then 0 else feesTo t s (n 2) - feesTo t b (n 2)) (hb : ¬ b < 0) (h : st = 0) (hi : bitsTo b 8 ≤ bitsTo s 8) : hskip n (fun s => feesTo t s (n 2)) b s := by
  have e := hs_i hT hm hb
  refine ⟨hb, Or.inr ⟨?_, hi⟩⟩
  apply Int32.toInt_inj.mp
  rw [h] at e
  have z : (0 : Int32).toInt = 0 := rfl
  show (feesTo t s (n 2)).toInt = (feesTo t b (n 2)).toInt
  omega
theorem hs_b (hT : TW n t lw) (hm : st = if b < 0 then 0 else feesTo t s (n 2) - feesTo t b (n 2)) (hb : ¬ b < 0) (h1 : ¬ 0 < st) (h2 : ¬ st = 0) : ¬ hskip n (fun s => feesTo t s (n 2)) b s := by
  have e := hs_i hT hm hb
  have z : (0 : Int32).toInt = 0 := rfl
  have h3 : st.toInt < 0 := by
    have q1 : ¬ (0 : Int32).toInt < st.toInt := fun q => h1 (by rw [Int32.lt_iff_toInt_lt]; exact q)
    have q2 : st.toInt ≠ (0 : Int32).toInt := fun q => h2 (Int32.toInt_inj.mp q)
    omega
  rintro ⟨-, q | q⟩
  · rw [Int32.lt_iff_toInt_lt] at q
    have q' : (feesTo t b (n 2)).toInt < (feesTo t s (n 2)).toInt := q
    omega
  · have q' : (feesTo t s (n 2)).toInt = (feesTo t b (n 2)).toInt := congrArg Int32.toInt q.1
    omega
theorem hs_c (hT : TW n t lw) (hm : st = if b < 0 then 0 else feesTo t s (n 2) - feesTo t b (n 2)) (hb : ¬ b < 0) (h2 : st = 0) (hi : bitsTo s 8 < bitsTo b 8) : ¬ hskip n (fun s => feesTo t s (n 2)) b s := by
  have e := hs_i hT hm hb
  have z : (0 : Int32).toInt = 0 := rfl
  rintro ⟨-, q | q⟩
  · rw [Int32.lt_iff_toInt_lt] at q
    have q' : (feesTo t b (n 2)).toInt < (feesTo t s (n 2)).toInt := q
    rw [h2] at e
    omega
  · exact absurd q.2 (Int32.not_le.mpr hi)
end HS
theorem WF.hires {n : Nat → Nat} {B : Int} {t σ : tab} {lw : Nat → Option LAW} (hT : TW n t lw) (h : WF n B σ) {set : Int32} : ∀ k, k ≤ n 2 → WF n B (hiresTo σ set k)
  | 0, _ => h
  | k + 1, hk => by
    have ih := WF.hires hT h (set := set) k (by omega)
    show WF n B (zi (bitP set k) (if hiresTo σ set k 3 k = 3 then sU 3 k 0 (hiresTo σ set k) else hiresTo σ set k) (if hiresTo σ set k 3 k = 3 then hiresTo σ set k else homeP (hiresTo σ set k) k))
    by_cases hb : bitP set k
    · rw [zi_t hb]; split
      · exact ih.back (by omega) (by assumption)
      · exact ih
    · rw [zi_f hb]; split
      · exact ih
      · exact WF.home hT ih (by omega)
theorem WF.s18 {n : Nat → Nat} {B : Int} {σ : tab} (h : WF n B σ) (v : Int32) : WF n B (sS 18 v σ) := h.congr (fun k _ _ _ _ _ _ h7 _ _ => sS_ne h7)
theorem WF.cat10 {n : Nat → Nat} {B : Int} {σ : tab} (h : WF n B σ) (hv : 0 ≤ σ 12 0 + 10) : WF n B (cat10 σ) := h.s12 hv
/-! teaching -/
theorem WF.u10 {n : Nat → Nat} {B : Int} {σ : tab} (h : WF n B σ) {r g : Nat} (hg : g < n 0) (h6 : n 0 ≤ 6) : WF n B (sU 10 r (nI g) σ) := by
  have e : ∀ k, k ≠ 10 → sU 10 r (nI g) σ k = σ k := fun k hk => sU_ne hk
  obtain ⟨a1, a2, a3, a4, a5, a6, a7, a8, am⟩ := h
  refine ⟨fun q hq => ?_, by rw [e 3 (by omega)]; exact a2, by rw [e 3 (by omega), e 7 (by omega)]; exact a3, by rw [e 5 (by omega), e 3 (by omega), e 6 (by omega)]; exact a4, by rw [e 3 (by omega), e 4 (by omega)]; exact a5, by rw [e 8 (by omega)]; exact a6, by rw [e 1 (by omega)]; exact a7, by rw [e 12 (by omega)]; exact a8, am.congr (e 0 (by omega)) (e 5 (by omega)) (fun q => e _ (by omega))⟩
  rw [sU_if]; split
  · exact vp_in_nI hg (by omega)
  · exact a1 q hq
theorem lessonP_lt {G L w i : Nat} (h : 0 < G) : lessonP G L w i < G := Nat.mod_lt _ h
theorem WF.teach {n : Nat → Nat} {B : Int} {σ : tab} (h : WF n B σ) (h0 : 0 < n 0) (h6 : n 0 ≤ 6) {L w : Nat} {set : Int32} : ∀ k, WF n B (teachTo (n 0) L w set σ k)
  | 0 => h
  | k + 1 => by
    have ih := WF.teach h h0 h6 (L := L) (w := w) (set := set) k
    show WF n B (zi (bitP set k) (sU 10 k (nI (lessonP (n 0) L w (ranksTo set k))) (teachTo (n 0) L w set σ k)) (teachTo (n 0) L w set σ k))
    by_cases hb : bitP set k
    · rw [zi_t hb]; exact ih.u10 (lessonP_lt h0) h6
    · rw [zi_f hb]; exact ih
theorem ranks_mono (set : Int32) {a b : Nat} (h : a ≤ b) : ranksTo set a ≤ ranksTo set b := by
  induction b with
  | zero => rw [show a = 0 by omega]; exact Nat.le_refl _
  | succ b ih =>
    by_cases e : a = b + 1
    · rw [e]; exact Nat.le_refl _
    · have := ih (by omega)
      show _ ≤ zi (bitP set b) (ranksTo set b + 1) (ranksTo set b)
      by_cases hb : bitP set b
      · rw [zi_t hb]; omega
      · rw [zi_f hb]; exact this
theorem ranks_le (set : Int32) (k : Nat) : ranksTo set k ≤ k := by
  induction k with
  | zero => exact Nat.le_refl _
  | succ k ih =>
    show zi (bitP set k) (ranksTo set k + 1) (ranksTo set k) ≤ _
    by_cases hb : bitP set k
    · rw [zi_t hb]; omega
    · rw [zi_f hb]; omega
/-- a set's bits: as many as ranks -/
theorem bits_ranks (set : Int32) : ∀ k, k ≤ 8 → bitsTo set k = nI (ranksTo set k)
  | 0, _ => rfl
  | k + 1, hk => by
    have ih := bits_ranks set k (by omega)
    have hr := ranks_le set k
    show bitsTo set k + ((set >>> (nI k &&& 31)) &&& 1) = nI (zi (bitP set k) (ranksTo set k + 1) (ranksTo set k))
    by_cases hb : bitP set k
    · rw [zi_t hb, ih]; unfold bitP at hb; rw [hb, nI_1]
    · rw [zi_f hb, ih]
      have h0 : (set >>> (nI k &&& 31)) &&& 1 = 0 := Classical.byContradiction (fun q => hb (one_of_ne0 q))
      rw [h0]; simp
theorem bit_hi {s k m : Nat} (hs : s < 2 ^ m) (hm : m ≤ k) (hk : k < 31) (hm2 : m ≤ 8) : ¬ bitP (nI s) k := by
  unfold bitP
  intro h
  have h2 := (one_bit (nI s) (show k < 32 by omega)).mp h
  have hp : 2 ^ m ≤ 2 ^ k := Nat.pow_le_pow_right (by omega) hm
  have hlt : s < 2 ^ k := by omega
  have hp2 : (2 : Nat) ^ m ≤ 2 ^ 8 := Nat.pow_le_pow_right (by omega) hm2
  unfold bt at h2
  rw [show (nI s).toBitVec = BitVec.ofNat 32 s from rfl, BitVec.getLsbD_ofNat] at h2
  simp [Nat.testBit_lt_two_pow hlt] at h2
theorem ranks_all {s m : Nat} (hs : s < 2 ^ m) (hm : m ≤ 8) : ∀ k, m ≤ k → k ≤ 8 → ranksTo (nI s) k = ranksTo (nI s) m := by
  intro k
  induction k with
  | zero => intro h _; rw [show m = 0 by omega]
  | succ k ih =>
    intro h h8
    by_cases e : m = k + 1
    · rw [e]
    · show zi (bitP (nI s) k) _ _ = _
      rw [zi_f (bit_hi hs (by omega) (by omega) hm)]
      exact ih (by omega) (by omega)
theorem bits_set {s m : Nat} (hs : s < 2 ^ m) (hm : m ≤ 8) : bitsTo (nI s) 8 = nI (ranksTo (nI s) m) := by
  rw [bits_ranks _ 8 (Nat.le_refl _), ranks_all hs hm 8 hm (Nat.le_refl _)]
theorem pow_lim {G L : Nat} (hG : G ≤ 6) (hL : L ≤ 4) : G ^ L ≤ 1296 := Nat.le_trans (Nat.pow_le_pow_left hG L) (Nat.le_trans (Nat.pow_le_pow_right (by omega) hL) (by decide))
theorem pow_dv {G L r : Nat} (h : r < L) (hG : 0 < G) : G ^ (L - r) / G = G ^ (L - (r + 1)) := by
  rw [show L - r = (L - (r + 1)) + 1 by omega, Nat.pow_succ, Nat.mul_div_cancel _ hG]
theorem way_nn {n : Nat → Nat} {B : Int} {t σ : tab} {lw : Nat → Option LAW} (hT : TW n t lw) (h : WF n B σ) (hB : B ≤ 5000000) (h0 : 0 < n 0) (set : Int32) (k w : Nat) : 0 ≤ wayV n lw t σ set k w := (i_le0 _).mpr (worths_in hT (WF.runs hT (h.teach h0 hT.n0 _) k).am hB _ (Nat.le_refl _)).1
theorem way_in {n : Nat → Nat} {B : Int} {t σ : tab} {lw : Nat → Option LAW} (hT : TW n t lw) (h : WF n B σ) (hB : B ≤ 5000000) (h0 : 0 < n 0) (set : Int32) (k : Nat) : ∀ w, ∃ q, q ≤ w ∧ (wayTo n lw t σ set k (w + 1)).1 = nI q ∧ 0 ≤ (wayTo n lw t σ set k (w + 1)).2
  | 0 => by
    have hn := way_nn hT h hB h0 set k 0
    have e : wayTo n lw t σ set k 1 = (nI 0, wayV n lw t σ set k 0) := zi_f (fun q => absurd (Int32.le_trans hn q) (by show ¬ (0 : Int32) ≤ -1; decide)) _ _
    exact ⟨0, Nat.le_refl _, by rw [e], by rw [e]; exact hn⟩
  | w + 1 => by
    obtain ⟨q, h1, h2, h3⟩ := way_in hT h hB h0 set k w
    by_cases hc : wayV n lw t σ set k (w + 1) ≤ (wayTo n lw t σ set k (w + 1)).2
    · have e : wayTo n lw t σ set k (w + 2) = wayTo n lw t σ set k (w + 1) := zi_t hc _ _
      exact ⟨q, by omega, by rw [e]; exact h2, by rw [e]; exact h3⟩
    · have e : wayTo n lw t σ set k (w + 2) = (nI (w + 1), wayV n lw t σ set k (w + 1)) := zi_f hc _ _
      exact ⟨w + 1, Nat.le_refl _, by rw [e], by rw [e]; exact way_nn hT h hB h0 set k (w + 1)⟩
/-! jokes: what is found stays found -/
section JK
variable {n : Nat → Nat} {lw : Nat → Option LAW} {t T : tab} {k : Nat} {i : Int32}
theorem jkStep_s (P : Prop) (i a : Int32) (c v : Int32) : jkStep P i a (c, some v) = (c, some v) := rfl
theorem jkW_s (a b : Nat) (c v : Int32) : ∀ w, jkW n lw t T k i a b (c, some v) w = (c, some v)
  | 0 => rfl
  | w + 1 => by simp only [jkW]; rw [jkW_s a b c v w]; rfl
theorem jkB_s (a : Nat) (c v : Int32) : ∀ w, jkB n lw t T k i a (c, some v) w = (c, some v)
  | 0 => rfl
  | w + 1 => by simp only [jkB]; rw [jkB_s a c v w]; exact jkW_s a _ c v 61
theorem jkW_up (a b : Nat) {s : Int32 × Option Int32} {c v : Int32} {w : Nat} (h : jkW n lw t T k i a b s w = (c, some v)) : ∀ m, w ≤ m → jkW n lw t T k i a b s m = (c, some v) := by
  intro m
  induction m with
  | zero => intro hm; rw [show (0 : Nat) = w by omega]; exact h
  | succ m ih =>
    intro hm
    by_cases e : w = m + 1
    · rw [← e]; exact h
    · simp only [jkW]; rw [ih (by omega)]; rfl
theorem jkB_up (a : Nat) {s : Int32 × Option Int32} {c v : Int32} {w : Nat} (h : jkB n lw t T k i a s w = (c, some v)) : ∀ m, w ≤ m → jkB n lw t T k i a s m = (c, some v) := by
  intro m
  induction m with
  | zero => intro hm; rw [show (0 : Nat) = w by omega]; exact h
  | succ m ih =>
    intro hm
    by_cases e : w = m + 1
    · rw [← e]; exact h
    · simp only [jkB]; rw [ih (by omega)]; exact jkW_s a _ c v 61
theorem jkA_up {s : Int32 × Option Int32} {c v : Int32} {w : Nat} (h : jkA n lw t T k i s w = (c, some v)) : ∀ m, w ≤ m → jkA n lw t T k i s m = (c, some v) := by
  intro m
  induction m with
  | zero => intro hm; rw [show (0 : Nat) = w by omega]; exact h
  | succ m ih =>
    intro hm
    by_cases e : w = m + 1
    · rw [← e]; exact h
    · simp only [jkA]; rw [ih (by omega)]; exact jkB_s m c v _
end JK
/-! the tape -/
def put4 (f : Nat → Int32) (p : Nat) (w : Int32) : Nat → Int32 :=
  upd (upd (upd (upd f p (w >>> ((24 : Int32) &&& 31)).toInt8.toInt32) (p + 1) (w >>> ((16 : Int32) &&& 31)).toInt8.toInt32) (p + 2) (w >>> ((8 : Int32) &&& 31)).toInt8.toInt32) (p + 3) (w >>> ((0 : Int32) &&& 31)).toInt8.toInt32
def feed5 (f : Nat → Int32) (p : Nat) (a b c d e : Int32) : Nat → Int32 := put4 (put4 (put4 (put4 (put4 f p a) (p + 4) b) (p + 8) c) (p + 12) d) (p + 16) e
def feedO (f : Nat → Int32) (p : Nat) (a b c d e : Int32) : Int32 × (Nat → Int32) × Nat := if 2000 < p + 20 then (-1, f, p) else (nI (p + 20), feed5 f p a b c d e, p + 20)
noncomputable def backO (p : Nat) (k : Int32) : Int32 × Nat := zi (inP k 0 (nI p)) (nI (p - k.toNatClampNeg), p - k.toNatClampNeg) (-1, p)
theorem set_no {n : Nat → Nat} {t : tab} {lw : Nat → Option LAW} (hT : TW n t lw) {sx : Int32} (h : inP sx 1 (nI (2 ^ n 2) - 1)) (h4 : n 0 ≤ 0) : False := by
  by_cases e : n 2 = 0
  · rw [e] at h
    have h1 : ¬ sx < 1 := h.1
    have h2 : ¬ nI (2 ^ 0) - 1 < sx := h.2
    have h3 : nI (2 ^ 0) - 1 = 0 := by decide
    rw [h3] at h2
    grind
  · have := vp_lt (hT.h4 (show 0 < n 2 by omega)); omega
theorem setP_facts {n : Nat → Nat} {t : tab} {lw : Nat → Option LAW} (hT : TW n t lw) {sx kx : Int32} (h : isSetP n sx kx) :
    ∃ s k : Nat, sx = nI s ∧ 1 ≤ s ∧ s < 2 ^ n 2 ∧ kx = nI k ∧ 1 ≤ k ∧ k ≤ 300 ∧ bitsTo sx 8 = nI (ranksTo sx (n 2)) ∧ ranksTo sx (n 2) ≤ 4 ∧ 0 < n 0 := by
  obtain ⟨h1, h2, h3⟩ := h
  have h8 := hT.n2
  have hp : (2 : Nat) ^ n 2 ≤ 256 := (Nat.pow_le_pow_right (by omega) h8 : 2 ^ n 2 ≤ 2 ^ 8)
  have hpp : 0 < (2 : Nat) ^ n 2 := Nat.pow_pos (by omega)
  have h0 : 0 < n 0 := Nat.pos_of_ne_zero (fun q => set_no hT h1 (by omega))
  have e1 : nI (2 ^ n 2) - 1 = nI (2 ^ n 2 - 1) := by
    obtain ⟨m, hm⟩ : ∃ m, 2 ^ n 2 = m + 1 := ⟨2 ^ n 2 - 1, by omega⟩
    rw [hm, nI_pred]; rfl
  rw [e1] at h1
  obtain ⟨s, s1, s2, rfl⟩ := inP_nat (a := 1) (b := 2 ^ n 2 - 1) h1 (by omega) (by omega)
  obtain ⟨k, k1, k2, rfl⟩ := inP_nat (a := 1) (b := 300) h3 (by omega) (by omega)
  have hb := bits_set (s := s) (m := n 2) (by omega) h8
  refine ⟨s, k, rfl, s1, by omega, rfl, k1, k2, hb, ?_, h0⟩
  rw [hb] at h2
  have hr := ranks_le (nI s) (n 2)
  exact (nI_leI (a := ranksTo (nI s) (n 2)) (b := 4) (by omega) (by omega)).mp h2
/-- what a minute leaves alone -/
def quiet (j : Nat) : Prop := j = 1 ∨ j = 2 ∨ j = 9 ∨ j = 10 ∨ j = 12 ∨ j = 13 ∨ j = 15 ∨ j = 16 ∨ j = 18
theorem atP_q {n : Nat → Nat} {lw : Nat → Option LAW} {t τ : tab} {r j : Nat} (h : quiet j) : atP n lw t τ r j = τ j := by
  unfold quiet at h
  unfold atP
  split
  · split
    · exact sS_ne (by omega)
    · unfold loadP
      rw [sU_ne (by omega), sU_ne (by omega), sU_ne (by omega), sU_ne (by omega), sU_ne (by omega)]
      exact load2_ne (by omega) (by omega) (by omega) (by omega)
  · split
    · exact oddP_ne (by omega) (by omega) (by omega)
    · rfl
theorem ratP_q {n : Nat → Nat} {lw : Nat → Option LAW} {t τ : tab} {r j : Nat} (h : quiet j) : ratP n lw t τ r j = τ j := by
  have hw : workP τ r j = τ j := by unfold quiet at h; unfold workP; exact sU_ne (by omega)
  unfold ratP
  split
  · rw [atP_q h, hw]
  · split
    · unfold goingP
      unfold quiet at h
      split
      · rw [sU_ne (by omega), hw]
      · rw [sU_ne (by omega), sU_ne (by omega), sU_ne (by omega), dropsP_ne (by omega) (by omega) (by omega) (by omega), sU_ne (by omega), hw]
    · split
      · unfold backP
        unfold quiet at h
        split
        · rw [sU_ne (by omega), sU_ne (by omega), hw]
        · rw [sU_ne (by omega), hw]
      · rfl
theorem ratsP_q {n : Nat → Nat} {lw : Nat → Option LAW} {t τ : tab} {j : Nat} (h : quiet j) : ∀ k, ratsP n lw t τ k j = τ j
  | 0 => rfl
  | k + 1 => by show ratP n lw t (ratsP n lw t τ k) k j = _; rw [ratP_q h, ratsP_q h k]
theorem minuteP_q {n : Nat → Nat} {lw : Nat → Option LAW} {t τ : tab} {j : Nat} (h : quiet j) (h12 : j ≠ 12) (h13 : j ≠ 13) : minuteP n lw t τ j = τ j := by
  unfold minuteP
  rw [sS_ne h13, sS_ne h12, ratsP_q h, sS_ne (by unfold quiet at h; omega)]
theorem runsP_q {n : Nat → Nat} {lw : Nat → Option LAW} {t τ : tab} {j : Nat} (h : quiet j) (h12 : j ≠ 12) (h13 : j ≠ 13) : ∀ k, runsP n lw t τ k j = τ j
  | 0 => rfl
  | k + 1 => by show minuteP n lw t (runsP n lw t τ k) j = _; rw [minuteP_q h h12 h13, runsP_q h h12 h13 k]
theorem cat_ok {n : Nat → Nat} {B : Int} {t σ : tab} {lw : Nat → Option LAW} (h : WF n B σ) (hT : TW n t lw) (hc : σ 12 0 ≤ 2000) (k : Nat) : 0 ≤ runsP n lw t σ k 12 0 + 10 := by
  have key : ∀ k, 0 ≤ runsP n lw t σ k 12 0 ∧ runsP n lw t σ k 12 0 ≤ 2000 := by
    intro k
    induction k with
    | zero => exact ⟨h.w12, hc⟩
    | succ k ih =>
      show 0 ≤ minuteP n lw t (runsP n lw t σ k) 12 0 ∧ minuteP n lw t (runsP n lw t σ k) 12 0 ≤ 2000
      unfold minuteP
      rw [sS_ne (by omega), sS_if, if_pos rfl, ratsP_q (by unfold quiet; omega), sS_ne (by omega)]
      grind
  have := key k
  grind
theorem last_in {T : tab} : ∀ {k : Nat}, (∀ i, i < k → vp_in (T 2 i) 100) → lastTo T k ≤ 100
  | 0, _ => by show 0 ≤ 100; omega
  | k + 1, h => by
    have ih := last_in (k := k) (fun i hi => h i (by omega))
    have hk := vp_lt (h k (by omega))
    unfold lastTo
    split
    · omega
    · exact ih
theorem last_yes {T : tab} {i : Nat} {v : Int32} (hi : vp_in (T 2 i) 100) (hv : v = nI (lastTo T i) - 1) (c : ¬ T 2 i ≤ v) (hL : lastTo T i ≤ 100) : T 2 i = nI (lastTo T (i + 1)) - 1 := by
  obtain ⟨q, hq, e⟩ := vp_in_of hi (by omega)
  have ec : (T 2 i).toNatClampNeg = q := by rw [e]; exact nI_clamp (by omega)
  rw [hv, e, le_pred (by omega) (by omega)] at c
  unfold lastTo
  rw [ec, if_pos (by omega), nI_pred]
  exact e
theorem last_no {T : tab} {i : Nat} {v : Int32} (hi : vp_in (T 2 i) 100) (hv : v = nI (lastTo T i) - 1) (c : T 2 i ≤ v) (hL : lastTo T i ≤ 100) : v = nI (lastTo T (i + 1)) - 1 := by
  obtain ⟨q, hq, e⟩ := vp_in_of hi (by omega)
  have ec : (T 2 i).toNatClampNeg = q := by rw [e]; exact nI_clamp (by omega)
  rw [hv, e, le_pred (by omega) (by omega)] at c
  unfold lastTo
  rw [ec, if_neg (by omega)]
  exact hv
theorem cnt_eq (t σ : tab) (k : Nat) : inHeapP σ + sortedTo t σ true k + sortedTo t σ false k = inHeapP σ + holesTo σ k + carryTo σ 0 := by
  have key : sortedTo t σ true k + sortedTo t σ false k = holesTo σ k := by
    induction k with
    | zero => rfl
    | succ k ih => simp only [sortedTo, holesTo, ← ih]; simp only [if_true]; grind
  rw [Int32.add_assoc, key]
  show _ = _ + 0
  grind
theorem held_one {k : Nat} {hd : Nat → Option tab} {I X : Nat → Int32} {s : Nat} (h : HD k hd I X) (hs : s < 3) (z : ¬ I s = 0) : I s = 1 := by
  have q := (h s hs).1
  split at q
  · exact q
  · exact absurd q z
