/-! bits (the family bt of BITS.to-paste, pasted), and what a load does -/
set_option maxRecDepth 100000
def bt (x : Int32) (i : Nat) : Bool := x.toBitVec.getLsbD i
theorem b_ext {x y : Int32} (h : ∀ i, i < 32 → bt x i = bt y i) : x = y := Int32.toBitVec_inj.mp (BitVec.eq_of_getLsbD_eq (fun i hi => h i hi))
theorem b_or (x y : Int32) (i : Nat) : bt (x ||| y) i = (bt x i || bt y i) := by unfold bt; rw [Int32.toBitVec_or, BitVec.getLsbD_or]
theorem b_and (x y : Int32) (i : Nat) : bt (x &&& y) i = (bt x i && bt y i) := by unfold bt; rw [Int32.toBitVec_and, BitVec.getLsbD_and]
theorem b_xor (x y : Int32) (i : Nat) : bt (x ^^^ y) i = (bt x i ^^ bt y i) := by unfold bt; rw [Int32.toBitVec_xor, BitVec.getLsbD_xor]
theorem b_big {x : Int32} {i : Nat} (h : 32 ≤ i) : bt x i = false := BitVec.getLsbD_of_ge _ _ h
theorem b_255 (i : Nat) : bt 255 i = decide (i < 8) := by
  rcases Nat.lt_or_ge i 32 with h | h
  · exact (by decide +kernel : ∀ i, i < 32 → bt 255 i = decide (i < 8)) i h
  · rw [b_big h, decide_eq_false (by omega)]
theorem b_65535 (i : Nat) : bt 65535 i = decide (i < 16) := by
  rcases Nat.lt_or_ge i 32 with h | h
  · exact (by decide +kernel : ∀ i, i < 32 → bt 65535 i = decide (i < 16)) i h
  · rw [b_big h, decide_eq_false (by omega)]
theorem b_m1 : ∀ i, i < 32 → bt (-1) i = true := by decide +kernel
theorem b_0 (i : Nat) : bt 0 i = false := BitVec.getLsbD_zero
theorem s_l : ∀ n, n < 32 → ((nI n &&& 31).toBitVec.smod 32).toNat = n := by decide +kernel
theorem s_u : ∀ n, n < 32 → (((nI n).toUInt32 &&& Int32.toUInt32 31).toBitVec % 32).toNat = n := by decide +kernel
theorem b_shl (n : Nat) (hn : n < 32) (x : Int32) {i : Nat} (hi : i < 32) : bt (x <<< (nI n &&& 31)) i = (decide (n ≤ i) && bt x (i - n)) := by
  unfold bt
  rw [Int32.toBitVec_shiftLeft]
  show (x.toBitVec <<< ((nI n &&& 31).toBitVec.smod 32).toNat).getLsbD i = _
  rw [s_l n hn, BitVec.getLsbD_shiftLeft]
  rcases Nat.lt_or_ge i n with h | h
  · simp [h, Nat.not_le.mpr h]
  · simp [hi, h, Nat.not_lt.mpr h]
theorem b_ushr (n : Nat) (hn : n < 32) (x : Int32) (i : Nat) : bt ((x.toUInt32 >>> ((nI n).toUInt32 &&& Int32.toUInt32 31)).toInt32) i = bt x (n + i) := by
  show (x.toUInt32 >>> ((nI n).toUInt32 &&& Int32.toUInt32 31)).toBitVec.getLsbD i = x.toUInt32.toBitVec.getLsbD (n + i)
  rw [UInt32.toBitVec_shiftRight]
  show (x.toUInt32.toBitVec >>> (((nI n).toUInt32 &&& Int32.toUInt32 31).toBitVec % 32).toNat).getLsbD i = _
  rw [s_u n hn, BitVec.getLsbD_ushiftRight]
theorem b_sshr (n : Nat) (hn : n < 32) (x : Int32) {i : Nat} (hi : i < 32) : bt (x >>> (nI n &&& 31)) i = if n + i < 32 then bt x (n + i) else bt x 31 := by
  unfold bt
  rw [Int32.toBitVec_shiftRight]
  show (x.toBitVec.sshiftRight ((nI n &&& 31).toBitVec.smod 32).toNat).getLsbD i = _
  rw [s_l n hn, BitVec.getLsbD_sshiftRight, BitVec.msb_eq_getLsbD_last]
  simp [hi]
theorem b_1 : ∀ i, i < 32 → bt 1 i = decide (i = 0) := by decide +kernel
theorem one_bit (y : Int32) {g : Nat} (hg : g < 32) : (y >>> (nI g &&& 31)) &&& 1 = 1 ↔ bt y g = true := by
  constructor
  · intro h
    have e := congrArg (fun z => bt z 0) h
    simp only [b_and, b_sshr g hg y (show 0 < 32 by omega), b_1 0 (by omega)] at e
    simpa [hg] using e
  · intro h
    refine b_ext (fun i hi => ?_)
    rw [b_and, b_1 i hi, b_sshr g hg y hi]
    by_cases h0 : i = 0
    · subst h0; simp [hg, h]
    · simp [h0]
theorem zero_bit (y : Int32) {g : Nat} (hg : g < 32) : (y >>> (nI g &&& 31)) &&& 1 = 0 ↔ bt y g = false := by
  constructor
  · intro h
    have e := congrArg (fun z => bt z 0) h
    simp only [b_and, b_sshr g hg y (show 0 < 32 by omega), b_1 0 (by omega), b_0] at e
    simpa [hg] using e
  · intro h
    refine b_ext (fun i hi => ?_)
    rw [b_and, b_1 i hi, b_sshr g hg y hi, b_0]
    by_cases h0 : i = 0
    · subst h0; simp [hg, h]
    · simp [h0]
theorem bt_set (x : Int32) {g k : Nat} (hg : g < 32) (hk : k < 32) : bt (x ||| ((1 : Int32) <<< (nI k &&& 31))) g = (bt x g || decide (g = k)) := by
  rw [b_or, b_shl k hk 1 hg]
  congr 1
  by_cases h : k ≤ g
  · rw [b_1 (g - k) (by omega)]
    have : decide (g - k = 0) = decide (g = k) := decide_eq_decide.mpr (by omega)
    simp [h, this]
  · have : decide (g = k) = false := decide_eq_false (by omega)
    simp [h, this]
theorem hasL_bt (σ : tab) {g : Nat} (hg : g < 32) : hasLoadedP σ (nI g) ↔ bt (σ 19 0) g = true := one_bit _ hg
theorem eatsP_ne {σ : tab} {r : Nat} {k : Int32} {j : Nat} (h1 : j ≠ 8) (h2 : j ≠ 14) : eatsP σ r k j = σ j := by
  unfold eatsP; split
  · exact sS_ne h2
  · rw [sU_ne h1, sS_ne h2]
theorem load1_19 (lw : Nat → Option LAW) (t σ : tab) (r : Nat) : load1 lw t σ r 19 0 = (σ 19 0 ||| ((1 : Int32) <<< (σ 10 r &&& 31))) := by
  unfold load1; rw [sU_ne (by omega)]; rfl
theorem load2_ne {lw : Nat → Option LAW} {t σ : tab} {r j : Nat} (h1 : j ≠ 8) (h2 : j ≠ 14) (h3 : j ≠ 0) (h4 : j ≠ 19) : load2 lw t σ r j = σ j := by
  unfold load2; rw [eatsP_ne h1 h2]; unfold load1; rw [sU_ne h3, sS_ne h4]
theorem loadP_19 (n : Nat → Nat) (lw : Nat → Option LAW) (t σ : tab) (r : Nat) : loadP n lw t σ r 19 0 = (σ 19 0 ||| ((1 : Int32) <<< (σ 10 r &&& 31))) := by
  unfold loadP
  rw [sU_ne (by omega), sU_ne (by omega), sU_ne (by omega), sU_ne (by omega), sU_ne (by omega)]
  unfold load2; rw [eatsP_ne (by omega) (by omega)]
  exact load1_19 lw t σ r
theorem oddP_ne {n : Nat → Nat} {σ : tab} {r j : Nat} (h1 : j ≠ 8) (h2 : j ≠ 14) (h3 : j ≠ 0) : oddP n σ r j = σ j := by
  unfold oddP
  cases bestP σ (n 0) with
  | none => rfl
  | some b => show eatsP (sU 0 b (σ 0 b - 1) σ) r 1 j = σ j; rw [eatsP_ne h1 h2, sU_ne h3]
theorem loadF_le (lw : Nat → Option LAW) (t σ : tab) (r : Nat) : loadF lw t σ r ≤ loadN lw t σ r := by
  unfold loadF; simp only; split
  · exact Int32.le_of_lt (by assumption)
  · exact Int32.le_refl _
/-- isLoaded holds what was loaded -/
def LD (σ : tab) (X : Nat → Int32) : Prop := ∀ g, g < 6 → X g = zb (hasLoadedP σ (nI g))
theorem LD.of19 {σ σ2 : tab} {X : Nat → Int32} (h : LD σ X) (e : σ2 19 0 = σ 19 0) : LD σ2 X := fun g hg => by rw [h g hg]; unfold hasLoadedP; rw [e]
theorem LD.load {σ σ2 : tab} {X : Nat → Int32} {k : Nat} (h : LD σ X) (hk : k < 6) (e : σ2 19 0 = (σ 19 0 ||| ((1 : Int32) <<< (nI k &&& 31)))) : LD σ2 (upd X k 1) := fun g hg => by
  have e2 : hasLoadedP σ2 (nI g) ↔ (hasLoadedP σ (nI g) ∨ g = k) := by
    rw [hasL_bt _ (by omega), hasL_bt _ (by omega), e, bt_set _ (by omega) (by omega)]; simp
  rw [zb_congr e2]
  unfold upd; split
  · next hh => exact zb_1 (Or.inr hh)
  · next hh => rw [h g hg]; exact zb_congr (by simp [hh])
theorem z_sub0 {a b : Int32} (h : b ≤ a) : a - b = 0 ↔ a ≤ b := by grind
theorem loadTo_is {n : Nat → Nat} {lw : Nat → Option LAW} {t σ : tab} {r ho to : Nat} (hho : ho < n 1) (eho : t 5 r = nI ho) (hn : n 1 ≤ 6) (h : (errsP lw t σ r ∧ to = (ho + 1) % n 1) ∨ (¬ errsP lw t σ r ∧ to = ho)) : nI to = loadTo n lw t σ r := by
  unfold loadTo
  rcases h with ⟨h, rfl⟩ | ⟨h, rfl⟩
  · rw [if_pos h, eho, nI_1, pk_rem (by omega) (by omega) (by omega)]
  · rw [if_neg h, eho]
