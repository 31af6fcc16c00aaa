/-! names as numbers; bytes with no sign -/
set_option maxRecDepth 100000
def dg (x : Int32) : Nat := (x.toInt - 96).toNat
theorem isL_i {x : Int32} (h : isL x) : 97 ≤ x.toInt ∧ x.toInt ≤ 122 := by
  obtain ⟨h1, h2⟩ := h
  have h1 := Int32.not_lt.mp h1
  have h2 := Int32.not_lt.mp h2
  rw [Int32.le_iff_toInt_le] at h1 h2
  exact ⟨h1, h2⟩
theorem dg_in {x : Int32} (h : isL x) : 1 ≤ dg x ∧ dg x ≤ 26 ∧ x.toInt = (dg x : Int) + 96 := by
  have := isL_i h
  unfold dg
  omega
def nvR : List Int32 → Nat
  | [] => 0
  | x :: r => 27 * nvR r + dg x
def nvL (l : List Int32) : Nat := nvR l.reverse
theorem nvL_snoc (l : List Int32) (x : Int32) : nvL (l ++ [x]) = 27 * nvL l + dg x := by
  unfold nvL
  rw [List.reverse_append]; rfl
theorem nvR_inj : ∀ (l l' : List Int32), (∀ x ∈ l, isL x) → (∀ x ∈ l', isL x) → nvR l = nvR l' → l = l'
  | [], [], _, _, _ => rfl
  | [], y :: l', _, h2, e => by
    have := dg_in (h2 y List.mem_cons_self)
    have e : 0 = 27 * nvR l' + dg y := e
    omega
  | x :: l, [], h1, _, e => by
    have := dg_in (h1 x List.mem_cons_self)
    have e : 27 * nvR l + dg x = 0 := e
    omega
  | x :: l, y :: l', h1, h2, e => by
    have a := dg_in (h1 x List.mem_cons_self)
    have b := dg_in (h2 y List.mem_cons_self)
    have e : 27 * nvR l + dg x = 27 * nvR l' + dg y := e
    have e1 : dg x = dg y := by omega
    have e2 : nvR l = nvR l' := by omega
    have e3 : x = y := Int32.toInt_inj.mp (by omega)
    rw [e3, nvR_inj l l' (fun z hz => h1 z (List.mem_cons_of_mem _ hz)) (fun z hz => h2 z (List.mem_cons_of_mem _ hz)) e2]
theorem nvL_inj {l l' : List Int32} (h1 : ∀ x ∈ l, isL x) (h2 : ∀ x ∈ l', isL x) (e : nvL l = nvL l') : l = l' := by
  have := nvR_inj l.reverse l'.reverse (fun x hx => h1 x (List.mem_reverse.mp hx)) (fun x hx => h2 x (List.mem_reverse.mp hx)) e
  exact List.reverse_inj.mp this
theorem nvR_lt : ∀ (l : List Int32), (∀ x ∈ l, isL x) → nvR l < 27 ^ l.length
  | [], _ => by decide
  | x :: l, h => by
    have a := dg_in (h x List.mem_cons_self)
    have ih := nvR_lt l (fun z hz => h z (List.mem_cons_of_mem _ hz))
    show 27 * nvR l + dg x < 27 ^ (l.length + 1)
    rw [Nat.pow_succ]; omega
theorem nvL_lt {l : List Int32} (h : ∀ x ∈ l, isL x) (h8 : l.length ≤ 8) : nvL l < 27 ^ 8 := by
  have := nvR_lt l.reverse (fun x hx => h x (List.mem_reverse.mp hx))
  rw [List.length_reverse] at this
  exact Nat.lt_of_lt_of_le this (Nat.pow_le_pow_right (by omega) h8)
theorem app_dg {n : Nat} {x : Int32} (h : isL x) (hn : n < 27 ^ 7) : f_app (Int64.ofNat n) x = Int64.ofNat (27 * n + dg x) := by
  have a := dg_in h
  have b := isL_i h
  unfold f_app
  rw [if_neg (by intro q; rw [q] at b; exact absurd b.1 (by decide))]
  have e1 : (x - 97 + 1).toInt = x.toInt - 96 := by
    have z97 : (97 : Int32).toInt = 97 := rfl
    have z1 : (1 : Int32).toInt = 1 := rfl
    have d1 : (x - 97).toInt = x.toInt - 97 := by rw [Int32.toInt_sub, z97]; exact Int.bmod_eq_of_le_mul_two (by omega) (by omega)
    rw [Int32.toInt_add, d1, z1]
    rw [show x.toInt - 97 + 1 = x.toInt - 96 by omega]
    exact Int.bmod_eq_of_le_mul_two (by omega) (by omega)
  apply Int64.toInt_inj.mp
  rw [Int64.toInt_add, Int64.toInt_mul, Int32.toInt_toInt64, e1, Int64.toInt_ofNat_of_lt (by omega), Int64.toInt_ofNat_of_lt (by omega)]
  have z27 : (27 : Int64).toInt = 27 := rfl
  rw [z27]
  have m1 : (27 * (n : Int)).bmod (2 ^ 64) = 27 * (n : Int) := Int.bmod_eq_of_le_mul_two (by omega) (by omega)
  rw [m1]
  rw [show 27 * (n : Int) + (x.toInt - 96) = ((27 * n + dg x : Nat) : Int) by omega]
  exact Int.bmod_eq_of_le_mul_two (by omega) (by omega)
theorem wch_L (w : Nat) : ∀ x ∈ wchs w, isL x := by
  have h : ∀ w, w < 20 → ∀ x ∈ wchs w, isL x := by decide
  by_cases c : w < 20
  · exact h w c
  · have e : wchs w = wchs 19 := by
      unfold wchs
      split <;> first | omega | rfl
    rw [e]; exact h 19 (by decide)
theorem wch_inj : ∀ v, v < 20 → ∀ w, w < 20 → wchs v = wchs w → v = w := by decide
theorem wordFrom_some {l : List Int32} : ∀ f w k, w ≤ k → k < w + f → l = wchs k → (∀ j, w ≤ j → j < k → l ≠ wchs j) → wordFrom l f w = some k
  | 0, w, k, h1, h2, _, _ => by omega
  | f + 1, w, k, h1, h2, e, hn => by
    unfold wordFrom
    by_cases c : w = k
    · rw [if_pos (by rw [c]; exact e), c]
    · rw [if_neg (hn w (Nat.le_refl _) (by omega))]
      exact wordFrom_some f (w + 1) k (by omega) (by omega) e (fun j a b => hn j (by omega) b)
theorem wordFrom_none {l : List Int32} : ∀ f w, (∀ j, w ≤ j → j < w + f → l ≠ wchs j) → wordFrom l f w = none
  | 0, w, _ => rfl
  | f + 1, w, hn => by
    unfold wordFrom
    rw [if_neg (hn w (Nat.le_refl _) (by omega))]
    exact wordFrom_none f (w + 1) (fun j a b => hn j (by omega) (by omega))
theorem wordOf_is {l : List Int32} {k : Nat} (hk : k < 20) (e : l = wchs k) : wordOf l = some k := by
  unfold wordOf
  refine wordFrom_some 20 0 k (by omega) (by omega) e (fun j _ hj q => ?_)
  have := wch_inj k hk j (by omega) (by rw [← e, ← q])
  omega
theorem wordOf_no {l : List Int32} (h : ∀ k, k < 20 → l ≠ wchs k) : wordOf l = none := by
  unfold wordOf
  exact wordFrom_none 20 0 (fun j _ hj => h j (by omega))
theorem wordOf_long {l : List Int32} (h : 7 ≤ l.length) : wordOf l = none := wordOf_no (fun k _ q => by have := wchs_len k; rw [← q] at this; omega)
/-! a byte without its sign -/
def byteIn (x : Int32) : Prop := -128 ≤ x.toInt ∧ x.toInt ≤ 127
theorem byte_of {x : Int32} (h : byteIn x) : ∃ n : Nat, n < 256 ∧ x = Int32.ofNat n - 128 := by
  obtain ⟨h1, h2⟩ := h
  refine ⟨(x.toInt + 128).toNat, by omega, Int32.toInt_inj.mp ?_⟩
  have z : (128 : Int32).toInt = 128 := rfl
  rw [Int32.toInt_sub, z, Int32.toInt_ofNat_of_lt (by omega)]
  rw [show (((x.toInt + 128).toNat : Nat) : Int) - 128 = x.toInt by omega]
  exact (Int.bmod_eq_of_le_mul_two (by omega) (by omega)).symm
theorem byte_all : ∀ n, n < 256 → (isL ((Int32.ofNat n - 128) &&& 255) ↔ isL (Int32.ofNat n - 128)) ∧ (isD ((Int32.ofNat n - 128) &&& 255) ↔ isD (Int32.ofNat n - 128)) ∧ (isB ((Int32.ofNat n - 128) &&& 255) ↔ isB (Int32.ofNat n - 128)) ∧ signK ((Int32.ofNat n - 128) &&& 255) = signK (Int32.ofNat n - 128) ∧ (isL (Int32.ofNat n - 128) ∨ isD (Int32.ofNat n - 128) → (Int32.ofNat n - 128) &&& 255 = Int32.ofNat n - 128) := by decide +kernel
theorem b_L {x : Int32} (h : byteIn x) : isL (x &&& 255) ↔ isL x := by obtain ⟨n, hn, rfl⟩ := byte_of h; exact (byte_all n hn).1
theorem b_D {x : Int32} (h : byteIn x) : isD (x &&& 255) ↔ isD x := by obtain ⟨n, hn, rfl⟩ := byte_of h; exact (byte_all n hn).2.1
theorem b_B {x : Int32} (h : byteIn x) : isB (x &&& 255) ↔ isB x := by obtain ⟨n, hn, rfl⟩ := byte_of h; exact (byte_all n hn).2.2.1
theorem b_S {x : Int32} (h : byteIn x) : signK (x &&& 255) = signK x := by obtain ⟨n, hn, rfl⟩ := byte_of h; exact (byte_all n hn).2.2.2.1
theorem b_E {x : Int32} (h : byteIn x) (q : isL x ∨ isD x) : x &&& 255 = x := by obtain ⟨n, hn, rfl⟩ := byte_of h; exact (byte_all n hn).2.2.2.2 q
/-! the tape as rows -/
def tbAt (f : Nat → Int32) (tp k : Nat) : Int32 := if k < tp then f k else 0
def numV (c : Nat → Int32) (a : Nat) : Nat → Int32
  | 0 => 0
  | k + 1 => 10 * numV c a k + c (a + k) - 48
theorem tbAt_in {f : Nat → Int32} {tp k : Nat} (h : k < tp) : tbAt f tp k = f k := if_pos h
theorem tbAt_out {f : Nat → Int32} {tp k : Nat} (h : ¬ k < tp) : tbAt f tp k = 0 := if_neg h
theorem tbAt_lt {f : Nat → Int32} {tp k : Nat} (h : isL (tbAt f tp k) ∨ isD (tbAt f tp k)) : k < tp := by
  refine Classical.byContradiction (fun q => ?_)
  rw [tbAt_out q] at h
  exact absurd h (by decide)
theorem tbAt_b {f : Nat → Int32} {tp : Nat} (h : ∀ j, j < tp → byteIn (f j)) (k : Nat) : byteIn (tbAt f tp k) := by
  unfold tbAt
  split
  · next q => exact h k q
  · exact ⟨by decide, by decide⟩
theorem tbAt_255 (f : Nat → Int32) (tp k : Nat) : (if k < tp then f k &&& 255 else 0) = tbAt f tp k &&& 255 := by
  unfold tbAt; split <;> rfl
theorem cutL_snoc (c : Nat → Int32) (a n : Nat) : cutL c a (a + (n + 1)) = cutL c a (a + n) ++ [c (a + n)] := by
  unfold cutL
  rw [show a + (n + 1) - a = n + 1 by omega, show a + n - a = n by omega, List.range_succ, List.map_append]; rfl
theorem cutL_len (c : Nat → Int32) (a n : Nat) : (cutL c a (a + n)).length = n := by
  unfold cutL; simp
theorem cutL_mem {c : Nat → Int32} {a n : Nat} {x : Int32} (h : x ∈ cutL c a (a + n)) : ∃ j, j < n ∧ x = c (a + j) := by
  unfold cutL at h
  obtain ⟨j, hj, e⟩ := List.mem_map.mp h
  exact ⟨j, by have := List.mem_range.mp hj; omega, e.symm⟩
/-- a row as the model holds it -/
def rowM (c : Nat → Int32) (r : ROW) (gK gP gV : Int32) (wN : Int64) : Prop := gK = nI r.1 ∧ gP = nI r.2.1 ∧ (r.1 = 2 → gV = numV c r.2.1 (r.2.2 - r.2.1)) ∧ (r.1 = 1 → wN = Int64.ofNat (nvL (cutL c r.2.1 r.2.2)))
/-- the model's rows hold the list -/
def ROWS (c : Nat → Int32) (D : List ROW) (gK gP gV : Nat → Int32) (wN : Nat → Int64) : Prop := ∀ j r, D[j]? = some r → rowM c r (gK j) (gP j) (gV j) (wN j)
theorem ROWS.snoc {c : Nat → Int32} {D : List ROW} {gK gP gV : Nat → Int32} {wN : Nat → Int64} (h : ROWS c D gK gP gV wN) {r : ROW} {k p v : Int32} {w : Int64} (hr : rowM c r k p v w) {n : Nat} (hn : n = D.length) : ROWS c (D ++ [r]) (upd gK n k) (upd gP n p) (upd gV n v) (vp_updL wN n w) := by
  subst hn
  intro j r' hj
  by_cases e : j < D.length
  · rw [List.getElem?_append_left e] at hj
    have := h j r' hj
    unfold upd vp_updL
    rw [if_neg (by omega), if_neg (by omega), if_neg (by omega), if_neg (by omega)]; exact this
  · have hl := (List.getElem?_eq_some_iff.mp hj).1
    rw [List.length_append] at hl
    have hl : j < D.length + 1 := hl
    have ej : j = D.length := by omega
    rw [ej, List.getElem?_append_right (Nat.le_refl _)] at hj
    simp only [Nat.sub_self, List.getElem?_cons_zero, Option.some.injEq] at hj
    unfold upd vp_updL
    rw [← hj, ej, if_pos rfl, if_pos rfl, if_pos rfl, if_pos rfl]; exact hr
theorem nvL_8 {c : Nat → Int32} {a n : Nat} (h : ∀ j, j < n → isL (c (a + j))) : n < 8 → f_app (Int64.ofNat (nvL (cutL c a (a + n)))) (c (a + n)) = Int64.ofNat (27 * nvL (cutL c a (a + n)) + dg (c (a + n))) ∨ ¬ isL (c (a + n)) := by
  intro h8
  by_cases q : isL (c (a + n))
  · left
    have hb : nvL (cutL c a (a + n)) < 27 ^ 7 := by
      have := nvR_lt (cutL c a (a + n)).reverse (fun x hx => by
        obtain ⟨j, hj, e⟩ := cutL_mem (List.mem_reverse.mp hx)
        rw [e]; exact h j hj)
      rw [List.length_reverse, cutL_len] at this
      exact Nat.lt_of_lt_of_le this (Nat.pow_le_pow_right (by omega) (by omega))
    exact app_dg q hb
  · exact Or.inr q
/-- the first eight letters -/
def nv8 (c : Nat → Int32) (a n : Nat) : Nat := nvL (cutL c a (a + min n 8))
theorem nv8_up {c : Nat → Int32} {a n : Nat} (h : ∀ j, j < n → isL (c (a + j))) (q : isL (c (a + n))) (h8 : n < 8) : f_app (Int64.ofNat (nv8 c a n)) (c (a + n)) = Int64.ofNat (nv8 c a (n + 1)) := by
  unfold nv8
  rw [Nat.min_eq_left (by omega), Nat.min_eq_left (by omega), cutL_snoc, nvL_snoc]
  rcases nvL_8 h h8 with z | z
  · exact z
  · exact absurd q z
theorem nv8_st {c : Nat → Int32} {a n : Nat} (h8 : ¬ n < 8) : nv8 c a n = nv8 c a (n + 1) := by
  unfold nv8
  rw [Nat.min_eq_right (by omega), Nat.min_eq_right (by omega)]
theorem runL_of {f : Nat → Int32} {z i n : Nat} (h : ∀ j, j < n → isL (tbAt f z (i + j))) (hn : ¬ isL (tbAt f z (i + n))) (h0 : isL (tbAt f z i)) : runE isL (tbAt f z) z (i + 1) = i + n ∧ 1 ≤ n := by
  have h1 : 1 ≤ n := by
    rcases Nat.eq_zero_or_pos n with e | e
    · rw [e] at hn; exact absurd h0 hn
    · exact e
  refine ⟨runE_eq (by omega) (fun j a b => ?_) (fun q => hn q.2), h1⟩
  have := h (j - i) (by omega)
  rw [show i + (j - i) = j by omega] at this
  exact ⟨tbAt_lt (Or.inl this), this⟩
theorem runD_of {f : Nat → Int32} {z i n : Nat} (h : ∀ j, j < n → isD (tbAt f z (i + j))) (hn : ¬ isD (tbAt f z (i + n))) (h0 : isD (tbAt f z i)) : runE isD (tbAt f z) z (i + 1) = i + n ∧ 1 ≤ n := by
  have h1 : 1 ≤ n := by
    rcases Nat.eq_zero_or_pos n with e | e
    · rw [e] at hn; exact absurd h0 hn
    · exact e
  refine ⟨runE_eq (by omega) (fun j a b => ?_) (fun q => hn q.2), h1⟩
  have := h (j - i) (by omega)
  rw [show i + (j - i) = j by omega] at this
  exact ⟨tbAt_lt (Or.inr this), this⟩
def lkind (c : Nat → Int32) (i n : Nat) : Nat := match wordOf (cutL c i (i + n)) with
  | some w => 20 + w
  | none => if 8 < n then 3 else 1
theorem tok_L {f : Nat → Int32} {z i n : Nat} (h : ∀ j, j < n → isL (tbAt f z (i + j))) (hn : ¬ isL (tbAt f z (i + n))) (h0 : isL (tbAt f z i)) : tokAt (tbAt f z) z i = (lkind (tbAt f z) i n, i + n) ∧ 1 ≤ n := by
  obtain ⟨e, h1⟩ := runL_of h hn h0
  refine ⟨?_, h1⟩
  unfold tokAt lkind
  rw [if_pos h0, e, show i + n - i = n by omega] <;> rfl
theorem tok_D {f : Nat → Int32} {z i n : Nat} (h : ∀ j, j < n → isD (tbAt f z (i + j))) (hn : ¬ isD (tbAt f z (i + n))) (h0 : isD (tbAt f z i)) : tokAt (tbAt f z) z i = ((if 4 < n then 3 else 2), i + n) ∧ 1 ≤ n := by
  obtain ⟨e, h1⟩ := runD_of h hn h0
  refine ⟨?_, h1⟩
  have hl : ¬ isL (tbAt f z i) := fun q => by
    have a := isL_i q
    have b := Int32.not_lt.mp h0.2
    rw [Int32.le_iff_toInt_le] at b
    have : (57 : Int32).toInt = 57 := rfl
    omega
  unfold tokAt
  rw [if_neg hl, if_pos h0, e, show i + n - i = n by omega]
theorem tok_S {f : Nat → Int32} {z i : Nat} (h1 : ¬ isL (tbAt f z i)) (h2 : ¬ isD (tbAt f z i)) : tokAt (tbAt f z) z i = (signK (tbAt f z i), i + 1) := by
  unfold tokAt
  rw [if_neg h1, if_neg h2]
theorem kind_no {c : Nat → Int32} {i n : Nat} (h : ∀ k, k < 20 → cutL c i (i + n) ≠ wchs k) : lkind c i n = if 8 < n then 3 else 1 := by
  unfold lkind; rw [wordOf_no h]
theorem kind_yes {c : Nat → Int32} {i n k : Nat} (hk : k < 20) (h : cutL c i (i + n) = wchs k) : lkind c i n = 20 + k := by
  unfold lkind; rw [wordOf_is hk h]
theorem kind_long {c : Nat → Int32} {i n : Nat} (h : 7 < n) : lkind c i n = if 8 < n then 3 else 1 := by
  unfold lkind; rw [wordOf_long (by rw [cutL_len]; omega)]
theorem key_eq {c : Nat → Int32} {i n k : Nat} (h : ∀ j, j < n → isL (c (i + j))) (h7 : n ≤ 7) : Int64.ofNat (nvL (wchs k)) = Int64.ofNat (nv8 c i n) ↔ cutL c i (i + n) = wchs k := by
  have hc : ∀ x ∈ cutL c i (i + n), isL x := fun x hx => by
    obtain ⟨j, hj, e⟩ := cutL_mem hx
    rw [e]; exact h j hj
  have e8 : nv8 c i n = nvL (cutL c i (i + n)) := by unfold nv8; rw [Nat.min_eq_left (by omega)]
  rw [e8, l_inj (nvL_lt (wch_L k) (by have := wchs_len k; omega)) (nvL_lt hc (by rw [cutL_len]; omega))]
  constructor
  · intro q; exact (nvL_inj (wch_L k) hc q).symm
  · intro q; rw [q]
theorem nv8_0 (c : Nat → Int32) (i : Nat) : nv8 c i 0 = 0 := by unfold nv8 cutL nvL; simp [nvR]
theorem lkind_ne2 (c : Nat → Int32) (i n : Nat) : lkind c i n ≠ 2 := by
  unfold lkind
  split
  · omega
  · split <;> omega
theorem lkind_1 {c : Nat → Int32} {i n : Nat} (h : lkind c i n = 1) : n ≤ 8 := by
  unfold lkind at h
  split at h
  · omega
  · split at h <;> omega
theorem rowL {c : Nat → Int32} {i n : Nat} {v6 v : Int32} {w : Int64} (hk : v6 = nI (lkind c i n)) (hw : w = Int64.ofNat (nv8 c i n)) : rowM c (lkind c i n, i, i + n) v6 (nI i) v w := by
  refine ⟨hk, rfl, fun q => absurd q (lkind_ne2 c i n), fun q => ?_⟩
  rw [hw]
  unfold nv8
  rw [Nat.min_eq_left (lkind_1 q)]
theorem rowD {c : Nat → Int32} {i n : Nat} {k v : Int32} {w : Int64} (hk : k = nI (if 4 < n then 3 else 2)) (hv : n ≤ 4 → v = numV c i n) : rowM c ((if 4 < n then 3 else 2), i, i + n) k (nI i) v w := by
  refine ⟨hk, rfl, fun q => ?_, fun q => ?_⟩
  · show v = numV c i (i + n - i)
    rw [show i + n - i = n by omega]
    refine hv ?_
    have q : (if 4 < n then 3 else 2) = 2 := q
    split at q <;> omega
  · have q : (if 4 < n then 3 else 2) = 1 := q
    split at q <;> omega
theorem signK_n (x : Int32) : signK x ≠ 1 ∧ signK x ≠ 2 := by
  unfold signK
  repeat' split
  all_goals omega
theorem rowS {c : Nat → Int32} {i b : Nat} {k v : Int32} {w : Int64} (hk : k = nI (signK (c i))) : rowM c (signK (c i), i, b) k (nI i) v w :=
  ⟨hk, rfl, fun q => absurd q (signK_n _).2, fun q => absurd q (signK_n _).1⟩
