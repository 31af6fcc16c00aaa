/-! what holds of every sum that is read -/
set_option maxRecDepth 100000
section RDI
variable {kd : Nat → Nat} {vl : Nat → Int32}
def SumInd (kd : Nat → Nat) (vl : Nat → Int32) (P : RPN → Nat → Nat → Prop) : Prop :=
  (∀ a, kd a = 2 → a < 400 → P [(0, vl a)] a (a + 1)) ∧
  (∀ a, 33 ≤ kd a → kd a ≤ 39 → a < 400 → P [(1, nI (kd a - 33))] a (a + 1)) ∧
  (∀ c a b, kd a = 6 → kd b = 7 → P c (a + 1) b → P c a (b + 1)) ∧
  ∀ c d a b e, (kd b = 8 ∨ kd b = 9 ∨ kd b = 10 ∨ kd b = 15) → b < 400 → P c a b → P d (b + 1) e → P (c ++ (d ++ [(opK (kd b), 0)])) a e
variable {P : RPN → Nat → Nat → Prop}
theorem partH_ind (hI : SumInd kd vl P) (m : Nat) (hU : ∀ o a, 401 - a < m → ∀ c b, unitG kd vl o a = .inr (c, b) → P c a b) : ∀ n, n < m → ∀ o c a b, 401 - b = n → P c a b → ∀ c' b', partH kd vl o c b = .inr (c', b') → P c' a b' := by
  intro n
  induction n using Nat.strongRecOn with
  | ind n ih =>
    intro hn o c a b hb hP c' b' h
    rw [partH_eq] at h
    split at h
    · rename_i hk
      split at h
      · cases h
      · split at h
        · cases h
        · rename_i d e he
          have hon := unit_on o (b + 1) d e he
          exact ih (401 - e) (by omega) (by omega) o _ a e rfl (hI.2.2.2 _ _ _ _ _ (by omega) (by omega) hP (hU o (b + 1) (by omega) d e he)) c' b' h
    · cases h; exact hP
theorem sumRest_ind (hI : SumInd kd vl P) (m : Nat) (hU : ∀ o a, 401 - a < m → ∀ c b, partG kd vl o a = .inr (c, b) → P c a b) : ∀ n, n < m → ∀ o c a b, 401 - b = n → P c a b → ∀ c' b', sumRest kd vl o c b = .inr (c', b') → P c' a b' := by
  intro n
  induction n using Nat.strongRecOn with
  | ind n ih =>
    intro hn o c a b hb hP c' b' h
    rw [sumRest_eq] at h
    split at h
    · rename_i hk
      split at h
      · cases h
      · split at h
        · cases h
        · rename_i d e he
          have hon := part_on o (b + 1) d e he
          exact ih (401 - e) (by omega) (by omega) o _ a e rfl (hI.2.2.2 _ _ _ _ _ (by omega) (by omega) hP (hU o (b + 1) (by omega) d e he)) c' b' h
    · cases h; exact hP
theorem all_ind (hI : SumInd kd vl P) : ∀ m, ∀ o a, 401 - a = m → (∀ c b, unitG kd vl o a = .inr (c, b) → P c a b) ∧ (∀ c b, partG kd vl o a = .inr (c, b) → P c a b) ∧ (∀ c b, sumG kd vl o a = .inr (c, b) → P c a b) := by
  intro m
  induction m using Nat.strongRecOn with
  | ind m ih =>
    have hU : ∀ o a, 401 - a = m → ∀ c b, unitG kd vl o a = .inr (c, b) → P c a b := by
      intro o a ha c b h
      rw [unitG_un] at h
      split at h
      · rename_i hk
        split at h
        · cases h
        · cases h; exact hI.1 a hk (by omega)
      · split at h
        · rename_i hk
          split at h
          · cases h
          · cases h; exact hI.2.1 a hk.1 hk.2 (by omega)
        · split at h
          · cases h
          · rename_i hk
            split at h
            · cases h
            · split at h
              · cases h
              · split at h
                · cases h
                · rename_i c2 b2 hs
                  have hP := (ih (401 - (a + 1)) (by omega) (o + 1) (a + 1) rfl).2.2 c2 b2 hs
                  split at h
                  · cases h
                  · split at h
                    · cases h
                    · rename_i h7 _
                      cases h; exact hI.2.2.1 _ _ _ (Decidable.not_not.mp hk) (Decidable.not_not.mp h7) hP
    have hU2 : ∀ o a, 401 - a < m + 1 → ∀ c b, unitG kd vl o a = .inr (c, b) → P c a b := by
      intro o a ha
      by_cases e : 401 - a = m
      · exact hU o a e
      · exact (ih _ (by omega) o a rfl).1
    have hP : ∀ o a, 401 - a = m → ∀ c b, partG kd vl o a = .inr (c, b) → P c a b := by
      intro o a ha c b h
      rw [partG_eq] at h
      split at h
      · cases h
      · rename_i c2 b2 hu
        have hon := unit_on o a c2 b2 hu
        exact partH_ind hI (m + 1) hU2 _ (by omega) o c2 a b2 rfl (hU o a ha c2 b2 hu) _ _ h
    have hP2 : ∀ o a, 401 - a < m + 1 → ∀ c b, partG kd vl o a = .inr (c, b) → P c a b := by
      intro o a ha
      by_cases e : 401 - a = m
      · exact hP o a e
      · exact (ih _ (by omega) o a rfl).2.1
    intro o a ha
    refine ⟨hU o a ha, hP o a ha, ?_⟩
    intro c b h
    rw [sumG_eq] at h
    split at h
    · cases h
    · rename_i c2 b2 hu
      have hon := part_on o a c2 b2 hu
      exact sumRest_ind hI (m + 1) hP2 _ (by omega) o c2 a b2 rfl (hP o a ha c2 b2 hu) _ _ h
/-- whole, no longer than its rows, variables in range -/
def SG (c : RPN) (a b : Nat) : Prop := a + c.length ≤ b ∧ b ≤ 400 ∧ rpOK c ∧ ∀ q ∈ c, q.1 ≤ 5 ∧ (q.1 = 1 → vp_in q.2 7)
theorem opK_in (k : Nat) : 2 ≤ opK k ∧ opK k ≤ 5 := by unfold opK; repeat' split
                                                       all_goals omega
theorem sum_SG {o a : Nat} {c : RPN} {b : Nat} (h : sumG kd vl o a = .inr (c, b)) : SG c a b := by
  have hI : SumInd kd vl (fun c a b => a + c.length ≤ b ∧ rpOK c ∧ ∀ q ∈ c, q.1 ≤ 5 ∧ (q.1 = 1 → vp_in q.2 7)) := by
    refine ⟨fun a _ _ => ⟨Nat.le_refl _, rfl, fun q hq => ?_⟩, fun a h1 h2 _ => ⟨Nat.le_refl _, rfl, fun q hq => ?_⟩, fun c a b _ _ hp => ⟨by omega, hp.2⟩, fun c d a b e _ _ h1 h2 => ⟨?_, ?_, fun q hq => ?_⟩⟩
    · rw [List.mem_singleton.mp hq]; exact ⟨by omega, fun z => by simp at z⟩
    · rw [List.mem_singleton.mp hq]; exact ⟨by omega, fun _ => vp_in_nI (by omega) (by omega)⟩
    · simp only [List.length_append, List.length_cons, List.length_nil]; omega
    · exact rpOK_app h1.2.1 h2.2.1 (opK_in _).1
    · rcases List.mem_append.mp hq with z | z
      · exact h1.2.2 q z
      · rcases List.mem_append.mp z with z | z
        · exact h2.2.2 q z
        · rw [List.mem_singleton.mp z]
          have := opK_in (kd b)
          exact ⟨this.2, fun w => by simp only at w; omega⟩
  have h1 := (all_ind hI _ o a rfl).2.2 c b h
  have h2 := sum_on o a c b h
  exact ⟨h1.1, h2.2.2, h1.2⟩
end RDI
/-! the reader -/
/-- the row that is read, the worst so far and its row, counts, tables, laws, names -/
def PS : Type := Nat × Nat × Nat × (Nat → Nat) × tab × (Nat → Option LAW) × (Nat → List Nat)
def PS.mk (a k w : Nat) (n : Nat → Nat) (t : tab) (lw : Nat → Option LAW) (nm : Nat → List Nat) : PS := (a, k, w, n, t, lw, nm)
def PS.at_ (s : PS) : Nat := Prod.fst s
def PS.wk (s : PS) : Nat := Prod.fst (Prod.snd s)
def PS.wt (s : PS) : Nat := Prod.fst (Prod.snd (Prod.snd s))
def PS.n (s : PS) : Nat → Nat := Prod.fst (Prod.snd (Prod.snd (Prod.snd s)))
def PS.t (s : PS) : tab := Prod.fst (Prod.snd (Prod.snd (Prod.snd (Prod.snd s))))
def PS.lw (s : PS) : Nat → Option LAW := Prod.fst (Prod.snd (Prod.snd (Prod.snd (Prod.snd (Prod.snd s)))))
def PS.nm (s : PS) : Nat → List Nat := Prod.snd (Prod.snd (Prod.snd (Prod.snd (Prod.snd (Prod.snd s)))))
def PS.go (s : PS) (a : Nat) : PS := PS.mk a s.wk s.wt s.n s.t s.lw s.nm
def PS.tx (s : PS) (n : Nat → Nat) (t : tab) (lw : Nat → Option LAW) (nm : Nat → List Nat) : PS := PS.mk s.at_ s.wk s.wt n t lw nm
abbrev PO (α : Type) : Type := Except (Nat × Nat) α
def PO.bd {α β : Type} (x : PO α) (f : α → PO β) : PO β := match x with
  | .error e => .error e
  | .ok v => f v
def nS {α : Type} (k : Nat) (v : α) (f : Nat → α) : Nat → α := fun j => if j = k then v else f j
theorem nS_eq {α : Type} (k : Nat) (v : α) (f : Nat → α) : nS k v f k = v := if_pos rfl
theorem nS_ne {α : Type} {k j : Nat} (v : α) (f : Nat → α) (h : j ≠ k) : nS k v f j = f j := if_neg h
section RDZ
variable (kd : Nat → Nat) (vl : Nat → Int32) (nv : Nat → Nat)
def passR (s : PS) : PO PS := if 400 ≤ s.at_ then .error (2, s.at_) else .ok (s.go (s.at_ + 1))
def mustR (k : Nat) (s : PS) : PO PS := if kd s.at_ = k then passR s else .error (1, s.at_)
def tellR (k x : Nat) (s : PS) : PS := if s.wk ≠ 0 ∧ (s.wt < x ∨ (x = s.wt ∧ s.wk ≤ k)) then s else PS.mk s.at_ k x s.n s.t s.lw s.nm
def numR (lo hi : Int32) (s : PS) : PO (Int32 × PS) := (mustR kd 2 s).bd fun s1 => .ok (vl s.at_, if vl s.at_ < lo ∨ hi < vl s.at_ then tellR 5 s.at_ s1 else s1)
abbrev hasN (s : PS) (v : Nat) : Prop := v ∈ s.nm 0 ∨ v ∈ s.nm 1 ∨ v ∈ s.nm 2
def nameR (s : PS) : PO (Nat × PS) := (mustR kd 1 s).bd fun s1 => .ok (nv s.at_, if hasN s (nv s.at_) then tellR 3 s.at_ s1 else s1)
def knownR (j : Nat) (s : PS) : PO (Int32 × PS) := (mustR kd 1 s).bd fun s1 => match (s.nm j).findIdx? (fun v => v == nv s.at_) with
  | some i => .ok (nI i, s1)
  | none => .ok (-1, tellR 4 s.at_ s1)
def roomR (many most : Nat) (s : PS) : PO PS := if many = most then .error (2, s.at_) else passR s
def sumR (s : PS) : PO (RPN × PS) := match sumG kd vl 0 s.at_ with
  | .inl (k, x) => .error (k, x)
  | .inr (c, b) => .ok (c, s.go b)
def grainR (s : PS) : PO PS := (roomR (s.n 0) 6 s).bd fun s => (nameR kd nv s).bd fun r => (numR kd vl 0 9999 r.2).bd fun p => (numR kd vl 0 99 p.2).bd fun q =>
  .ok (q.2.tx (nS 0 (q.2.n 0 + 1) q.2.n) (sU 0 (q.2.n 0) p.1 (sU 1 (q.2.n 0) q.1 q.2.t)) q.2.lw (nS 0 (q.2.nm 0 ++ [r.1]) q.2.nm))
def holeR (s : PS) : PO PS := (roomR (s.n 1) 6 s).bd fun s => (nameR kd nv s).bd fun r => (numR kd vl 1 30 r.2).bd fun p => (knownR kd nv 0 p.2).bd fun q =>
  .ok (q.2.tx (nS 1 (q.2.n 1 + 1) q.2.n) (sU 2 (q.2.n 1) p.1 (sU 3 (q.2.n 1) q.1 q.2.t)) q.2.lw (nS 1 (q.2.nm 1 ++ [r.1]) q.2.nm))
def ratR (s : PS) : PO PS := (roomR (s.n 2) 8 s).bd fun s => (nameR kd nv s).bd fun r => (knownR kd nv 0 r.2).bd fun p => (knownR kd nv 1 p.2).bd fun q => (numR kd vl 0 9 q.2).bd fun x => (numR kd vl 0 99 x.2).bd fun y =>
  .ok (y.2.tx (nS 2 (y.2.n 2 + 1) y.2.n) (sU 4 (y.2.n 2) p.1 (sU 5 (y.2.n 2) q.1 (sU 6 (y.2.n 2) x.1 (sU 7 (y.2.n 2) y.1 y.2.t)))) y.2.lw (nS 2 (y.2.nm 2 ++ [r.1]) y.2.nm))
abbrev hasW (t : tab) (m i : Nat) (g : Int32) : Prop := ∃ k, k < i ∧ t 10 (4 * m + k) = g
def wantR : Nat → Nat → PS → PO (Nat × PS)
  | 0, i, s => .ok (i, s)
  | f + 1, i, s =>
    if kd s.at_ = 4 then .ok (i, s)
    else if kd s.at_ = 1 ∧ i = 4 then .error (2, s.at_)
    else (knownR kd nv 0 s).bd fun g => (numR kd vl 1 9999 (if 0 ≤ g.1 ∧ hasW g.2.t (g.2.n 3) i g.1 then tellR 3 s.at_ g.2 else g.2)).bd fun v =>
      wantR f (i + 1) (v.2.tx v.2.n (sU 10 (4 * v.2.n 3 + i) g.1 (sU 11 (4 * v.2.n 3 + i) v.1 v.2.t)) v.2.lw v.2.nm)
def wantsR (s : PS) : PO PS := (roomR (s.n 3) 5 s).bd fun s => (numR kd vl 0 9999 s).bd fun p => (wantR kd vl nv 5 0 (p.2.tx p.2.n (sU 8 (p.2.n 3) p.1 p.2.t) p.2.lw p.2.nm)).bd fun q =>
  .ok (q.2.tx (nS 3 (q.2.n 3 + 1) q.2.n) (sU 9 (q.2.n 3) (nI q.1) q.2.t) q.2.lw q.2.nm)
def ifsR : Nat → List (RPN × RPN × RPN) → PS → PO (LAW × PS)
  | 0, L, s => .ok ((L, []), s)
  | f + 1, L, s =>
    if kd s.at_ = 30 then
      (roomR L.length 4 s).bd fun s => (sumR kd vl s).bd fun a => (mustR kd 13 a.2).bd fun s => (sumR kd vl s).bd fun b => (mustR kd 31 b.2).bd fun s => (sumR kd vl s).bd fun c => (mustR kd 32 c.2).bd fun s => ifsR f (L ++ [(a.1, b.1, c.1)]) s
    else (sumR kd vl s).bd fun e => .ok ((L, e.1), e.2)
def lawR (k : Nat) (s : PS) : PO PS := (passR s).bd fun s => (mustR kd 5 s).bd fun s => (ifsR kd vl 5 [] s).bd fun q => .ok (q.2.tx q.2.n q.2.t (nS k (some q.1) q.2.lw) q.2.nm)
def oneR (j : Nat) (lo hi : Int32) (s : PS) : PO PS := (passR s).bd fun s => (numR kd vl lo hi s).bd fun v => .ok (v.2.tx v.2.n (sU 12 j v.1 v.2.t) v.2.lw v.2.nm)
def toldR (s : PS) : PO PS :=
  if kd s.at_ = 20 then grainR kd vl nv s else if kd s.at_ = 21 then holeR kd vl nv s else if kd s.at_ = 22 then ratR kd vl nv s
  else if kd s.at_ = 23 ∨ kd s.at_ = 24 ∨ kd s.at_ = 25 then lawR kd vl (kd s.at_ - 23) s
  else if kd s.at_ = 26 then wantsR kd vl nv s
  else if kd s.at_ = 27 then oneR kd vl 0 0 9999 s else if kd s.at_ = 28 then oneR kd vl 1 1 99 s else if kd s.at_ = 29 then oneR kd vl 2 0 9999 s
  else .error (1, s.at_)
def readR : Nat → PS → PO PS
  | 0, s => .ok s
  | f + 1, s => if kd s.at_ = 0 then .ok s else (toldR kd vl nv s).bd fun s => (mustR kd 4 s).bd fun s => readR f s
end RDZ
def ps0 : PS := PS.mk 0 0 0 (fun _ => 0) (fun k j => if k = 12 then (if j = 0 then 9999 else if j = 1 then 50 else 0) else 0) (fun _ => none) (fun _ => [])
