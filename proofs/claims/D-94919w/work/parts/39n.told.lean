/-! what is told keeps how much merchants want in range -/
set_option maxRecDepth 100000
def M9 (s : PS) : Prop := ∀ j, j < s.n 3 → vp_in (s.t 9 j) 5
section M9S
variable {kd : Nat → Nat} {vl : Nat → Int32} {nv : Nat → Nat}
theorem M9.same {s s' : PS} (h : M9 s) (e1 : s'.n 3 = s.n 3) (e2 : s'.t 9 = s.t 9) : M9 s' := fun j hj => by rw [e2]; exact h j (by rw [← e1]; exact hj)
theorem M9.ext {s s' : PS} (h : M9 s) (e : Ext s s') : M9 s' := h.same (by rw [e.1]) (by rw [e.2.1])
theorem grain_M9 {s s' : PS} (hI : M9 s) (h : grainR kd vl nv s = .ok s') : M9 s' := by
  obtain ⟨s1, h1, h⟩ := bd_good h
  obtain ⟨r, h2, h⟩ := bd_good h
  obtain ⟨p, h3, h⟩ := bd_good h
  obtain ⟨q, h4, h⟩ := bd_good h
  have I4 := (((hI.ext (room_good h1).2.1).ext (name_good h2).2.1).ext (num_good h3).2.1).ext (num_good h4).2.1
  injection h with h
  subst h
  refine I4.same (show nS 0 (q.2.n 0 + 1) q.2.n 3 = q.2.n 3 from nS_ne _ _ (by omega)) ?_
  show sU 0 (q.2.n 0) p.1 (sU 1 (q.2.n 0) q.1 q.2.t) 9 = q.2.t 9
  rw [sU_ne (by omega), sU_ne (by omega)]
theorem hole_M9 {s s' : PS} (hI : M9 s) (h : holeR kd vl nv s = .ok s') : M9 s' := by
  obtain ⟨s1, h1, h⟩ := bd_good h
  obtain ⟨r, h2, h⟩ := bd_good h
  obtain ⟨p, h3, h⟩ := bd_good h
  obtain ⟨q, h4, h⟩ := bd_good h
  have I4 := (((hI.ext (room_good h1).2.1).ext (name_good h2).2.1).ext (num_good h3).2.1).ext (known_good h4).2.1
  injection h with h
  subst h
  refine I4.same (show nS 1 (q.2.n 1 + 1) q.2.n 3 = q.2.n 3 from nS_ne _ _ (by omega)) ?_
  show sU 2 (q.2.n 1) p.1 (sU 3 (q.2.n 1) q.1 q.2.t) 9 = q.2.t 9
  rw [sU_ne (by omega), sU_ne (by omega)]
theorem rat_M9 {s s' : PS} (hI : M9 s) (h : ratR kd vl nv s = .ok s') : M9 s' := by
  obtain ⟨s1, h1, h⟩ := bd_good h
  obtain ⟨r, h2, h⟩ := bd_good h
  obtain ⟨p, h3, h⟩ := bd_good h
  obtain ⟨q, h4, h⟩ := bd_good h
  obtain ⟨x, h5, h⟩ := bd_good h
  obtain ⟨y, h6, h⟩ := bd_good h
  have I4 := (((((hI.ext (room_good h1).2.1).ext (name_good h2).2.1).ext (known_good h3).2.1).ext (known_good h4).2.1).ext (num_good h5).2.1).ext (num_good h6).2.1
  injection h with h
  subst h
  refine I4.same (show nS 2 (y.2.n 2 + 1) y.2.n 3 = y.2.n 3 from nS_ne _ _ (by omega)) ?_
  show sU 4 (y.2.n 2) p.1 (sU 5 (y.2.n 2) q.1 (sU 6 (y.2.n 2) x.1 (sU 7 (y.2.n 2) y.1 y.2.t))) 9 = y.2.t 9
  rw [sU_ne (by omega), sU_ne (by omega), sU_ne (by omega), sU_ne (by omega)]
theorem want_M9 : ∀ f i s r, M9 s → wantR kd vl nv f i s = .ok r → M9 r.2 := by
  intro f
  induction f with
  | zero => intro i s r hI h; injection h with h; subst h; exact hI
  | succ f ih =>
    intro i s r hI h
    unfold wantR at h
    split at h
    · injection h with h; subst h; exact hI
    · split at h
      · cases h
      · obtain ⟨g, hk, h⟩ := bd_good h
        obtain ⟨v, hv, h⟩ := bd_good h
        have I1 := hI.ext (known_good hk).2.1
        have I2 : M9 (if 0 ≤ g.1 ∧ hasW g.2.t (g.2.n 3) i g.1 then tellR 3 s.at_ g.2 else g.2) := by
          split
          · unfold tellR; split
            · exact I1
            · exact I1
          · exact I1
        have I3 := I2.ext (num_good hv).2.1
        refine ih (i + 1) (v.2.tx v.2.n (sU 10 (4 * v.2.n 3 + i) g.1 (sU 11 (4 * v.2.n 3 + i) v.1 v.2.t)) v.2.lw v.2.nm) r (I3.same rfl ?_) h
        show sU 10 (4 * v.2.n 3 + i) g.1 (sU 11 (4 * v.2.n 3 + i) v.1 v.2.t) 9 = v.2.t 9
        rw [sU_ne (by omega), sU_ne (by omega)]
theorem wants_M9 {s s' : PS} (hV : IV s) (hI : M9 s) (h : wantsR kd vl nv s = .ok s') : M9 s' := by
  obtain ⟨s1, h1, h⟩ := bd_good h
  obtain ⟨hn, e1, -⟩ := room_good h1
  obtain ⟨p, h2, h⟩ := bd_good h
  obtain ⟨-, e2, -⟩ := num_good h2
  obtain ⟨q, h3, h⟩ := bd_good h
  have V2 := (hV.ext e1).ext e2
  have I2 := (hI.ext e1).ext e2
  have I3 : M9 (p.2.tx p.2.n (sU 8 (p.2.n 3) p.1 p.2.t) p.2.lw p.2.nm) := I2.same rfl (by show sU 8 (p.2.n 3) p.1 p.2.t 9 = _; rw [sU_ne (by omega)])
  have I4 := want_M9 5 0 _ q I3 h3
  have hn3 : p.2.n 3 ≠ 5 := by rw [e2.1, e1.1]; exact hn
  have m3 := V2.n3
  obtain ⟨-, -, r3, -⟩ := want_good 5 0 _ q rfl (by omega) (V2.tx8 p.1) (by show p.2.n 3 < 5; omega) (fun _ k hk => by omega) h3
  injection h with h
  subst h
  intro j hj
  have hj : j < nS 3 (q.2.n 3 + 1) q.2.n 3 := hj
  rw [nS_eq] at hj
  show vp_in (sU 9 (q.2.n 3) (nI q.1) q.2.t 9 j) 5
  rw [sU_if]
  split
  · exact vp_in_nI (by omega) (by omega)
  · exact I4 j (by omega)
theorem told_M9 {s s' : PS} (hV : IV s) (hI : M9 s) (h : toldR kd vl nv s = .ok s') : M9 s' := by
  unfold toldR at h
  split at h
  · exact grain_M9 hI h
  split at h
  · exact hole_M9 hI h
  split at h
  · exact rat_M9 hI h
  split at h
  · obtain ⟨s1, h1, h⟩ := bd_good h
    obtain ⟨s2, h2, h⟩ := bd_good h
    obtain ⟨q, h3, h⟩ := bd_good h
    have V2 := (hV.ext (pass_good h1).1).ext (must_good h2).2.1
    have I2 := (hI.ext (pass_good h1).1).ext (must_good h2).2.1
    obtain ⟨-, -, -, r4, -⟩ := ifs_good 5 [] s2 q rfl (Nat.zero_le _) V2 ⟨fun x hx => by simp at hx, rfl, by show 1 ≤ 400; omega⟩ h3
    injection h with h
    subst h
    refine I2.same ?_ ?_
    · show q.2.n 3 = s2.n 3; rw [r4]; rfl
    · show q.2.t 9 = s2.t 9; rw [r4]; rfl
  split at h
  · exact wants_M9 hV hI h
  have one : ∀ {j lo hi}, oneR kd vl j lo hi s = .ok s' → M9 s' := by
    intro j lo hi h
    obtain ⟨s1, h1, h⟩ := bd_good h
    obtain ⟨v, h2, h⟩ := bd_good h
    have I2 := (hI.ext (pass_good h1).1).ext (num_good h2).2.1
    injection h with h
    subst h
    refine I2.same rfl ?_
    show sU 12 j v.1 v.2.t 9 = _; rw [sU_ne (by omega)]
  split at h
  · exact one h
  split at h
  · exact one h
  split at h
  · exact one h
  · cases h
end M9S
