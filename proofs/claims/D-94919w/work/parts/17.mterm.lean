/-! the model's terms -/
set_option maxRecDepth 100000
def pileAt (X : Nat → Int32) : List Int32 → Prop
  | [] => True
  | a :: st => X st.length = a ∧ pileAt X st
theorem pileAt_upd {X : Nat → Int32} {j : Nat} {v : Int32} : ∀ {st : List Int32}, pileAt X st → st.length ≤ j → pileAt (upd X j v) st
  | [], _, _ => trivial
  | a :: st, h, hj => ⟨by rw [pk_un (by simp only [List.length_cons] at hj; omega)]; exact h.1, pileAt_upd h.2 (by simp only [List.length_cons] at hj; omega)⟩
theorem pileAt_push {X : Nat → Int32} {j : Nat} {v : Int32} {st : List Int32} (h : pileAt X st) (hj : st.length = j) : pileAt (upd X j v) (v :: st) := ⟨by rw [hj]; exact pk_us, pileAt_upd h (by omega)⟩
def codeFrom (C I : Nat → Int32) (a : Nat) (c : RPN) : Prop := ∀ (i : Nat) (q : Nat × Int32), c[i]? = some q → q.1 ≤ 5 ∧ C (a + i) = nI q.1 ∧ I (a + i) = q.2 ∧ (q.1 = 1 → vp_in q.2 7)
theorem codeFrom_tl {C I : Nat → Int32} {a : Nat} {q : Nat × Int32} {c : RPN} (h : codeFrom C I a (q :: c)) : codeFrom C I (a + 1) c := fun i x hx => by
  have := h (i + 1) x (by simpa using hx)
  rw [show a + (i + 1) = a + 1 + i by omega] at this
  exact this
theorem codeFrom_hd {C I : Nat → Int32} {a : Nat} {q : Nat × Int32} {c : RPN} (h : codeFrom C I a (q :: c)) : q.1 ≤ 5 ∧ C a = nI q.1 ∧ I a = q.2 ∧ (q.1 = 1 → vp_in q.2 7) := h 0 q rfl
theorem codeAt_V {C I : Nat → Int32} {a b : Nat} {c : RPN} (h : codeAt C I a b c) : rpV c := fun q hq h1 => by
  obtain ⟨i, hi⟩ := List.getElem?_of_mem hq
  exact (h.2 i q hi).2.2.2 h1
def brL (g : tab) (b : Nat) (L : List (RPN × RPN × RPN)) : Prop := ∀ (i : Nat) (x : RPN × RPN × RPN), L[i]? = some x → g 46 (b + i) = 1 ∧ brAt g (b + i) x
theorem brL_hd {g : tab} {b : Nat} {x : RPN × RPN × RPN} {L : List (RPN × RPN × RPN)} (h : brL g b (x :: L)) : g 46 b = 1 ∧ brAt g b x := h 0 x rfl
theorem brL_tl {g : tab} {b : Nat} {x : RPN × RPN × RPN} {L : List (RPN × RPN × RPN)} (h : brL g b (x :: L)) : brL g (b + 1) L := fun i y hy => by
  have := h (i + 1) y (by simpa using hy)
  rw [show b + (i + 1) = b + 1 + i by omega] at this
  exact this
theorem lawAt_eq {g : tab} {j : Nat} {q : Option LAW} (h : lawAt g j q) (e : g 43 j = g 44 j) : q = none := by
  cases q with
  | none => rfl
  | some q =>
    obtain ⟨b0, h1, h2, h3, -⟩ := h
    rw [h1, h2] at e
    have := (nI_eq (by omega) (by omega)).mp e
    omega
theorem lawAt_ne {g : tab} {j : Nat} {q : Option LAW} (h : lawAt g j q) (e : ¬ g 43 j = g 44 j) : ∃ (L : List (RPN × RPN × RPN)) (e0 : RPN) (b0 : Nat), q = some (L, e0) ∧ g 43 j = nI b0 ∧ g 44 j = nI (b0 + L.length + 1) ∧ b0 + L.length + 1 ≤ 260 ∧ brL g b0 L ∧ g 46 (b0 + L.length) = 0 ∧ elAt g (b0 + L.length) e0 := by
  cases q with
  | none => exact absurd h e
  | some q =>
    obtain ⟨b0, h1, h2, h3, h4, h5, h6⟩ := h
    exact ⟨q.1, q.2, b0, rfl, h1, h2, h3, h4, h5, h6⟩
