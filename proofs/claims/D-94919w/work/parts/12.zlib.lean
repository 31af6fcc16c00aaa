/-! base library of this proof: worlds as joined blocks, contracts, calls -/
set_option maxRecDepth 100000
def T_none : u_T := fun _ => ("", "", "", false)
/-- the classes of the proof, by number -/
def CL : List vw_C := [(RX0, TX0, 23), (RX1, TX1, 8), (RX2, TX2, 8), (RX3, TX3, 7), (RX4, TX4, 10), (RX5, TX5, 22), (RX6, TX6, 2), (RX7, T_none, 0), (RX9, T_none, 0), (RX10, T_none, 0), (RX11, T_none, 0), (RX12, TX12, 75), (RX14, TX14, 3), (RX15, TX15, 3), (RX16, TX16, 5), (RX17, TX17, 4), (RX19, TX19, 1), (RX20, TX20, 1), (RX21, TX21, 3), (RX22, TX22, 4), (RJ5, TJ5, 3), (RJ8, TJ8, 4), (RJ12, TJ12, 4)]
/-- the array classes of the proof -/
def TY (Y : Nat → ClassId) : List (ClassId × FieldType) := [(Y 0, .int), (Y 1, .byte), (Y 2, .boolean), (Y 3, .short), (Y 4, .long), (Y 5, .array .int), (Y 6, .object "RatSorters$House"), (Y 7, .object "RatSorters$Doing"), (Y 8, .object "RatSorters$Sum"), (Y 9, .object "java/lang/Object"), (Y 10, .object "java/lang/String")]
/-- blocks side by side -/
def wj : List va_W → va_W
  | [] => []
  | b :: B => b ++ wj B
theorem wj_app (B C : List va_W) : wj (B ++ C) = wj B ++ wj C := by
  induction B with
  | nil => rfl
  | cons b B ih => show b ++ wj (B ++ C) = (b ++ wj B) ++ wj C; rw [ih, List.append_assoc]
theorem wj_perm {B B' : List va_W} (h : B.Perm B') : (wj B).Perm (wj B') := by
  induction h with
  | nil => exact List.Perm.refl _
  | cons x _ ih => exact List.Perm.append_left x ih
  | swap x y l =>
    show (y ++ (x ++ wj l)).Perm (x ++ (y ++ wj l))
    rw [← List.append_assoc, ← List.append_assoc]
    exact List.Perm.append_right _ List.perm_append_comm
  | trans _ _ i1 i2 => exact i1.trans i2
theorem z_pick {α : Type} {B B2 B3 : List α} {b : α} (i : Nat) (h : B[i]? = some b) (he : B.eraseIdx i = B2) (h2 : B2.Perm B3) : B.Perm (b :: B3) := by
  obtain ⟨hi, rfl⟩ := List.getElem?_eq_some_iff.mp h
  subst he
  refine List.Perm.trans ?_ (h2.cons _)
  clear h h2
  induction B generalizing i with
  | nil => exact absurd hi (Nat.not_lt_zero _)
  | cons x B ih =>
    cases i with
    | zero => exact List.Perm.refl _
    | succ i =>
      have hi' : i < B.length := Nat.lt_of_succ_lt_succ hi
      exact ((ih i hi').cons x).trans (List.Perm.swap _ _ _)
theorem wj_split {B C R : List va_W} (h : B.Perm (C ++ R)) : (wj B).Perm (wj C ++ wj R) := by rw [← wj_app]; exact wj_perm h
theorem wj_split3 {B R C O X : List va_W} (h : (B ++ R).Perm (C ++ (O ++ X))) : (wj B ++ wj R).Perm (wj C ++ (wj O ++ wj X)) := by rw [← wj_app, ← wj_app, ← wj_app]; exact wj_perm h
/-- a table with one row put anew -/
def sA {α : Type} (k : Nat) (X : α) (g : Nat → α) : Nat → α := fun j => bif Nat.beq j k then X else g j
theorem sA_eq {α : Type} (k : Nat) (X : α) (g : Nat → α) : sA k X g k = X := by
  show (bif Nat.beq k k then X else g k) = X
  rw [Nat.beq_refl]; rfl
theorem sA_ne {α : Type} {g : Nat → α} {k j : Nat} {X : α} (h : j ≠ k) : sA k X g j = g j := by
  show (bif Nat.beq j k then X else g j) = g j
  have : Nat.beq j k = false := by
    cases hb : Nat.beq j k with
    | false => rfl
    | true => exact absurd (Nat.eq_of_beq_eq_true hb) h
  rw [this]; rfl
theorem sA_if {α : Type} (k : Nat) (X : α) (g : Nat → α) (j : Nat) : sA k X g j = if j = k then X else g j := by
  by_cases h : j = k
  · rw [if_pos h, h, sA_eq]
  · rw [if_neg h, sA_ne h]
theorem zp_iff {D : va_G} {cl : List vw_C} {ws : va_W} {H : Heap} : va_P D cl ws H ↔ ∀ q ∈ ws, va_at D cl q H := by
  constructor
  · intro h q hq
    obtain ⟨i, hi⟩ := List.getElem?_of_mem hq
    exact h i q hi
  · intro h k q hk
    exact h q (List.mem_of_getElem? hk)
theorem zd_iff {A : Nat → Prop} {ws : va_W} : va_D A ws ↔ (ws.map Prod.fst).Pairwise (· ≠ ·) ∧ ∀ q ∈ ws, A q.1 := by
  constructor
  · intro h
    refine ⟨List.pairwise_iff_getElem.mpr (fun i j hi hj hij e => ?_), fun q hq => ?_⟩
    · have hi' : i < ws.length := by simpa using hi
      have hj' : j < ws.length := by simpa using hj
      have := h.1 i j ws[i] ws[j] (List.getElem?_eq_getElem hi') (List.getElem?_eq_getElem hj') (by simpa using e)
      omega
    · obtain ⟨i, hi⟩ := List.getElem?_of_mem hq
      exact h.2 i q hi
  · rintro ⟨hn, ha⟩
    refine ⟨fun i j p q hi hj e => ?_, fun k q hk => ha q (List.mem_of_getElem? hk)⟩
    obtain ⟨hi1, hi2⟩ := List.getElem?_eq_some_iff.mp hi
    obtain ⟨hj1, hj2⟩ := List.getElem?_eq_some_iff.mp hj
    rcases Nat.lt_trichotomy i j with h | h | h
    · exact (List.pairwise_iff_getElem.mp hn i j (by simpa using hi1) (by simpa using hj1) h (by simp [hi2, hj2, e])).elim
    · exact h
    · exact (List.pairwise_iff_getElem.mp hn j i (by simpa using hj1) (by simpa using hi1) h (by simp [hi2, hj2, e])).elim
theorem zp_perm {D : va_G} {cl : List vw_C} {ws ws' : va_W} {H : Heap} (h : ws.Perm ws') (hP : va_P D cl ws H) : va_P D cl ws' H := zp_iff.mpr (fun q hq => zp_iff.mp hP q (h.mem_iff.mpr hq))
theorem zd_perm {A : Nat → Prop} {ws ws' : va_W} (h : ws.Perm ws') (hD : va_D A ws) : va_D A ws' := zd_iff.mpr ⟨((h.map Prod.fst).pairwise_iff (fun e => Ne.symm e)).mp (zd_iff.mp hD).1, fun q hq => (zd_iff.mp hD).2 q (h.mem_iff.mpr hq)⟩
theorem zp_app {D : va_G} {cl : List vw_C} {w1 w2 : va_W} {H : Heap} : va_P D cl (w1 ++ w2) H ↔ va_P D cl w1 H ∧ va_P D cl w2 H := by
  rw [zp_iff, zp_iff, zp_iff]
  constructor
  · exact fun h => ⟨fun q hq => h q (List.mem_append_left _ hq), fun q hq => h q (List.mem_append_right _ hq)⟩
  · rintro ⟨h1, h2⟩ q hq
    rcases List.mem_append.mp hq with h | h
    · exact h1 q h
    · exact h2 q h
theorem zd_app {A : Nat → Prop} {w1 w2 : va_W} : va_D A (w1 ++ w2) ↔ va_D A w1 ∧ va_D A w2 ∧ ∀ p ∈ w1, ∀ q ∈ w2, p.1 ≠ q.1 := by
  rw [zd_iff, zd_iff, zd_iff, List.map_append, List.pairwise_append]
  constructor
  · rintro ⟨⟨h1, h2, h3⟩, h4⟩
    refine ⟨⟨h1, fun q hq => h4 q (List.mem_append_left _ hq)⟩, ⟨h2, fun q hq => h4 q (List.mem_append_right _ hq)⟩, fun p hp q hq => h3 _ (List.mem_map_of_mem hp) _ (List.mem_map_of_mem hq)⟩
  · rintro ⟨⟨h1, h2⟩, ⟨h3, h4⟩, h5⟩
    refine ⟨⟨h1, h3, fun a ha b hb => ?_⟩, fun q hq => ?_⟩
    · obtain ⟨p, hp, rfl⟩ := List.mem_map.mp ha
      obtain ⟨q, hq, rfl⟩ := List.mem_map.mp hb
      exact h5 p hp q hq
    · rcases List.mem_append.mp hq with h | h
      · exact h2 q h
      · exact h4 q h
theorem za_iff {ws : va_W} {sz q : Nat} : va_A ws sz q ↔ (∃ p ∈ ws, p.1 = q) ∨ sz ≤ q := by
  constructor
  · rintro (⟨k, e, h⟩ | h)
    · exact Or.inl ⟨(q, e), List.mem_of_getElem? h, rfl⟩
    · exact Or.inr h
  · rintro (⟨⟨a, e⟩, h, rfl⟩ | h)
    · obtain ⟨k, hk⟩ := List.getElem?_of_mem h
      exact Or.inl ⟨k, e, hk⟩
    · exact Or.inr h
theorem z_join {A : Nat → Prop} {D : va_G} {cl : List vw_C} {ws wc wr w1 : va_W} {H H1 : Heap} (hP : va_P D cl ws H) (hD : va_D A ws) (hp : ws.Perm (wc ++ wr)) (hA : ∀ q, H.size ≤ q → A q)
    (hk : ∀ q : Nat, q < H.size → ¬ va_A wc H.size q → H1[q]? = H[q]?) (hP1 : va_P D cl w1 H1) (hD1 : va_D (va_A wc H.size) w1) : va_P D cl (w1 ++ wr) H1 ∧ va_D A (w1 ++ wr) := by
  obtain ⟨-, pr⟩ := zp_app.mp (zp_perm hp hP)
  obtain ⟨dc, dr, dx⟩ := zd_app.mp (zd_perm hp hD)
  have hlt : ∀ q ∈ wr, q.1 < H.size ∧ ¬ va_A wc H.size q.1 := by
    intro q hq
    have h1 := (zp_iff.mp pr q hq).lt
    refine ⟨h1, fun h => ?_⟩
    rcases za_iff.mp h with ⟨p, hp, e⟩ | h
    · exact dx p hp q hq e
    · omega
  refine ⟨zp_app.mpr ⟨hP1, zp_iff.mpr (fun q hq => (zp_iff.mp pr q hq).kept (hk q.1 (hlt q hq).1 (hlt q hq).2))⟩, zd_app.mpr ⟨?_, dr, fun p hp q hq e => ?_⟩⟩
  · refine ⟨hD1.1, fun k q hq => ?_⟩
    rcases za_iff.mp (hD1.2 k q hq) with ⟨p, hp, e⟩ | h
    · rw [← e]; exact (zd_iff.mp dc).2 p hp
    · exact hA _ h
  · exact (hlt q hq).2 (by rw [← e]; exact (zd_iff.mp hD1).2 p hp)
/-- the words that ride in no list, of the links and casts that the proof uses -/
def nwl : List Cond := [(Jvm.Cond.castable "java/lang/Throwable" "java/lang/Object"), (Jvm.Cond.castable "java/lang/StringBuilder" "java/lang/Object"), (Jvm.Cond.castable "java/util/ArrayList" "java/lang/Object"), (Jvm.Cond.castable "java/lang/String" "java/lang/Object"), (Jvm.Cond.methodLinkNest "RatSorters" (31 : Nat) ({ cls := "RatSorters$Tokens", name := "<init>", desc := "()V" } : Jvm.MethodName) "RatSorters"), (Jvm.Cond.methodLinkNest "RatSorters" (47 : Nat) ({ cls := "RatSorters$Text", name := "<init>", desc := "()V" } : Jvm.MethodName) "RatSorters"), (Jvm.Cond.methodLinkNest "RatSorters" (58 : Nat) ({ cls := "RatSorters$House", name := "<init>", desc := "()V" } : Jvm.MethodName) "RatSorters"), (Jvm.Cond.castable "RatSorters" "java/lang/Object"), (Jvm.Cond.castable "RatSorters$Fault" "RatSorters$Fault"), (Jvm.Cond.castable "RatSorters$Fault" "java/lang/Object"), (Jvm.Cond.methodLinkNest "RatSorters$Going" (3 : Nat) ({ cls := "RatSorters$Working", name := "<init>", desc := "()V" } : Jvm.MethodName) "RatSorters"), (Jvm.Cond.castable "RatSorters$Going" "java/lang/Object"), (Jvm.Cond.castable "RatSorters$Going" "RatSorters$Doing"), (Jvm.Cond.methodLinkNest "RatSorters$Returning" (3 : Nat) ({ cls := "RatSorters$Working", name := "<init>", desc := "()V" } : Jvm.MethodName) "RatSorters"), (Jvm.Cond.castable "RatSorters$Returning" "java/lang/Object"), (Jvm.Cond.castable "RatSorters$Returning" "RatSorters$Doing"), (Jvm.Cond.castable "RatSortersModel" "java/lang/Object"), (Jvm.Cond.castable "RatSorters$Grain" "RatSorters$Named"), (Jvm.Cond.castable "RatSorters$Grain" "java/lang/Object"), (Jvm.Cond.castable "RatSorters$Hole" "RatSorters$Named"), (Jvm.Cond.castable "RatSorters$Hole" "java/lang/Object"), (Jvm.Cond.castable "RatSorters$Rat" "RatSorters$Named"), (Jvm.Cond.castable "RatSorters$Rat" "java/lang/Object"), (Jvm.Cond.castable "RatSorters$Law" "java/lang/Object"), (Jvm.Cond.castable "RatSorters$Sum" "java/lang/Object"), (Jvm.Cond.methodLinkNest "RatSorters$Number" (1 : Nat) ({ cls := "RatSorters$Sum", name := "<init>", desc := "()V" } : Jvm.MethodName) "RatSorters"), (Jvm.Cond.castable "RatSorters$Number" "java/lang/Object"), (Jvm.Cond.castable "RatSorters$Number" "RatSorters$Sum"), (Jvm.Cond.castable "RatSorters$Tokens" "java/lang/Object"), (Jvm.Cond.methodLinkNest "RatSorters$Var" (1 : Nat) ({ cls := "RatSorters$Sum", name := "<init>", desc := "()V" } : Jvm.MethodName) "RatSorters"), (Jvm.Cond.castable "RatSorters$Var" "java/lang/Object"), (Jvm.Cond.castable "RatSorters$Var" "RatSorters$Sum"), (Jvm.Cond.methodLinkNest "RatSorters$Joined" (1 : Nat) ({ cls := "RatSorters$Sum", name := "<init>", desc := "()V" } : Jvm.MethodName) "RatSorters"), (Jvm.Cond.castable "RatSorters$Joined" "java/lang/Object"), (Jvm.Cond.castable "RatSorters$Joined" "RatSorters$Sum"), (Jvm.Cond.castable "RatSorters$Merchant" "java/lang/Object"), (Jvm.Cond.methodLinkNest "RatSorters$Parser" (98 : Nat) ({ cls := "RatSorters$Text", name := "<init>", desc := "()V" } : Jvm.MethodName) "RatSorters"), (Jvm.Cond.methodLinkNest "RatSorters$Parser" (224 : Nat) ({ cls := "RatSorters$Law", name := "<init>", desc := "()V" } : Jvm.MethodName) "RatSorters"), (Jvm.Cond.methodLinkNest "RatSorters$Parser" (208 : Nat) ({ cls := "RatSorters$Merchant", name := "<init>", desc := "()V" } : Jvm.MethodName) "RatSorters"), (Jvm.Cond.castable "RatSorters$Parser" "java/lang/Object"), (Jvm.Cond.castable "RatSorters$Text" "java/lang/Object"), (Jvm.Cond.methodLinkNest "RatSorters$House" (52 : Nat) ({ cls := "RatSorters$Asked", name := "<init>", desc := "()V" } : Jvm.MethodName) "RatSorters"), (Jvm.Cond.methodLinkNest "RatSorters$House" (61 : Nat) ({ cls := "RatSorters$Loading", name := "<init>", desc := "()V" } : Jvm.MethodName) "RatSorters"), (Jvm.Cond.methodLinkNest "RatSorters$House" (64 : Nat) ({ cls := "RatSorters$Going", name := "<init>", desc := "()V" } : Jvm.MethodName) "RatSorters"), (Jvm.Cond.methodLinkNest "RatSorters$House" (67 : Nat) ({ cls := "RatSorters$Returning", name := "<init>", desc := "()V" } : Jvm.MethodName) "RatSorters"), (Jvm.Cond.methodLinkNest "RatSorters$House" (68 : Nat) ({ cls := "RatSorters$Doing", name := "<init>", desc := "()V" } : Jvm.MethodName) "RatSorters"), (Jvm.Cond.methodLinkNest "RatSorters$House" (173 : Nat) ({ cls := "RatSorters", name := "within", desc := "(III)I" } : Jvm.MethodName) "RatSorters"), (Jvm.Cond.methodLinkNest "RatSorters$House" (186 : Nat) ({ cls := "RatSorters", name := "lot", desc := "(III)I" } : Jvm.MethodName) "RatSorters"), (Jvm.Cond.castable "RatSorters$House" "java/lang/Object"), (Jvm.Cond.castable "RatSorters$Asked" "java/lang/Object"), (Jvm.Cond.castable "RatSorters$Doing" "java/lang/Object"), (Jvm.Cond.methodLinkNest "RatSorters$Working" (3 : Nat) ({ cls := "RatSorters$Doing", name := "<init>", desc := "()V" } : Jvm.MethodName) "RatSorters"), (Jvm.Cond.methodLinkNest "RatSorters$Loading" (1 : Nat) ({ cls := "RatSorters$Working", name := "<init>", desc := "()V" } : Jvm.MethodName) "RatSorters"), (Jvm.Cond.castable "RatSorters$Loading" "java/lang/Object"), (Jvm.Cond.castable "RatSorters$Loading" "RatSorters$Doing"), (Jvm.Cond.castable "[B" "java/lang/Cloneable"), (Jvm.Cond.castable "[B" "java/lang/Object"), (Jvm.Cond.castable "[I" "java/lang/Object"), (Jvm.Cond.castable "[J" "java/lang/Object"), (Jvm.Cond.castable "[LRatSorters$Doing;" "java/lang/Object"), (Jvm.Cond.castable "[LRatSorters$House;" "java/lang/Object"), (Jvm.Cond.castable "[LRatSorters$Sum;" "java/lang/Object"), (Jvm.Cond.castable "[Ljava/lang/Object;" "java/lang/Object"), (Jvm.Cond.castable "[Ljava/lang/String;" "java/lang/Object"), (Jvm.Cond.castable "[S" "java/lang/Object"), (Jvm.Cond.castable "[Z" "java/lang/Object"), (Jvm.Cond.castable "[[I" "java/lang/Object"), (Jvm.Cond.arrayOver (Jvm.ClassFile.FieldType.object "java/lang/String")), (Jvm.Cond.arrayOver (Jvm.ClassFile.FieldType.object "RatSorters$Doing")), (Jvm.Cond.arrayOver (Jvm.ClassFile.FieldType.object "RatSorters$House")), (Jvm.Cond.arrayOver (Jvm.ClassFile.FieldType.object "java/lang/Object")), (Jvm.Cond.arrayOver (Jvm.ClassFile.FieldType.object "RatSorters$Sum"))]
def NW (U : State) : Prop := ∀ w ∈ nwl, va_Nw w U
theorem nwl_in : ∀ w ∈ nwl, w ∈ lw_tbl := List.forall_mem_cons.mpr ⟨q2290, List.forall_mem_cons.mpr ⟨q2282, List.forall_mem_cons.mpr ⟨q2275, List.forall_mem_cons.mpr ⟨q2266, List.forall_mem_cons.mpr ⟨q238, List.forall_mem_cons.mpr ⟨q325, List.forall_mem_cons.mpr ⟨q408, List.forall_mem_cons.mpr ⟨q2270, List.forall_mem_cons.mpr ⟨q164, List.forall_mem_cons.mpr ⟨q2271, List.forall_mem_cons.mpr ⟨q451, List.forall_mem_cons.mpr ⟨q2278, List.forall_mem_cons.mpr ⟨q2292, List.forall_mem_cons.mpr ⟨q458, List.forall_mem_cons.mpr ⟨q2279, List.forall_mem_cons.mpr ⟨q2293, List.forall_mem_cons.mpr ⟨q2280, List.forall_mem_cons.mpr ⟨q2263, List.forall_mem_cons.mpr ⟨q2281, List.forall_mem_cons.mpr ⟨q2264, List.forall_mem_cons.mpr ⟨q2283, List.forall_mem_cons.mpr ⟨q2265, List.forall_mem_cons.mpr ⟨q2284, List.forall_mem_cons.mpr ⟨q2285, List.forall_mem_cons.mpr ⟨q2269, List.forall_mem_cons.mpr ⟨q1167, List.forall_mem_cons.mpr ⟨q2286, List.forall_mem_cons.mpr ⟨q2294, List.forall_mem_cons.mpr ⟨q2272, List.forall_mem_cons.mpr ⟨q1180, List.forall_mem_cons.mpr ⟨q2287, List.forall_mem_cons.mpr ⟨q2295, List.forall_mem_cons.mpr ⟨q1190, List.forall_mem_cons.mpr ⟨q2288, List.forall_mem_cons.mpr ⟨q2296, List.forall_mem_cons.mpr ⟨q2289, List.forall_mem_cons.mpr ⟨q752, List.forall_mem_cons.mpr ⟨q1115, List.forall_mem_cons.mpr ⟨q1211, List.forall_mem_cons.mpr ⟨q2273, List.forall_mem_cons.mpr ⟨q2274, List.forall_mem_cons.mpr ⟨q416, List.forall_mem_cons.mpr ⟨q435, List.forall_mem_cons.mpr ⟨q448, List.forall_mem_cons.mpr ⟨q455, List.forall_mem_cons.mpr ⟨q461, List.forall_mem_cons.mpr ⟨q1381, List.forall_mem_cons.mpr ⟨q1389, List.forall_mem_cons.mpr ⟨q2268, List.forall_mem_cons.mpr ⟨q2276, List.forall_mem_cons.mpr ⟨q2267, List.forall_mem_cons.mpr ⟨q441, List.forall_mem_cons.mpr ⟨q438, List.forall_mem_cons.mpr ⟨q2277, List.forall_mem_cons.mpr ⟨q2291, List.forall_mem_cons.mpr ⟨q860, List.forall_mem_cons.mpr ⟨q2300, List.forall_mem_cons.mpr ⟨q2304, List.forall_mem_cons.mpr ⟨q2310, List.forall_mem_cons.mpr ⟨q2305, List.forall_mem_cons.mpr ⟨q2306, List.forall_mem_cons.mpr ⟨q2309, List.forall_mem_cons.mpr ⟨q2308, List.forall_mem_cons.mpr ⟨q2301, List.forall_mem_cons.mpr ⟨q2302, List.forall_mem_cons.mpr ⟨q2307, List.forall_mem_cons.mpr ⟨q2303, List.forall_mem_cons.mpr ⟨q243, List.forall_mem_cons.mpr ⟨q432, List.forall_mem_cons.mpr ⟨q560, List.forall_mem_cons.mpr ⟨q1059, List.forall_mem_cons.mpr ⟨q1120, fun _ h => absurd h List.not_mem_nil⟩⟩⟩⟩⟩⟩⟩⟩⟩⟩⟩⟩⟩⟩⟩⟩⟩⟩⟩⟩⟩⟩⟩⟩⟩⟩⟩⟩⟩⟩⟩⟩⟩⟩⟩⟩⟩⟩⟩⟩⟩⟩⟩⟩⟩⟩⟩⟩⟩⟩⟩⟩⟩⟩⟩⟩⟩⟩⟩⟩⟩⟩⟩⟩⟩⟩⟩⟩⟩⟩⟩⟩
theorem nw_q2290 {U : State} (h : NW U) : va_Nw (Jvm.Cond.castable "java/lang/Throwable" "java/lang/Object") U := h _ (List.mem_of_getElem? (i := 0) rfl)
theorem nw_q2282 {U : State} (h : NW U) : va_Nw (Jvm.Cond.castable "java/lang/StringBuilder" "java/lang/Object") U := h _ (List.mem_of_getElem? (i := 1) rfl)
theorem nw_q2275 {U : State} (h : NW U) : va_Nw (Jvm.Cond.castable "java/util/ArrayList" "java/lang/Object") U := h _ (List.mem_of_getElem? (i := 2) rfl)
theorem nw_q2266 {U : State} (h : NW U) : va_Nw (Jvm.Cond.castable "java/lang/String" "java/lang/Object") U := h _ (List.mem_of_getElem? (i := 3) rfl)
theorem nw_q238 {U : State} (h : NW U) : va_Nw (Jvm.Cond.methodLinkNest "RatSorters" (31 : Nat) ({ cls := "RatSorters$Tokens", name := "<init>", desc := "()V" } : Jvm.MethodName) "RatSorters") U := h _ (List.mem_of_getElem? (i := 4) rfl)
theorem nw_q325 {U : State} (h : NW U) : va_Nw (Jvm.Cond.methodLinkNest "RatSorters" (47 : Nat) ({ cls := "RatSorters$Text", name := "<init>", desc := "()V" } : Jvm.MethodName) "RatSorters") U := h _ (List.mem_of_getElem? (i := 5) rfl)
theorem nw_q408 {U : State} (h : NW U) : va_Nw (Jvm.Cond.methodLinkNest "RatSorters" (58 : Nat) ({ cls := "RatSorters$House", name := "<init>", desc := "()V" } : Jvm.MethodName) "RatSorters") U := h _ (List.mem_of_getElem? (i := 6) rfl)
theorem nw_q2270 {U : State} (h : NW U) : va_Nw (Jvm.Cond.castable "RatSorters" "java/lang/Object") U := h _ (List.mem_of_getElem? (i := 7) rfl)
theorem nw_q164 {U : State} (h : NW U) : va_Nw (Jvm.Cond.castable "RatSorters$Fault" "RatSorters$Fault") U := h _ (List.mem_of_getElem? (i := 8) rfl)
theorem nw_q2271 {U : State} (h : NW U) : va_Nw (Jvm.Cond.castable "RatSorters$Fault" "java/lang/Object") U := h _ (List.mem_of_getElem? (i := 9) rfl)
theorem nw_q451 {U : State} (h : NW U) : va_Nw (Jvm.Cond.methodLinkNest "RatSorters$Going" (3 : Nat) ({ cls := "RatSorters$Working", name := "<init>", desc := "()V" } : Jvm.MethodName) "RatSorters") U := h _ (List.mem_of_getElem? (i := 10) rfl)
theorem nw_q2278 {U : State} (h : NW U) : va_Nw (Jvm.Cond.castable "RatSorters$Going" "java/lang/Object") U := h _ (List.mem_of_getElem? (i := 11) rfl)
theorem nw_q2292 {U : State} (h : NW U) : va_Nw (Jvm.Cond.castable "RatSorters$Going" "RatSorters$Doing") U := h _ (List.mem_of_getElem? (i := 12) rfl)
theorem nw_q458 {U : State} (h : NW U) : va_Nw (Jvm.Cond.methodLinkNest "RatSorters$Returning" (3 : Nat) ({ cls := "RatSorters$Working", name := "<init>", desc := "()V" } : Jvm.MethodName) "RatSorters") U := h _ (List.mem_of_getElem? (i := 13) rfl)
theorem nw_q2279 {U : State} (h : NW U) : va_Nw (Jvm.Cond.castable "RatSorters$Returning" "java/lang/Object") U := h _ (List.mem_of_getElem? (i := 14) rfl)
theorem nw_q2293 {U : State} (h : NW U) : va_Nw (Jvm.Cond.castable "RatSorters$Returning" "RatSorters$Doing") U := h _ (List.mem_of_getElem? (i := 15) rfl)
theorem nw_q2280 {U : State} (h : NW U) : va_Nw (Jvm.Cond.castable "RatSortersModel" "java/lang/Object") U := h _ (List.mem_of_getElem? (i := 16) rfl)
theorem nw_q2263 {U : State} (h : NW U) : va_Nw (Jvm.Cond.castable "RatSorters$Grain" "RatSorters$Named") U := h _ (List.mem_of_getElem? (i := 17) rfl)
theorem nw_q2281 {U : State} (h : NW U) : va_Nw (Jvm.Cond.castable "RatSorters$Grain" "java/lang/Object") U := h _ (List.mem_of_getElem? (i := 18) rfl)
theorem nw_q2264 {U : State} (h : NW U) : va_Nw (Jvm.Cond.castable "RatSorters$Hole" "RatSorters$Named") U := h _ (List.mem_of_getElem? (i := 19) rfl)
theorem nw_q2283 {U : State} (h : NW U) : va_Nw (Jvm.Cond.castable "RatSorters$Hole" "java/lang/Object") U := h _ (List.mem_of_getElem? (i := 20) rfl)
theorem nw_q2265 {U : State} (h : NW U) : va_Nw (Jvm.Cond.castable "RatSorters$Rat" "RatSorters$Named") U := h _ (List.mem_of_getElem? (i := 21) rfl)
theorem nw_q2284 {U : State} (h : NW U) : va_Nw (Jvm.Cond.castable "RatSorters$Rat" "java/lang/Object") U := h _ (List.mem_of_getElem? (i := 22) rfl)
theorem nw_q2285 {U : State} (h : NW U) : va_Nw (Jvm.Cond.castable "RatSorters$Law" "java/lang/Object") U := h _ (List.mem_of_getElem? (i := 23) rfl)
theorem nw_q2269 {U : State} (h : NW U) : va_Nw (Jvm.Cond.castable "RatSorters$Sum" "java/lang/Object") U := h _ (List.mem_of_getElem? (i := 24) rfl)
theorem nw_q1167 {U : State} (h : NW U) : va_Nw (Jvm.Cond.methodLinkNest "RatSorters$Number" (1 : Nat) ({ cls := "RatSorters$Sum", name := "<init>", desc := "()V" } : Jvm.MethodName) "RatSorters") U := h _ (List.mem_of_getElem? (i := 25) rfl)
theorem nw_q2286 {U : State} (h : NW U) : va_Nw (Jvm.Cond.castable "RatSorters$Number" "java/lang/Object") U := h _ (List.mem_of_getElem? (i := 26) rfl)
theorem nw_q2294 {U : State} (h : NW U) : va_Nw (Jvm.Cond.castable "RatSorters$Number" "RatSorters$Sum") U := h _ (List.mem_of_getElem? (i := 27) rfl)
theorem nw_q2272 {U : State} (h : NW U) : va_Nw (Jvm.Cond.castable "RatSorters$Tokens" "java/lang/Object") U := h _ (List.mem_of_getElem? (i := 28) rfl)
theorem nw_q1180 {U : State} (h : NW U) : va_Nw (Jvm.Cond.methodLinkNest "RatSorters$Var" (1 : Nat) ({ cls := "RatSorters$Sum", name := "<init>", desc := "()V" } : Jvm.MethodName) "RatSorters") U := h _ (List.mem_of_getElem? (i := 29) rfl)
theorem nw_q2287 {U : State} (h : NW U) : va_Nw (Jvm.Cond.castable "RatSorters$Var" "java/lang/Object") U := h _ (List.mem_of_getElem? (i := 30) rfl)
theorem nw_q2295 {U : State} (h : NW U) : va_Nw (Jvm.Cond.castable "RatSorters$Var" "RatSorters$Sum") U := h _ (List.mem_of_getElem? (i := 31) rfl)
theorem nw_q1190 {U : State} (h : NW U) : va_Nw (Jvm.Cond.methodLinkNest "RatSorters$Joined" (1 : Nat) ({ cls := "RatSorters$Sum", name := "<init>", desc := "()V" } : Jvm.MethodName) "RatSorters") U := h _ (List.mem_of_getElem? (i := 32) rfl)
theorem nw_q2288 {U : State} (h : NW U) : va_Nw (Jvm.Cond.castable "RatSorters$Joined" "java/lang/Object") U := h _ (List.mem_of_getElem? (i := 33) rfl)
theorem nw_q2296 {U : State} (h : NW U) : va_Nw (Jvm.Cond.castable "RatSorters$Joined" "RatSorters$Sum") U := h _ (List.mem_of_getElem? (i := 34) rfl)
theorem nw_q2289 {U : State} (h : NW U) : va_Nw (Jvm.Cond.castable "RatSorters$Merchant" "java/lang/Object") U := h _ (List.mem_of_getElem? (i := 35) rfl)
theorem nw_q752 {U : State} (h : NW U) : va_Nw (Jvm.Cond.methodLinkNest "RatSorters$Parser" (98 : Nat) ({ cls := "RatSorters$Text", name := "<init>", desc := "()V" } : Jvm.MethodName) "RatSorters") U := h _ (List.mem_of_getElem? (i := 36) rfl)
theorem nw_q1115 {U : State} (h : NW U) : va_Nw (Jvm.Cond.methodLinkNest "RatSorters$Parser" (224 : Nat) ({ cls := "RatSorters$Law", name := "<init>", desc := "()V" } : Jvm.MethodName) "RatSorters") U := h _ (List.mem_of_getElem? (i := 37) rfl)
theorem nw_q1211 {U : State} (h : NW U) : va_Nw (Jvm.Cond.methodLinkNest "RatSorters$Parser" (208 : Nat) ({ cls := "RatSorters$Merchant", name := "<init>", desc := "()V" } : Jvm.MethodName) "RatSorters") U := h _ (List.mem_of_getElem? (i := 38) rfl)
theorem nw_q2273 {U : State} (h : NW U) : va_Nw (Jvm.Cond.castable "RatSorters$Parser" "java/lang/Object") U := h _ (List.mem_of_getElem? (i := 39) rfl)
theorem nw_q2274 {U : State} (h : NW U) : va_Nw (Jvm.Cond.castable "RatSorters$Text" "java/lang/Object") U := h _ (List.mem_of_getElem? (i := 40) rfl)
theorem nw_q416 {U : State} (h : NW U) : va_Nw (Jvm.Cond.methodLinkNest "RatSorters$House" (52 : Nat) ({ cls := "RatSorters$Asked", name := "<init>", desc := "()V" } : Jvm.MethodName) "RatSorters") U := h _ (List.mem_of_getElem? (i := 41) rfl)
theorem nw_q435 {U : State} (h : NW U) : va_Nw (Jvm.Cond.methodLinkNest "RatSorters$House" (61 : Nat) ({ cls := "RatSorters$Loading", name := "<init>", desc := "()V" } : Jvm.MethodName) "RatSorters") U := h _ (List.mem_of_getElem? (i := 42) rfl)
theorem nw_q448 {U : State} (h : NW U) : va_Nw (Jvm.Cond.methodLinkNest "RatSorters$House" (64 : Nat) ({ cls := "RatSorters$Going", name := "<init>", desc := "()V" } : Jvm.MethodName) "RatSorters") U := h _ (List.mem_of_getElem? (i := 43) rfl)
theorem nw_q455 {U : State} (h : NW U) : va_Nw (Jvm.Cond.methodLinkNest "RatSorters$House" (67 : Nat) ({ cls := "RatSorters$Returning", name := "<init>", desc := "()V" } : Jvm.MethodName) "RatSorters") U := h _ (List.mem_of_getElem? (i := 44) rfl)
theorem nw_q461 {U : State} (h : NW U) : va_Nw (Jvm.Cond.methodLinkNest "RatSorters$House" (68 : Nat) ({ cls := "RatSorters$Doing", name := "<init>", desc := "()V" } : Jvm.MethodName) "RatSorters") U := h _ (List.mem_of_getElem? (i := 45) rfl)
theorem nw_q1381 {U : State} (h : NW U) : va_Nw (Jvm.Cond.methodLinkNest "RatSorters$House" (173 : Nat) ({ cls := "RatSorters", name := "within", desc := "(III)I" } : Jvm.MethodName) "RatSorters") U := h _ (List.mem_of_getElem? (i := 46) rfl)
theorem nw_q1389 {U : State} (h : NW U) : va_Nw (Jvm.Cond.methodLinkNest "RatSorters$House" (186 : Nat) ({ cls := "RatSorters", name := "lot", desc := "(III)I" } : Jvm.MethodName) "RatSorters") U := h _ (List.mem_of_getElem? (i := 47) rfl)
theorem nw_q2268 {U : State} (h : NW U) : va_Nw (Jvm.Cond.castable "RatSorters$House" "java/lang/Object") U := h _ (List.mem_of_getElem? (i := 48) rfl)
theorem nw_q2276 {U : State} (h : NW U) : va_Nw (Jvm.Cond.castable "RatSorters$Asked" "java/lang/Object") U := h _ (List.mem_of_getElem? (i := 49) rfl)
theorem nw_q2267 {U : State} (h : NW U) : va_Nw (Jvm.Cond.castable "RatSorters$Doing" "java/lang/Object") U := h _ (List.mem_of_getElem? (i := 50) rfl)
theorem nw_q441 {U : State} (h : NW U) : va_Nw (Jvm.Cond.methodLinkNest "RatSorters$Working" (3 : Nat) ({ cls := "RatSorters$Doing", name := "<init>", desc := "()V" } : Jvm.MethodName) "RatSorters") U := h _ (List.mem_of_getElem? (i := 51) rfl)
theorem nw_q438 {U : State} (h : NW U) : va_Nw (Jvm.Cond.methodLinkNest "RatSorters$Loading" (1 : Nat) ({ cls := "RatSorters$Working", name := "<init>", desc := "()V" } : Jvm.MethodName) "RatSorters") U := h _ (List.mem_of_getElem? (i := 52) rfl)
theorem nw_q2277 {U : State} (h : NW U) : va_Nw (Jvm.Cond.castable "RatSorters$Loading" "java/lang/Object") U := h _ (List.mem_of_getElem? (i := 53) rfl)
theorem nw_q2291 {U : State} (h : NW U) : va_Nw (Jvm.Cond.castable "RatSorters$Loading" "RatSorters$Doing") U := h _ (List.mem_of_getElem? (i := 54) rfl)
theorem nw_q860 {U : State} (h : NW U) : va_Nw (Jvm.Cond.castable "[B" "java/lang/Cloneable") U := h _ (List.mem_of_getElem? (i := 55) rfl)
theorem nw_q2300 {U : State} (h : NW U) : va_Nw (Jvm.Cond.castable "[B" "java/lang/Object") U := h _ (List.mem_of_getElem? (i := 56) rfl)
theorem nw_q2304 {U : State} (h : NW U) : va_Nw (Jvm.Cond.castable "[I" "java/lang/Object") U := h _ (List.mem_of_getElem? (i := 57) rfl)
theorem nw_q2310 {U : State} (h : NW U) : va_Nw (Jvm.Cond.castable "[J" "java/lang/Object") U := h _ (List.mem_of_getElem? (i := 58) rfl)
theorem nw_q2305 {U : State} (h : NW U) : va_Nw (Jvm.Cond.castable "[LRatSorters$Doing;" "java/lang/Object") U := h _ (List.mem_of_getElem? (i := 59) rfl)
theorem nw_q2306 {U : State} (h : NW U) : va_Nw (Jvm.Cond.castable "[LRatSorters$House;" "java/lang/Object") U := h _ (List.mem_of_getElem? (i := 60) rfl)
theorem nw_q2309 {U : State} (h : NW U) : va_Nw (Jvm.Cond.castable "[LRatSorters$Sum;" "java/lang/Object") U := h _ (List.mem_of_getElem? (i := 61) rfl)
theorem nw_q2308 {U : State} (h : NW U) : va_Nw (Jvm.Cond.castable "[Ljava/lang/Object;" "java/lang/Object") U := h _ (List.mem_of_getElem? (i := 62) rfl)
theorem nw_q2301 {U : State} (h : NW U) : va_Nw (Jvm.Cond.castable "[Ljava/lang/String;" "java/lang/Object") U := h _ (List.mem_of_getElem? (i := 63) rfl)
theorem nw_q2302 {U : State} (h : NW U) : va_Nw (Jvm.Cond.castable "[S" "java/lang/Object") U := h _ (List.mem_of_getElem? (i := 64) rfl)
theorem nw_q2307 {U : State} (h : NW U) : va_Nw (Jvm.Cond.castable "[Z" "java/lang/Object") U := h _ (List.mem_of_getElem? (i := 65) rfl)
theorem nw_q2303 {U : State} (h : NW U) : va_Nw (Jvm.Cond.castable "[[I" "java/lang/Object") U := h _ (List.mem_of_getElem? (i := 66) rfl)
theorem nw_q243 {U : State} (h : NW U) : va_Nw (Jvm.Cond.arrayOver (Jvm.ClassFile.FieldType.object "java/lang/String")) U := h _ (List.mem_of_getElem? (i := 67) rfl)
theorem nw_q432 {U : State} (h : NW U) : va_Nw (Jvm.Cond.arrayOver (Jvm.ClassFile.FieldType.object "RatSorters$Doing")) U := h _ (List.mem_of_getElem? (i := 68) rfl)
theorem nw_q560 {U : State} (h : NW U) : va_Nw (Jvm.Cond.arrayOver (Jvm.ClassFile.FieldType.object "RatSorters$House")) U := h _ (List.mem_of_getElem? (i := 69) rfl)
theorem nw_q1059 {U : State} (h : NW U) : va_Nw (Jvm.Cond.arrayOver (Jvm.ClassFile.FieldType.object "java/lang/Object")) U := h _ (List.mem_of_getElem? (i := 70) rfl)
theorem nw_q1120 {U : State} (h : NW U) : va_Nw (Jvm.Cond.arrayOver (Jvm.ClassFile.FieldType.object "RatSorters$Sum")) U := h _ (List.mem_of_getElem? (i := 71) rfl)
theorem NW.warm {s U : State} (hW : s.WarmedH U.vm) (h : NW s) : NW U := List.forall_mem_cons.mpr ⟨va_Nw.warmC hW (nw_q2290 h), List.forall_mem_cons.mpr ⟨va_Nw.warmC hW (nw_q2282 h), List.forall_mem_cons.mpr ⟨va_Nw.warmC hW (nw_q2275 h), List.forall_mem_cons.mpr ⟨va_Nw.warmC hW (nw_q2266 h), List.forall_mem_cons.mpr ⟨va_Nw.warmM hW (nw_q238 h), List.forall_mem_cons.mpr ⟨va_Nw.warmM hW (nw_q325 h), List.forall_mem_cons.mpr ⟨va_Nw.warmM hW (nw_q408 h), List.forall_mem_cons.mpr ⟨va_Nw.warmC hW (nw_q2270 h), List.forall_mem_cons.mpr ⟨va_Nw.warmC hW (nw_q164 h), List.forall_mem_cons.mpr ⟨va_Nw.warmC hW (nw_q2271 h), List.forall_mem_cons.mpr ⟨va_Nw.warmM hW (nw_q451 h), List.forall_mem_cons.mpr ⟨va_Nw.warmC hW (nw_q2278 h), List.forall_mem_cons.mpr ⟨va_Nw.warmC hW (nw_q2292 h), List.forall_mem_cons.mpr ⟨va_Nw.warmM hW (nw_q458 h), List.forall_mem_cons.mpr ⟨va_Nw.warmC hW (nw_q2279 h), List.forall_mem_cons.mpr ⟨va_Nw.warmC hW (nw_q2293 h), List.forall_mem_cons.mpr ⟨va_Nw.warmC hW (nw_q2280 h), List.forall_mem_cons.mpr ⟨va_Nw.warmC hW (nw_q2263 h), List.forall_mem_cons.mpr ⟨va_Nw.warmC hW (nw_q2281 h), List.forall_mem_cons.mpr ⟨va_Nw.warmC hW (nw_q2264 h), List.forall_mem_cons.mpr ⟨va_Nw.warmC hW (nw_q2283 h), List.forall_mem_cons.mpr ⟨va_Nw.warmC hW (nw_q2265 h), List.forall_mem_cons.mpr ⟨va_Nw.warmC hW (nw_q2284 h), List.forall_mem_cons.mpr ⟨va_Nw.warmC hW (nw_q2285 h), List.forall_mem_cons.mpr ⟨va_Nw.warmC hW (nw_q2269 h), List.forall_mem_cons.mpr ⟨va_Nw.warmM hW (nw_q1167 h), List.forall_mem_cons.mpr ⟨va_Nw.warmC hW (nw_q2286 h), List.forall_mem_cons.mpr ⟨va_Nw.warmC hW (nw_q2294 h), List.forall_mem_cons.mpr ⟨va_Nw.warmC hW (nw_q2272 h), List.forall_mem_cons.mpr ⟨va_Nw.warmM hW (nw_q1180 h), List.forall_mem_cons.mpr ⟨va_Nw.warmC hW (nw_q2287 h), List.forall_mem_cons.mpr ⟨va_Nw.warmC hW (nw_q2295 h), List.forall_mem_cons.mpr ⟨va_Nw.warmM hW (nw_q1190 h), List.forall_mem_cons.mpr ⟨va_Nw.warmC hW (nw_q2288 h), List.forall_mem_cons.mpr ⟨va_Nw.warmC hW (nw_q2296 h), List.forall_mem_cons.mpr ⟨va_Nw.warmC hW (nw_q2289 h), List.forall_mem_cons.mpr ⟨va_Nw.warmM hW (nw_q752 h), List.forall_mem_cons.mpr ⟨va_Nw.warmM hW (nw_q1115 h), List.forall_mem_cons.mpr ⟨va_Nw.warmM hW (nw_q1211 h), List.forall_mem_cons.mpr ⟨va_Nw.warmC hW (nw_q2273 h), List.forall_mem_cons.mpr ⟨va_Nw.warmC hW (nw_q2274 h), List.forall_mem_cons.mpr ⟨va_Nw.warmM hW (nw_q416 h), List.forall_mem_cons.mpr ⟨va_Nw.warmM hW (nw_q435 h), List.forall_mem_cons.mpr ⟨va_Nw.warmM hW (nw_q448 h), List.forall_mem_cons.mpr ⟨va_Nw.warmM hW (nw_q455 h), List.forall_mem_cons.mpr ⟨va_Nw.warmM hW (nw_q461 h), List.forall_mem_cons.mpr ⟨va_Nw.warmM hW (nw_q1381 h), List.forall_mem_cons.mpr ⟨va_Nw.warmM hW (nw_q1389 h), List.forall_mem_cons.mpr ⟨va_Nw.warmC hW (nw_q2268 h), List.forall_mem_cons.mpr ⟨va_Nw.warmC hW (nw_q2276 h), List.forall_mem_cons.mpr ⟨va_Nw.warmC hW (nw_q2267 h), List.forall_mem_cons.mpr ⟨va_Nw.warmM hW (nw_q441 h), List.forall_mem_cons.mpr ⟨va_Nw.warmM hW (nw_q438 h), List.forall_mem_cons.mpr ⟨va_Nw.warmC hW (nw_q2277 h), List.forall_mem_cons.mpr ⟨va_Nw.warmC hW (nw_q2291 h), List.forall_mem_cons.mpr ⟨va_Nw.warmC hW (nw_q860 h), List.forall_mem_cons.mpr ⟨va_Nw.warmC hW (nw_q2300 h), List.forall_mem_cons.mpr ⟨va_Nw.warmC hW (nw_q2304 h), List.forall_mem_cons.mpr ⟨va_Nw.warmC hW (nw_q2310 h), List.forall_mem_cons.mpr ⟨va_Nw.warmC hW (nw_q2305 h), List.forall_mem_cons.mpr ⟨va_Nw.warmC hW (nw_q2306 h), List.forall_mem_cons.mpr ⟨va_Nw.warmC hW (nw_q2309 h), List.forall_mem_cons.mpr ⟨va_Nw.warmC hW (nw_q2308 h), List.forall_mem_cons.mpr ⟨va_Nw.warmC hW (nw_q2301 h), List.forall_mem_cons.mpr ⟨va_Nw.warmC hW (nw_q2302 h), List.forall_mem_cons.mpr ⟨va_Nw.warmC hW (nw_q2307 h), List.forall_mem_cons.mpr ⟨va_Nw.warmC hW (nw_q2303 h), List.forall_mem_cons.mpr ⟨va_AO.moved hW.alike (nw_q243 h), List.forall_mem_cons.mpr ⟨va_AO.moved hW.alike (nw_q432 h), List.forall_mem_cons.mpr ⟨va_AO.moved hW.alike (nw_q560 h), List.forall_mem_cons.mpr ⟨va_AO.moved hW.alike (nw_q1059 h), List.forall_mem_cons.mpr ⟨va_AO.moved hW.alike (nw_q1120 h), fun _ h => absurd h List.not_mem_nil⟩⟩⟩⟩⟩⟩⟩⟩⟩⟩⟩⟩⟩⟩⟩⟩⟩⟩⟩⟩⟩⟩⟩⟩⟩⟩⟩⟩⟩⟩⟩⟩⟩⟩⟩⟩⟩⟩⟩⟩⟩⟩⟩⟩⟩⟩⟩⟩⟩⟩⟩⟩⟩⟩⟩⟩⟩⟩⟩⟩⟩⟩⟩⟩⟩⟩⟩⟩⟩⟩⟩⟩
/-- what is known of the tables at a state -/
def zK (D : va_G) (Y : Nat → ClassId) (U : State) : Prop := va_K D CL (TY Y) U ∧ NW U
theorem zK.warm {D : va_G} {Y : Nat → ClassId} {s U : State} (hW : s.WarmedH U.vm) (h : zK D Y s) : zK D Y U := ⟨va_K.moved hW.alike h.1, NW.warm hW h.2⟩
theorem zK.calling {D : va_G} {Y : Nat → ClassId} {U : State} {g : JFrame} {mk : MethodId} {a : Array Value} (h : zK D Y U) : zK D Y (U.calling g mk a) := ⟨va_K.moved (u := U) (U := U.calling g mk a) (Vm.Alike.refl U.vm) h.1, NW.warm (s := U) (U := U.calling g mk a) (State.WarmedH.refl U) h.2⟩
/-- a contract's start: the method's own world ws, that it may change, and ro, that it reads -/
def zPc (D : va_G) (Y : Nat → ClassId) (av : List Value) (sz : Nat) (ro ws : va_W) : Array Value → State → Prop := va_Pc av (fun U => U.heap.size = sz ∧ va_P D CL ws U.heap ∧ va_P D CL ro U.heap ∧ va_D (fun _ => True) (ws ++ ro) ∧ zK D Y U)
theorem zPc_blind {D : va_G} {Y : Nat → ClassId} {av : List Value} {sz : Nat} {ro ws : va_W} : FrameBlind (zPc D Y av sz ro ws) := fun a U g mk h => by
  obtain ⟨h0, h1, h2, h3, h4, h5⟩ := h
  exact ⟨h0, h1, h2, h3, h4, h5.calling⟩
/-- the world behind a contract -/
def zB {S : Type} (D : va_G) (wf : S → va_W) (A : Nat → Prop) : S → State → Prop := fun u t => va_P D CL (wf u) t.heap ∧ va_D A (wf u)
/-- the world while a method runs -/
def zW (D : va_G) (A : Nat → Prop) (H0 H : Heap) (locs : List Loc) (ws : va_W) : Prop := va_P D CL ws H ∧ va_D A ws ∧ va_S A H0 H locs
/-- what is read alone -/
def zRO (D : va_G) (A : Nat → Prop) (H0 : Heap) (ro : va_W) : Prop := va_P D CL ro H0 ∧ va_D (fun q => q < H0.size ∧ ¬ A q) ro
theorem zW.perm {D : va_G} {A : Nat → Prop} {H0 H : Heap} {locs : List Loc} {ws ws' : va_W} (h : zW D A H0 H locs ws) (hp : ws.Perm ws') : zW D A H0 H locs ws' := ⟨zp_perm hp h.1, zd_perm hp h.2.1, h.2.2⟩
theorem zRO.now {D : va_G} {A : Nat → Prop} {H0 H : Heap} {ro : va_W} {locs : List Loc} (h : zRO D A H0 ro) (hS : va_S A H0 H locs) : va_P D CL ro H := by
  refine zp_iff.mpr (fun q hq => ?_)
  have h1 := (zd_iff.mp h.2).2 q hq
  exact (zp_iff.mp h.1 q hq).kept (hS.2.1 q.1 h1.1 h1.2)
theorem zW.join {D : va_G} {A : Nat → Prop} {H0 H : Heap} {locs : List Loc} {C R : List va_W} (h : zW D A H0 H locs (wj C ++ wj R)) : zW D A H0 H locs (wj (C ++ R)) := by rw [wj_app]; exact h
theorem zEntry {D : va_G} {Y : Nat → ClassId} {av : List Value} {sz : Nat} {ro ws : va_W} {args : Array Value} {s : State} (h : zPc D Y av sz ro ws args s) :
    args = av.toArray ∧ s.heap.size = sz ∧ zW D (va_A ws sz) s.heap s.heap [] ws ∧ zRO D (va_A ws sz) s.heap ro ∧ zK D Y s ∧ (∀ q : Nat, s.heap.size ≤ q → va_A ws sz q) := by
  obtain ⟨h0, h1, h2, h3, h4, h5⟩ := h
  subst h1
  obtain ⟨d1, d2, dx⟩ := zd_app.mp h4
  refine ⟨h0, rfl, ⟨h2, d1.self, va_S.rf⟩, ⟨h3, d2.1, fun k q hk => ?_⟩, h5, fun q h => Or.inr h⟩
  have hl := (h3 k q hk).lt
  refine ⟨hl, fun hA => ?_⟩
  rcases za_iff.mp hA with ⟨p, hp, e⟩ | hA
  · exact dx p hp q (List.mem_of_getElem? hk) e
  · omega
/-- what a call asks of the world -/
theorem zPre {D : va_G} {Y : Nat → ClassId} {A : Nat → Prop} {s : State} {H : Heap} {locs : List Loc} {ws ro wc rc rest : va_W} {av : List Value} (hK : zK D Y s) (hW : zW D A s.heap H locs ws) (hR : zRO D A s.heap ro) (hp : (ws ++ ro).Perm (wc ++ (rc ++ rest))) : PreS s H (zPc D Y av H.size rc wc) av := by
  have hP : va_P D CL (ws ++ ro) H := zp_app.mpr ⟨hW.1, hR.now hW.2.2⟩
  have hD : va_D (fun _ => True) (ws ++ ro) := by
    refine zd_app.mpr ⟨hW.2.1.weaken (fun _ _ _ _ => trivial), hR.2.weaken (fun _ _ _ _ => trivial), fun p hp q hq e => ?_⟩
    exact ((zd_iff.mp hR.2).2 q hq).2 (by rw [← e]; exact (zd_iff.mp hW.2.1).2 p hp)
  have hP2 := zp_app.mp (zp_perm hp hP)
  have hD2 := zd_perm hp hD
  rw [← List.append_assoc] at hD2
  exact ⟨zPc_blind, fun U hU hWm => ⟨rfl, by rw [hU], by rw [hU]; exact hP2.1, by rw [hU]; exact (zp_app.mp hP2.2).1, (zd_app.mp hD2).1, zK.warm hWm hK⟩⟩
theorem zPreV {D : va_G} {Y : Nat → ClassId} {A : Nat → Prop} {s : State} {H : Heap} {locs : List Loc} {ws ro wc rc rest : va_W} {b : Addr} {C : String} {As : List Value} (hK : zK D Y s) (hW : zW D A s.heap H locs ws) (hR : zRO D A s.heap ro) (hp : (ws ++ ro).Perm (wc ++ (rc ++ rest))) (hr : ∃ cellB : Cell, H[b]? = some cellB ∧ cellB.vm.isStatics = false ∧ s.vm.findClass C = some cellB.cls) : PreV s H C b (zPc D Y (.ref b :: As) H.size rc wc) As := by
  have h := zPre (av := .ref b :: As) hK hW hR hp
  exact ⟨h.1, hr, h.2⟩
section ZCALL
variable {p : Program} {l : Launch} {e : Env} {R : Room} {s : State} {m : MethodId} {args : Array Value} {below : List Frame} {meth : Method} {c : Code} {H : Heap} {locs : List Loc} {cells slots mc ms pc : Nat} {Q : State → Prop} {D : va_G} {A : Nat → Prop} {ws wc wr wn : va_W} {ls : Array Slot} {st0 rest : List Value} {a : Array Value}
theorem z_A (hW : zW D A s.heap H locs ws) (hA : ∀ q : Nat, s.heap.size ≤ q → A q) (hp : ws.Perm (wc ++ wr)) : (∀ q : Nat, H.size ≤ q → A q) ∧ ∀ q : Nat, va_A wc H.size q → A q := by
  have h1 : ∀ q : Nat, H.size ≤ q → A q := fun q h => hA q (Nat.le_trans hW.2.2.1 h)
  refine ⟨h1, fun q h => ?_⟩
  rcases za_iff.mp h with ⟨p, hp2, e⟩ | h
  · rw [← e]; exact (zd_iff.mp hW.2.1).2 p (hp.mem_iff.mpr (List.mem_append_left _ hp2))
  · exact h1 q h
theorem z_calli {S : Type} {post : Int32 → S → Prop} {wf : S → va_W} (hr : va_Run p l e R s m args below meth c H locs cells slots mc ms (F0 m pc ls st0) rest (va_Qi post (zB D wf (va_A wc H.size)) (va_A wc H.size) a) (va_A wc H.size)) (hW : zW D A s.heap H locs ws) (hA : ∀ q : Nat, s.heap.size ≤ q → A q) (hp : ws.Perm (wc ++ wr))
    (kk : ∀ (r : Int32) (u : S) (H1 : Heap) (locs1 : List Loc), post r u → zW D A s.heap H1 locs1 (wf u ++ wr) → W p l e R s m args below meth c H1 locs1 (cells + mc) (slots + ms) Q (F0 m (pc + 3) ls (.int r :: rest))) : W p l e R s m args below meth c H locs cells slots Q (F0 m pc ls st0) := by
  obtain ⟨h1, hF⟩ := z_A hW hA hp
  refine va_calli hr hW.2.2 (fun q _ h => hF q h) hF (fun r u t H1 locs1 ht hvm hpost hB hz hk hS => ?_)
  obtain ⟨hP1, hD1⟩ := hB
  rw [ht] at hP1
  obtain ⟨a1, a2⟩ := z_join hW.1 hW.2.1 hp h1 hk hP1 hD1
  exact kk r u H1 locs1 hpost ⟨a1, a2, hS⟩
theorem z_calll {S : Type} {post : Int64 → S → Prop} {wf : S → va_W} (hr : va_Run p l e R s m args below meth c H locs cells slots mc ms (F0 m pc ls st0) rest (va_Ql post (zB D wf (va_A wc H.size)) (va_A wc H.size) a) (va_A wc H.size)) (hW : zW D A s.heap H locs ws) (hA : ∀ q : Nat, s.heap.size ≤ q → A q) (hp : ws.Perm (wc ++ wr))
    (kk : ∀ (r : Int64) (u : S) (H1 : Heap) (locs1 : List Loc), post r u → zW D A s.heap H1 locs1 (wf u ++ wr) → W p l e R s m args below meth c H1 locs1 (cells + mc) (slots + ms) Q (F0 m (pc + 3) ls (.long r :: rest))) : W p l e R s m args below meth c H locs cells slots Q (F0 m pc ls st0) := by
  obtain ⟨h1, hF⟩ := z_A hW hA hp
  refine va_calll hr hW.2.2 (fun q _ h => hF q h) hF (fun r u t H1 locs1 ht hvm hpost hB hz hk hS => ?_)
  obtain ⟨hP1, hD1⟩ := hB
  rw [ht] at hP1
  obtain ⟨a1, a2⟩ := z_join hW.1 hW.2.1 hp h1 hk hP1 hD1
  exact kk r u H1 locs1 hpost ⟨a1, a2, hS⟩
theorem z_callv {S : Type} {post : S → Prop} {wf : S → va_W} (hr : va_Run p l e R s m args below meth c H locs cells slots mc ms (F0 m pc ls st0) rest (va_Qv post (zB D wf (va_A wc H.size)) (va_A wc H.size) a) (va_A wc H.size)) (hW : zW D A s.heap H locs ws) (hA : ∀ q : Nat, s.heap.size ≤ q → A q) (hp : ws.Perm (wc ++ wr))
    (kk : ∀ (u : S) (H1 : Heap) (locs1 : List Loc), post u → zW D A s.heap H1 locs1 (wf u ++ wr) → W p l e R s m args below meth c H1 locs1 (cells + mc) (slots + ms) Q (F0 m (pc + 3) ls rest)) : W p l e R s m args below meth c H locs cells slots Q (F0 m pc ls st0) := by
  obtain ⟨h1, hF⟩ := z_A hW hA hp
  refine va_callv hr hW.2.2 (fun q _ h => hF q h) hF (fun u t H1 locs1 ht hvm hpost hB hz hk hS => ?_)
  obtain ⟨hP1, hD1⟩ := hB
  rw [ht] at hP1
  obtain ⟨a1, a2⟩ := z_join hW.1 hW.2.1 hp h1 hk hP1 hD1
  exact kk u H1 locs1 hpost ⟨a1, a2, hS⟩
/-- a reference is answered: its address is part of u -/
theorem z_callq {S : Type} {post : Option Nat → S → Prop} {wf : S → va_W} (hr : va_Run p l e R s m args below meth c H locs cells slots mc ms (F0 m pc ls st0) rest (va_Qq post (zB D wf (va_A wc H.size)) (va_A wc H.size) a) (va_A wc H.size)) (hW : zW D A s.heap H locs ws) (hA : ∀ q : Nat, s.heap.size ≤ q → A q) (hp : ws.Perm (wc ++ wr))
    (kk : ∀ (r : Option Nat) (u : S) (H1 : Heap) (locs1 : List Loc), post r u → zW D A s.heap H1 locs1 (wf u ++ wr) → W p l e R s m args below meth c H1 locs1 (cells + mc) (slots + ms) Q (F0 m (pc + 3) ls (va_rf r :: rest))) : W p l e R s m args below meth c H locs cells slots Q (F0 m pc ls st0) := by
  obtain ⟨h1, hF⟩ := z_A hW hA hp
  refine va_callq hr hW.2.2 (fun q _ h => hF q h) hF (fun r u t H1 locs1 ht hvm hpost hB hz hk hS => ?_)
  obtain ⟨hP1, hD1⟩ := hB
  rw [ht] at hP1
  obtain ⟨a1, a2⟩ := z_join hW.1 hW.2.1 hp h1 hk hP1 hD1
  exact kk r u H1 locs1 hpost ⟨a1, a2, hS⟩
/-- writes, with the new world named -/
theorem z_put {cc : ByteArray} (hexec : p.tables.exec = Jvm.exec) (hb : c.code = cc) {own ref C : String} {T : u_T} {N ci index : Nat} {Ts : List Cond} (hts : ∀ w ∈ Ts, w.before args s = true) (hin : ∀ w ∈ u_ws C T N, w ∈ Ts) (ty0 : Nat → FieldType) (hty : ∀ k, k < N → parseFieldDescriptor (T k).2.2.1 = some (ty0 k)) (hnm : ∀ a, a < N → ∀ b, b < N → a ≠ b → (T a).2.1 ≠ (T b).2.1) (hown : s.vm.findClass own = some m.cls) {tys : List (ClassId × FieldType)} (hK : va_K D CL tys s) (hW : zW D A s.heap H locs ws) (q0 : Nat) {ad : Nat} {fs : List Value} (he : ws[q0]? = some (ad, .inr (ci, fs))) (hc : CL[ci]? = some (C, T, N)) (k : Nat) (hk : k < N) (hlink : (Cond.fieldLink own index ref (T k).2.1 (T k).2.2.1).before args s = true) (hsame : ∀ x, s.fieldFound? (T k).1 (T k).2.1 (T k).2.2.1 = some x → s.fieldFound? ref (T k).2.1 (T k).2.2.1 = some x) (hfin : (T k).2.2.2 = false) {v : Value} (hn : narrow (ty0 k) v = v) (hfit : fits (ty0 k) v = true) (hl : k < fs.length) (hdg : decode cc pc = .ok (.putfield index, 3)) (hwn : ws.set q0 (ad, .inr (ci, fs.set k v)) = wn)
    (kk : ∀ (H1 : Heap) (locs1 : List Loc), zW D A s.heap H1 locs1 wn → W p l e R s m args below meth c H1 locs1 cells slots Q (F0 m (pc + 3) ls rest)) : W p l e R s m args below meth c H locs cells slots Q (F0 m pc ls (v :: .ref ad :: rest)) := by
  subst hwn
  exact va_put hexec hb hts hin ty0 hty hnm hown hK hW.1 hW.2.1 hW.2.2 q0 he hc k hk hlink hsame hfin (hty k hk) hn hfit hl hdg (fun H1 locs1 a1 a2 a3 => kk H1 locs1 ⟨a1, a2, a3⟩)
theorem z_iast {cc : ByteArray} (hexec : p.tables.exec = Jvm.exec) (hb : c.code = cc) {tys : List (ClassId × FieldType)} (hK : va_K D CL tys s) (hW : zW D A s.heap H locs ws) (q0 t0 : Nat) {ad : Nat} {cA : ClassId} {n : Nat} {f : Nat → Int32} (ha : ws[q0]? = some (ad, .inl (cA, n, .inl f))) (ht : tys[t0]? = some (cA, .int)) {i x : Int32} {j : Nat} (hin : vp_in i n) (hj : i.toNatClampNeg = j) (hdg : decode cc pc = .ok (.iastore, 1)) (hwn : ws.set q0 (ad, .inl (cA, n, .inl (upd f j x))) = wn)
    (kk : ∀ (H1 : Heap) (locs1 : List Loc), zW D A s.heap H1 locs1 wn → W p l e R s m args below meth c H1 locs1 cells slots Q (F0 m (pc + 1) ls rest)) : W p l e R s m args below meth c H locs cells slots Q (F0 m pc ls (.int x :: .int i :: .ref ad :: rest)) := by
  subst hwn; subst hj
  exact va_iast hexec hb hK hW.1 hW.2.1 hW.2.2 q0 t0 ha ht hin hdg (fun H1 locs1 a1 a2 a3 => kk H1 locs1 ⟨a1, a2, a3⟩)
theorem z_bast {cc : ByteArray} (hexec : p.tables.exec = Jvm.exec) (hb : c.code = cc) {tys : List (ClassId × FieldType)} (hK : va_K D CL tys s) (hW : zW D A s.heap H locs ws) (q0 t0 : Nat) {ad : Nat} {cA : ClassId} {n : Nat} {f : Nat → Int32} (ha : ws[q0]? = some (ad, .inl (cA, n, .inl f))) (ht : tys[t0]? = some (cA, .byte)) {i x y : Int32} {j : Nat} (hin : vp_in i n) (hj : i.toNatClampNeg = j) (hy : vp_nar .byte x = y) (hdg : decode cc pc = .ok (.bastore, 1)) (hwn : ws.set q0 (ad, .inl (cA, n, .inl (upd f j y))) = wn)
    (kk : ∀ (H1 : Heap) (locs1 : List Loc), zW D A s.heap H1 locs1 wn → W p l e R s m args below meth c H1 locs1 cells slots Q (F0 m (pc + 1) ls rest)) : W p l e R s m args below meth c H locs cells slots Q (F0 m pc ls (.int x :: .int i :: .ref ad :: rest)) := by
  subst hwn; subst hj; subst hy
  exact va_bast hexec hb hK hW.1 hW.2.1 hW.2.2 q0 t0 ha ht hin hdg (fun H1 locs1 a1 a2 a3 => kk H1 locs1 ⟨a1, a2, a3⟩)
theorem z_zast {cc : ByteArray} (hexec : p.tables.exec = Jvm.exec) (hb : c.code = cc) {tys : List (ClassId × FieldType)} (hK : va_K D CL tys s) (hW : zW D A s.heap H locs ws) (q0 t0 : Nat) {ad : Nat} {cA : ClassId} {n : Nat} {f : Nat → Int32} (ha : ws[q0]? = some (ad, .inl (cA, n, .inl f))) (ht : tys[t0]? = some (cA, .boolean)) {i x y : Int32} {j : Nat} (hin : vp_in i n) (hj : i.toNatClampNeg = j) (hy : vp_nar .boolean x = y) (hdg : decode cc pc = .ok (.bastore, 1)) (hwn : ws.set q0 (ad, .inl (cA, n, .inl (upd f j y))) = wn)
    (kk : ∀ (H1 : Heap) (locs1 : List Loc), zW D A s.heap H1 locs1 wn → W p l e R s m args below meth c H1 locs1 cells slots Q (F0 m (pc + 1) ls rest)) : W p l e R s m args below meth c H locs cells slots Q (F0 m pc ls (.int x :: .int i :: .ref ad :: rest)) := by
  subst hwn; subst hj; subst hy
  exact va_zast hexec hb hK hW.1 hW.2.1 hW.2.2 q0 t0 ha ht hin hdg (fun H1 locs1 a1 a2 a3 => kk H1 locs1 ⟨a1, a2, a3⟩)
theorem z_sast {cc : ByteArray} (hexec : p.tables.exec = Jvm.exec) (hb : c.code = cc) {tys : List (ClassId × FieldType)} (hK : va_K D CL tys s) (hW : zW D A s.heap H locs ws) (q0 t0 : Nat) {ad : Nat} {cA : ClassId} {n : Nat} {f : Nat → Int32} (ha : ws[q0]? = some (ad, .inl (cA, n, .inl f))) (ht : tys[t0]? = some (cA, .short)) {i x y : Int32} {j : Nat} (hin : vp_in i n) (hj : i.toNatClampNeg = j) (hy : vp_nar .short x = y) (hdg : decode cc pc = .ok (.sastore, 1)) (hwn : ws.set q0 (ad, .inl (cA, n, .inl (upd f j y))) = wn)
    (kk : ∀ (H1 : Heap) (locs1 : List Loc), zW D A s.heap H1 locs1 wn → W p l e R s m args below meth c H1 locs1 cells slots Q (F0 m (pc + 1) ls rest)) : W p l e R s m args below meth c H locs cells slots Q (F0 m pc ls (.int x :: .int i :: .ref ad :: rest)) := by
  subst hwn; subst hj; subst hy
  exact va_sast hexec hb hK hW.1 hW.2.1 hW.2.2 q0 t0 ha ht hin hdg (fun H1 locs1 a1 a2 a3 => kk H1 locs1 ⟨a1, a2, a3⟩)
theorem z_last {cc : ByteArray} (hexec : p.tables.exec = Jvm.exec) (hb : c.code = cc) {tys : List (ClassId × FieldType)} (hK : va_K D CL tys s) (hW : zW D A s.heap H locs ws) (q0 t0 : Nat) {ad : Nat} {cA : ClassId} {n : Nat} {f : Nat → Int64} (ha : ws[q0]? = some (ad, .inl (cA, n, .inr (.inl f)))) (ht : tys[t0]? = some (cA, .long)) {i : Int32} {x : Int64} {j : Nat} (hin : vp_in i n) (hj : i.toNatClampNeg = j) (hdg : decode cc pc = .ok (.lastore, 1)) (hwn : ws.set q0 (ad, .inl (cA, n, .inr (.inl (vp_updL f j x)))) = wn)
    (kk : ∀ (H1 : Heap) (locs1 : List Loc), zW D A s.heap H1 locs1 wn → W p l e R s m args below meth c H1 locs1 cells slots Q (F0 m (pc + 1) ls rest)) : W p l e R s m args below meth c H locs cells slots Q (F0 m pc ls (.long x :: .int i :: .ref ad :: rest)) := by
  subst hwn; subst hj
  exact va_last hexec hb hK hW.1 hW.2.1 hW.2.2 q0 t0 ha ht hin hdg (fun H1 locs1 a1 a2 a3 => kk H1 locs1 ⟨a1, a2, a3⟩)
/-- reads, with the place named -/
theorem z_iald {cc : ByteArray} (hexec : p.tables.exec = Jvm.exec) (hb : c.code = cc) {tys : List (ClassId × FieldType)} (hK : va_K D CL tys s) (hP : va_P D CL ws H) (q0 t0 : Nat) {ad : Nat} {cA : ClassId} {n : Nat} {f : Nat → Int32} (ha : ws[q0]? = some (ad, .inl (cA, n, .inl f))) (ht : tys[t0]? = some (cA, .int)) {i v : Int32} {j : Nat} (hin : vp_in i n) (hj : i.toNatClampNeg = j) (hv : f j = v) (hdg : decode cc pc = .ok (.iaload, 1))
    (kk : W p l e R s m args below meth c H locs cells slots Q (F0 m (pc + 1) ls (.int v :: rest))) : W p l e R s m args below meth c H locs cells slots Q (F0 m pc ls (.int i :: .ref ad :: rest)) := by
  subst hj; subst hv
  exact va_iald hexec hb hK hP q0 t0 ha ht hin hdg kk
theorem z_bald {cc : ByteArray} (hexec : p.tables.exec = Jvm.exec) (hb : c.code = cc) {tys : List (ClassId × FieldType)} (hK : va_K D CL tys s) (hP : va_P D CL ws H) (q0 t0 : Nat) {ad : Nat} {cA : ClassId} {n : Nat} {f : Nat → Int32} (ha : ws[q0]? = some (ad, .inl (cA, n, .inl f))) (ht : tys[t0]? = some (cA, .byte)) {i v : Int32} {j : Nat} (hin : vp_in i n) (hj : i.toNatClampNeg = j) (hv : f j = v) (hdg : decode cc pc = .ok (.baload, 1))
    (kk : W p l e R s m args below meth c H locs cells slots Q (F0 m (pc + 1) ls (.int v :: rest))) : W p l e R s m args below meth c H locs cells slots Q (F0 m pc ls (.int i :: .ref ad :: rest)) := by
  subst hj; subst hv
  exact va_bald hexec hb hK hP q0 t0 ha ht hin hdg kk
theorem z_zald {cc : ByteArray} (hexec : p.tables.exec = Jvm.exec) (hb : c.code = cc) {tys : List (ClassId × FieldType)} (hK : va_K D CL tys s) (hP : va_P D CL ws H) (q0 t0 : Nat) {ad : Nat} {cA : ClassId} {n : Nat} {f : Nat → Int32} (ha : ws[q0]? = some (ad, .inl (cA, n, .inl f))) (ht : tys[t0]? = some (cA, .boolean)) {i v : Int32} {j : Nat} (hin : vp_in i n) (hj : i.toNatClampNeg = j) (hv : f j = v) (hdg : decode cc pc = .ok (.baload, 1))
    (kk : W p l e R s m args below meth c H locs cells slots Q (F0 m (pc + 1) ls (.int v :: rest))) : W p l e R s m args below meth c H locs cells slots Q (F0 m pc ls (.int i :: .ref ad :: rest)) := by
  subst hj; subst hv
  exact va_zald hexec hb hK hP q0 t0 ha ht hin hdg kk
theorem z_sald {cc : ByteArray} (hexec : p.tables.exec = Jvm.exec) (hb : c.code = cc) {tys : List (ClassId × FieldType)} (hK : va_K D CL tys s) (hP : va_P D CL ws H) (q0 t0 : Nat) {ad : Nat} {cA : ClassId} {n : Nat} {f : Nat → Int32} (ha : ws[q0]? = some (ad, .inl (cA, n, .inl f))) (ht : tys[t0]? = some (cA, .short)) {i v : Int32} {j : Nat} (hin : vp_in i n) (hj : i.toNatClampNeg = j) (hv : f j = v) (hdg : decode cc pc = .ok (.saload, 1))
    (kk : W p l e R s m args below meth c H locs cells slots Q (F0 m (pc + 1) ls (.int v :: rest))) : W p l e R s m args below meth c H locs cells slots Q (F0 m pc ls (.int i :: .ref ad :: rest)) := by
  subst hj; subst hv
  exact va_sald hexec hb hK hP q0 t0 ha ht hin hdg kk
theorem z_lald {cc : ByteArray} (hexec : p.tables.exec = Jvm.exec) (hb : c.code = cc) {tys : List (ClassId × FieldType)} (hK : va_K D CL tys s) (hP : va_P D CL ws H) (q0 t0 : Nat) {ad : Nat} {cA : ClassId} {n : Nat} {f : Nat → Int64} (ha : ws[q0]? = some (ad, .inl (cA, n, .inr (.inl f)))) (ht : tys[t0]? = some (cA, .long)) {i : Int32} {v : Int64} {j : Nat} (hin : vp_in i n) (hj : i.toNatClampNeg = j) (hv : f j = v) (hdg : decode cc pc = .ok (.laload, 1))
    (kk : W p l e R s m args below meth c H locs cells slots Q (F0 m (pc + 1) ls (.long v :: rest))) : W p l e R s m args below meth c H locs cells slots Q (F0 m pc ls (.int i :: .ref ad :: rest)) := by
  subst hj; subst hv
  exact va_lald hexec hb hK hP q0 t0 ha ht hin hdg kk
/-- ends -/
theorem z_ireti {S : Type} {post : Int32 → S → Prop} {wf : S → va_W} {cc : ByteArray} {v : Int32} {ty : FieldType} (u : S) (hexec : p.tables.exec = Jvm.exec) (hb : c.code = cc) (hr : meth.sig.returnType = some ty) (hlocks : meth.locks = false) (hn : narrow ty (.int v) = .int v) (hW : zW D A s.heap H locs ws) (hwf : ws = wf u) (hdg : decode cc pc = .ok (.ireturn, 1)) (hpost : post v u) : W p l e R s m args below meth c H locs cells slots (MQ below (va_Qi post (zB D wf A) A) args s cells slots A) (F0 m pc ls [.int v]) := by
  subst hwf
  exact W.zret hexec hb hr hn (fun t ht _ => ⟨⟨v, u, rfl, hpost, by rw [ht]; exact hW.1, hW.2.1⟩, hW.2.2.F ht⟩) hW.2.2.2.2 hdg hlocks
theorem z_lret {S : Type} {post : Int64 → S → Prop} {wf : S → va_W} {cc : ByteArray} {v : Int64} (u : S) (hexec : p.tables.exec = Jvm.exec) (hb : c.code = cc) (hr : meth.sig.returnType = some .long) (hlocks : meth.locks = false) (hW : zW D A s.heap H locs ws) (hwf : ws = wf u) (hdg : decode cc pc = .ok (.lreturn, 1)) (hpost : post v u) : W p l e R s m args below meth c H locs cells slots (MQ below (va_Ql post (zB D wf A) A) args s cells slots A) (F0 m pc ls [.long v]) := by
  subst hwf
  exact W.lret hexec hb hr (fun t ht _ => ⟨⟨v, u, rfl, hpost, by rw [ht]; exact hW.1, hW.2.1⟩, hW.2.2.F ht⟩) hW.2.2.2.2 hdg hlocks
theorem z_vret {S : Type} {post : S → Prop} {wf : S → va_W} {cc : ByteArray} (u : S) (hexec : p.tables.exec = Jvm.exec) (hb : c.code = cc) (hr : meth.sig.returnType = none) (hlocks : meth.locks = false) (hW : zW D A s.heap H locs ws) (hwf : ws = wf u) (hdg : decode cc pc = .ok (.return_, 1)) (hpost : post u) : W p l e R s m args below meth c H locs cells slots (MQ below (va_Qv post (zB D wf A) A) args s cells slots A) (F0 m pc ls []) := by
  subst hwf
  exact W.vret hexec hb hr (fun t ht _ => ⟨⟨u, rfl, hpost, by rw [ht]; exact hW.1, hW.2.1⟩, hW.2.2.F ht⟩) hW.2.2.2.2 hdg hlocks
theorem z_qret {S : Type} {post : Option Nat → S → Prop} {wf : S → va_W} {cc : ByteArray} {v : Option Nat} {rt : FieldType} (u : S) (hexec : p.tables.exec = Jvm.exec) (hb : c.code = cc) (hr : meth.sig.returnType = some rt) (hrt : (∃ n, rt = .object n) ∨ ∃ t, rt = .array t) (hlocks : meth.locks = false) (hW : zW D A s.heap H locs ws) (hwf : ws = wf u) (hdg : decode cc pc = .ok (.areturn, 1)) (hpost : post v u) : W p l e R s m args below meth c H locs cells slots (MQ below (va_Qq post (zB D wf A) A) args s cells slots A) (F0 m pc ls [va_rf v]) := by
  subst hwf
  exact W.aret hexec hb hr hrt (va_rf_or v) (fun t ht _ => ⟨⟨v, u, rfl, hpost, by rw [ht]; exact hW.1, hW.2.1⟩, hW.2.2.F ht⟩) hW.2.2.2.2 hdg hlocks
end ZCALL
/-! small things -/
noncomputable def zb (P : Prop) : Int32 := @ite Int32 P (Classical.propDecidable P) 1 0
theorem zb_t {P : Prop} (h : P) : zb P = 1 := by unfold zb; rw [if_pos h]
theorem zb_f {P : Prop} (h : ¬ P) : zb P = 0 := by unfold zb; rw [if_neg h]
theorem zb_ne {P : Prop} {r : Int32} (e : r = zb P) (h : ¬ r = 0) : P := Classical.byContradiction (fun n => h (by rw [e, zb_f n]))
theorem zb_eq {P : Prop} {r : Int32} (e : r = zb P) (h : r = 0) : ¬ P := fun p => by rw [zb_t p] at e; rw [e] at h; exact absurd h (by decide)
theorem zb_1 {P : Prop} (h : P) : (1 : Int32) = zb P := (zb_t h).symm
theorem zb_0 {P : Prop} (h : ¬ P) : (0 : Int32) = zb P := (zb_f h).symm
theorem zb_congr {P P' : Prop} (h : P ↔ P') : zb P = zb P' := by rw [propext h]
theorem zb_or (P : Prop) : zb P = 0 ∨ zb P = 1 := by
  by_cases h : P
  · exact Or.inr (zb_t h)
  · exact Or.inl (zb_f h)
theorem zb_nar {P : Prop} {r : Int32} (e : r = zb P) : narrow .boolean (.int r) = .int r := by
  subst e
  rcases zb_or P with h | h <;> rw [h] <;> rfl
theorem zb_vnar {P : Prop} {r : Int32} (e : r = zb P) : vp_nar .boolean r = r := by
  subst e
  rcases zb_or P with h | h <;> rw [h] <;> rfl
theorem z_dec (a k : Nat) (h : k ≤ a) : nI a + Int32.ofInt (-(k : Int)) = nI (a - k) := by
  rw [← pk_sub h, Int32.sub_eq_add_neg]
  congr 1
  apply Int32.toInt_inj.mp
  simp [nI, Int32.toInt_neg, Int32.toInt_ofInt, Int32.toInt_ofNat']
theorem z_cat_rf (r : Option Nat) : (va_rf r).category = 1 := by cases r <;> rfl
section ZROW
variable {p : Program} {l : Launch} {e : Env} {R : Room} {s : State} {m : MethodId} {args : Array Value} {below : List Frame} {meth : Method} {c : Code} {H : Heap} {locs : List Loc} {cells slots pc : Nat} {Q : State → Prop} {ls : Array Slot} {rest : List Value}
theorem z_lcmp {cc : ByteArray} (hexec : p.tables.exec = Jvm.exec) (hb : c.code = cc) {x y : Int64} (hdg : decode cc pc = .ok (.lcmp, 1)) (k : ∀ r : Int32, (r = 0 ↔ x = y) → W p l e R s m args below meth c H locs cells slots Q (F0 m (pc + 1) ls (.int r :: rest))) : W p l e R s m args below meth c H locs cells slots Q (F0 m pc ls (.long y :: .long x :: rest)) := by
  refine W.lcmp hexec hb hdg (k _ ?_)
  unfold lg_cmp
  by_cases h1 : x = y
  · subst h1; simp
  · by_cases h2 : y < x
    · simp [h1, h2]
    · simp [h1, h2]
end ZROW
