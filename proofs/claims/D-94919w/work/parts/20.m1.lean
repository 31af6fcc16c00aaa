/-! the model: small methods -/
set_option maxRecDepth 100000
def mw (Y : Nat → ClassId) (ad : Nat → Nat) (g : Nat → Nat → Int32) (w : Nat → Nat → Int64) : va_W := [(ad 0, .inr (11, [.int (g 0 0), .ref (ad 1), .int (g 2 0), .ref (ad 3), .int (g 4 0), .ref (ad 5), .ref (ad 6), .ref (ad 7), .ref (ad 8), .ref (ad 9), .int (g 10 0), .int (g 11 0), .int (g 12 0), .int (g 13 0), .int (g 14 0), .int (g 15 0), .int (g 16 0), .int (g 17 0), .int (g 18 0), .int (g 19 0), .int (g 20 0), .ref (ad 21), .ref (ad 22), .ref (ad 23), .ref (ad 24), .ref (ad 25), .ref (ad 26), .ref (ad 27), .ref (ad 28), .ref (ad 29), .ref (ad 30), .ref (ad 31), .ref (ad 32), .ref (ad 33), .ref (ad 34), .ref (ad 35), .ref (ad 36), .ref (ad 37), .ref (ad 38), .ref (ad 39), .ref (ad 40), .ref (ad 41), .ref (ad 42), .ref (ad 43), .ref (ad 44), .int (g 45 0), .ref (ad 46), .ref (ad 47), .ref (ad 48), .ref (ad 49), .ref (ad 50), .int (g 51 0), .ref (ad 52), .ref (ad 53), .ref (ad 54), .int (g 55 0), .ref (ad 56), .ref (ad 57), .int (g 58 0), .ref (ad 59), .ref (ad 60), .int (g 61 0), .ref (ad 62), .ref (ad 63), .int (g 64 0), .ref (ad 65), .int (g 66 0), .int (g 67 0), .int (g 68 0), .ref (ad 69), .ref (ad 70), .ref (ad 71), .ref (ad 72), .ref (ad 73), .ref (ad 74)])), (ad 1, .inl (Y 1, 2000, .inl (g 1))), (ad 3, .inl (Y 1, 2000, .inl (g 3))), (ad 5, .inl (Y 0, 403, .inl (g 5))), (ad 6, .inl (Y 0, 403, .inl (g 6))), (ad 7, .inl (Y 0, 403, .inl (g 7))), (ad 8, .inl (Y 4, 403, .inr (.inl (w 8)))), (ad 9, .inl (Y 4, 20, .inr (.inl (w 9)))), (ad 21, .inl (Y 4, 20, .inr (.inl (w 21)))), (ad 22, .inl (Y 0, 20, .inl (g 22))), (ad 23, .inl (Y 0, 20, .inl (g 23))), (ad 24, .inl (Y 0, 2, .inl (g 24))), (ad 25, .inl (Y 0, 12, .inl (g 25))), (ad 26, .inl (Y 0, 12, .inl (g 26))), (ad 27, .inl (Y 0, 2, .inl (g 27))), (ad 28, .inl (Y 0, 12, .inl (g 28))), (ad 29, .inl (Y 0, 12, .inl (g 29))), (ad 30, .inl (Y 0, 2, .inl (g 30))), (ad 31, .inl (Y 0, 16, .inl (g 31))), (ad 32, .inl (Y 0, 16, .inl (g 32))), (ad 33, .inl (Y 0, 16, .inl (g 33))), (ad 34, .inl (Y 0, 16, .inl (g 34))), (ad 35, .inl (Y 0, 2, .inl (g 35))), (ad 36, .inl (Y 0, 10, .inl (g 36))), (ad 37, .inl (Y 0, 10, .inl (g 37))), (ad 38, .inl (Y 0, 40, .inl (g 38))), (ad 39, .inl (Y 0, 40, .inl (g 39))), (ad 40, .inl (Y 0, 2, .inl (g 40))), (ad 41, .inl (Y 0, 2, .inl (g 41))), (ad 42, .inl (Y 0, 2, .inl (g 42))), (ad 43, .inl (Y 0, 6, .inl (g 43))), (ad 44, .inl (Y 0, 6, .inl (g 44))), (ad 46, .inl (Y 2, 260, .inl (g 46))), (ad 47, .inl (Y 0, 260, .inl (g 47))), (ad 48, .inl (Y 0, 260, .inl (g 48))), (ad 49, .inl (Y 0, 260, .inl (g 49))), (ad 50, .inl (Y 0, 260, .inl (g 50))), (ad 52, .inl (Y 0, 840, .inl (g 52))), (ad 53, .inl (Y 0, 840, .inl (g 53))), (ad 54, .inl (Y 0, 64, .inl (g 54))), (ad 56, .inl (Y 0, 7, .inl (g 56))), (ad 57, .inl (Y 0, 400, .inl (g 57))), (ad 59, .inl (Y 0, 120, .inl (g 59))), (ad 60, .inl (Y 0, 120, .inl (g 60))), (ad 62, .inl (Y 0, 6, .inl (g 62))), (ad 63, .inl (Y 2, 6, .inl (g 63))), (ad 65, .inl (Y 0, 4800, .inl (g 65))), (ad 69, .inl (Y 0, 20, .inl (g 69))), (ad 70, .inl (Y 0, 20, .inl (g 70))), (ad 71, .inl (Y 0, 20, .inl (g 71))), (ad 72, .inl (Y 0, 20, .inl (g 72))), (ad 73, .inl (Y 2, 3, .inl (g 73))), (ad 74, .inl (Y 0, 360, .inl (g 74)))]
set_option maxHeartbeats 4000000 in
set_option maxRecDepth 100000 in
theorem m_X12_isDigit (l : Launch) (D : va_G) (Y : Nat → ClassId)  (ch : Int32) (sz : Nat) : Met l yX12_isDigit (ws_ yX12_isDigit cX12_isDigit 1 (some .boolean)) ({ frames := 1, cells := 0, slots := 0, locals := 12 }) (zPc D Y [.int ch] sz (wj []) (wj [])) (va_Qi (fun (r : Int32) (u : Unit) => r = zb (¬ ch < 48 ∧ ¬ 57 < ch)) (zB D (fun (u : Unit) => (wj [])) (va_A (wj []) sz)) (va_A (wj []) sz)) 0 0 (va_A (wj []) sz) := by
  refine Met.ofW (cc := cX12_isDigit) (maxL := 1) (ret := (some .boolean)) (by decide) rfl ?_
  intro p e s m args below meth c s₁ B hml hv
  obtain ⟨rfl, hsz, hW, hR, hK, hA⟩ := zEntry hv
  subst hsz
  have hx := B.exec
  have hb := B.bytes
  have hr := B.returns
  have hlocks := B.notSynchronized
  have hts : ∀ w ∈ lw_all, w.before _ s = true := fun w h => atoms_spec (ws := (ws_ yX12_isDigit cX12_isDigit 1 (some .boolean))) B.pre w (List.mem_cons_of_mem _ h)
  have hown : s.vm.findClass RX12 = some m.cls := findClass_of_methodNamed B.named
  generalize hAe : va_A (wj []) s.heap.size = A at hW hR hA ⊢
  have hl := lv_entry ([.int ch]) (n := 1) (Nat.le_of_ble_eq_true rfl)
  rw [lg_entry_eq]
  generalize (lg_sl ([.int ch]) ++ List.replicate (1 - (lg_sl ([.int ch])).length) Slot.unset).toArray = ls at hl ⊢
  have hl : lv_has ls 1 [(0, .int ch)] := hl
  refine lv_iload_n hx hb dX12_isDigit_0 rfl (lv_at hl 0 rfl) ?_
  refine lv_bipush (v := 48) hx hb dX12_isDigit_1 (by decide) ?_
  refine lv_icmp_lt (tgt := 16) hx hb dX12_isDigit_3 (by decide) (fun c_1 => ?_) (fun c_1 => ?_)
  · refine lv_iconst (v := 0) hx hb dX12_isDigit_16 (by decide) ?_
    refine z_ireti (() : Unit) hx hb hr hlocks rfl hW rfl dX12_isDigit_17 ?_
    show 0 = zb (¬ ch < 48 ∧ ¬ 57 < ch)
    exact zb_0 (by first | assumption | trivial | grind)
  · refine lv_iload_n hx hb dX12_isDigit_6 rfl (lv_at hl 0 rfl) ?_
    refine lv_bipush (v := 57) hx hb dX12_isDigit_7 (by decide) ?_
    refine lv_icmp_gt (tgt := 16) hx hb dX12_isDigit_9 (by decide) (fun c_2 => ?_) (fun c_2 => ?_)
    · refine lv_iconst (v := 0) hx hb dX12_isDigit_16 (by decide) ?_
      refine z_ireti (() : Unit) hx hb hr hlocks rfl hW rfl dX12_isDigit_17 ?_
      show 0 = zb (¬ ch < 48 ∧ ¬ 57 < ch)
      exact zb_0 (by first | assumption | trivial | grind)
    · refine lv_iconst (v := 1) hx hb dX12_isDigit_12 (by decide) ?_
      refine lv_goto (tgt := 17) hx hb dX12_isDigit_13 (by decide) ?_
      refine z_ireti (() : Unit) hx hb hr hlocks rfl hW rfl dX12_isDigit_17 ?_
      show 1 = zb (¬ ch < 48 ∧ ¬ 57 < ch)
      exact zb_1 (by first | assumption | trivial | grind)
set_option maxHeartbeats 4000000 in
set_option maxRecDepth 100000 in
theorem m_X12_isLetter (l : Launch) (D : va_G) (Y : Nat → ClassId)  (ch : Int32) (sz : Nat) : Met l yX12_isLetter (ws_ yX12_isLetter cX12_isLetter 1 (some .boolean)) ({ frames := 1, cells := 0, slots := 0, locals := 12 }) (zPc D Y [.int ch] sz (wj []) (wj [])) (va_Qi (fun (r : Int32) (u : Unit) => r = zb (¬ ch < 97 ∧ ¬ 122 < ch)) (zB D (fun (u : Unit) => (wj [])) (va_A (wj []) sz)) (va_A (wj []) sz)) 0 0 (va_A (wj []) sz) := by
  refine Met.ofW (cc := cX12_isLetter) (maxL := 1) (ret := (some .boolean)) (by decide) rfl ?_
  intro p e s m args below meth c s₁ B hml hv
  obtain ⟨rfl, hsz, hW, hR, hK, hA⟩ := zEntry hv
  subst hsz
  have hx := B.exec
  have hb := B.bytes
  have hr := B.returns
  have hlocks := B.notSynchronized
  have hts : ∀ w ∈ lw_all, w.before _ s = true := fun w h => atoms_spec (ws := (ws_ yX12_isLetter cX12_isLetter 1 (some .boolean))) B.pre w (List.mem_cons_of_mem _ h)
  have hown : s.vm.findClass RX12 = some m.cls := findClass_of_methodNamed B.named
  generalize hAe : va_A (wj []) s.heap.size = A at hW hR hA ⊢
  have hl := lv_entry ([.int ch]) (n := 1) (Nat.le_of_ble_eq_true rfl)
  rw [lg_entry_eq]
  generalize (lg_sl ([.int ch]) ++ List.replicate (1 - (lg_sl ([.int ch])).length) Slot.unset).toArray = ls at hl ⊢
  have hl : lv_has ls 1 [(0, .int ch)] := hl
  refine lv_iload_n hx hb dX12_isLetter_0 rfl (lv_at hl 0 rfl) ?_
  refine lv_bipush (v := 97) hx hb dX12_isLetter_1 (by decide) ?_
  refine lv_icmp_lt (tgt := 16) hx hb dX12_isLetter_3 (by decide) (fun c_1 => ?_) (fun c_1 => ?_)
  · refine lv_iconst (v := 0) hx hb dX12_isLetter_16 (by decide) ?_
    refine z_ireti (() : Unit) hx hb hr hlocks rfl hW rfl dX12_isLetter_17 ?_
    show 0 = zb (¬ ch < 97 ∧ ¬ 122 < ch)
    exact zb_0 (by first | assumption | trivial | grind)
  · refine lv_iload_n hx hb dX12_isLetter_6 rfl (lv_at hl 0 rfl) ?_
    refine lv_bipush (v := 122) hx hb dX12_isLetter_7 (by decide) ?_
    refine lv_icmp_gt (tgt := 16) hx hb dX12_isLetter_9 (by decide) (fun c_2 => ?_) (fun c_2 => ?_)
    · refine lv_iconst (v := 0) hx hb dX12_isLetter_16 (by decide) ?_
      refine z_ireti (() : Unit) hx hb hr hlocks rfl hW rfl dX12_isLetter_17 ?_
      show 0 = zb (¬ ch < 97 ∧ ¬ 122 < ch)
      exact zb_0 (by first | assumption | trivial | grind)
    · refine lv_iconst (v := 1) hx hb dX12_isLetter_12 (by decide) ?_
      refine lv_goto (tgt := 17) hx hb dX12_isLetter_13 (by decide) ?_
      refine z_ireti (() : Unit) hx hb hr hlocks rfl hW rfl dX12_isLetter_17 ?_
      show 1 = zb (¬ ch < 97 ∧ ¬ 122 < ch)
      exact zb_1 (by first | assumption | trivial | grind)
set_option maxHeartbeats 4000000 in
set_option maxRecDepth 100000 in
theorem m_X12_in (l : Launch) (D : va_G) (Y : Nat → ClassId)  (v : Int32) (lo : Int32) (hi : Int32) (sz : Nat) : Met l yX12_in (ws_ yX12_in cX12_in 3 (some .boolean)) ({ frames := 1, cells := 0, slots := 0, locals := 12 }) (zPc D Y [.int v, .int lo, .int hi] sz (wj []) (wj [])) (va_Qi (fun (r : Int32) (u : Unit) => r = zb (¬ v < lo ∧ ¬ hi < v)) (zB D (fun (u : Unit) => (wj [])) (va_A (wj []) sz)) (va_A (wj []) sz)) 0 0 (va_A (wj []) sz) := by
  refine Met.ofW (cc := cX12_in) (maxL := 3) (ret := (some .boolean)) (by decide) rfl ?_
  intro p e s m args below meth c s₁ B hml hv
  obtain ⟨rfl, hsz, hW, hR, hK, hA⟩ := zEntry hv
  subst hsz
  have hx := B.exec
  have hb := B.bytes
  have hr := B.returns
  have hlocks := B.notSynchronized
  have hts : ∀ w ∈ lw_all, w.before _ s = true := fun w h => atoms_spec (ws := (ws_ yX12_in cX12_in 3 (some .boolean))) B.pre w (List.mem_cons_of_mem _ h)
  have hown : s.vm.findClass RX12 = some m.cls := findClass_of_methodNamed B.named
  generalize hAe : va_A (wj []) s.heap.size = A at hW hR hA ⊢
  have hl := lv_entry ([.int v, .int lo, .int hi]) (n := 3) (Nat.le_of_ble_eq_true rfl)
  rw [lg_entry_eq]
  generalize (lg_sl ([.int v, .int lo, .int hi]) ++ List.replicate (3 - (lg_sl ([.int v, .int lo, .int hi])).length) Slot.unset).toArray = ls at hl ⊢
  have hl : lv_has ls 3 [(0, .int v), (1, .int lo), (2, .int hi)] := hl
  refine lv_iload_n hx hb dX12_in_0 rfl (lv_at hl 0 rfl) ?_
  refine lv_iload_n hx hb dX12_in_1 rfl (lv_at hl 1 rfl) ?_
  refine lv_icmp_lt (tgt := 14) hx hb dX12_in_2 (by decide) (fun c_1 => ?_) (fun c_1 => ?_)
  · refine lv_iconst (v := 0) hx hb dX12_in_14 (by decide) ?_
    refine z_ireti (() : Unit) hx hb hr hlocks rfl hW rfl dX12_in_15 ?_
    show 0 = zb (¬ v < lo ∧ ¬ hi < v)
    exact zb_0 (by first | assumption | trivial | grind)
  · refine lv_iload_n hx hb dX12_in_5 rfl (lv_at hl 0 rfl) ?_
    refine lv_iload_n hx hb dX12_in_6 rfl (lv_at hl 2 rfl) ?_
    refine lv_icmp_gt (tgt := 14) hx hb dX12_in_7 (by decide) (fun c_2 => ?_) (fun c_2 => ?_)
    · refine lv_iconst (v := 0) hx hb dX12_in_14 (by decide) ?_
      refine z_ireti (() : Unit) hx hb hr hlocks rfl hW rfl dX12_in_15 ?_
      show 0 = zb (¬ v < lo ∧ ¬ hi < v)
      exact zb_0 (by first | assumption | trivial | grind)
    · refine lv_iconst (v := 1) hx hb dX12_in_10 (by decide) ?_
      refine lv_goto (tgt := 15) hx hb dX12_in_11 (by decide) ?_
      refine z_ireti (() : Unit) hx hb hr hlocks rfl hW rfl dX12_in_15 ?_
      show 1 = zb (¬ v < lo ∧ ¬ hi < v)
      exact zb_1 (by first | assumption | trivial | grind)
set_option maxHeartbeats 4000000 in
set_option maxRecDepth 100000 in
theorem m_X12_held (l : Launch) (D : va_G) (Y : Nat → ClassId)  (v : Int32) (lo : Int32) (hi : Int32) (sz : Nat) : Met l yX12_held (ws_ yX12_held cX12_held 3 (some .int)) ({ frames := 1, cells := 0, slots := 0, locals := 12 }) (zPc D Y [.int v, .int lo, .int hi] sz (wj []) (wj [])) (va_Qi (fun (r : Int32) (u : Unit) => r = f_held v lo hi) (zB D (fun (u : Unit) => (wj [])) (va_A (wj []) sz)) (va_A (wj []) sz)) 0 0 (va_A (wj []) sz) := by
  refine Met.ofW (cc := cX12_held) (maxL := 3) (ret := (some .int)) (by decide) rfl ?_
  intro p e s m args below meth c s₁ B hml hv
  obtain ⟨rfl, hsz, hW, hR, hK, hA⟩ := zEntry hv
  subst hsz
  have hx := B.exec
  have hb := B.bytes
  have hr := B.returns
  have hlocks := B.notSynchronized
  have hts : ∀ w ∈ lw_all, w.before _ s = true := fun w h => atoms_spec (ws := (ws_ yX12_held cX12_held 3 (some .int))) B.pre w (List.mem_cons_of_mem _ h)
  have hown : s.vm.findClass RX12 = some m.cls := findClass_of_methodNamed B.named
  generalize hAe : va_A (wj []) s.heap.size = A at hW hR hA ⊢
  have hl := lv_entry ([.int v, .int lo, .int hi]) (n := 3) (Nat.le_of_ble_eq_true rfl)
  rw [lg_entry_eq]
  generalize (lg_sl ([.int v, .int lo, .int hi]) ++ List.replicate (3 - (lg_sl ([.int v, .int lo, .int hi])).length) Slot.unset).toArray = ls at hl ⊢
  have hl : lv_has ls 3 [(0, .int v), (1, .int lo), (2, .int hi)] := hl
  refine lv_iload_n hx hb dX12_held_0 rfl (lv_at hl 0 rfl) ?_
  refine lv_iload_n hx hb dX12_held_1 rfl (lv_at hl 1 rfl) ?_
  refine lv_icmp_ge (tgt := 9) hx hb dX12_held_2 (by decide) (fun c_1 => ?_) (fun c_1 => ?_)
  · refine lv_iload_n hx hb dX12_held_9 rfl (lv_at hl 0 rfl) ?_
    refine lv_iload_n hx hb dX12_held_10 rfl (lv_at hl 2 rfl) ?_
    refine lv_icmp_le (tgt := 18) hx hb dX12_held_11 (by decide) (fun c_2 => ?_) (fun c_2 => ?_)
    · refine lv_iload_n hx hb dX12_held_18 rfl (lv_at hl 0 rfl) ?_
      refine z_ireti (() : Unit) hx hb hr hlocks rfl hW rfl dX12_held_19 ?_
      show v = f_held v lo hi
      simp [f_held, *]
    · refine lv_iload_n hx hb dX12_held_14 rfl (lv_at hl 2 rfl) ?_
      refine lv_goto (tgt := 19) hx hb dX12_held_15 (by decide) ?_
      refine z_ireti (() : Unit) hx hb hr hlocks rfl hW rfl dX12_held_19 ?_
      show hi = f_held v lo hi
      simp [f_held, *]
  · refine lv_iload_n hx hb dX12_held_5 rfl (lv_at hl 1 rfl) ?_
    refine lv_goto (tgt := 19) hx hb dX12_held_6 (by decide) ?_
    refine z_ireti (() : Unit) hx hb hr hlocks rfl hW rfl dX12_held_19 ?_
    show lo = f_held v lo hi
    simp [f_held, *]
set_option maxHeartbeats 4000000 in
set_option maxRecDepth 100000 in
theorem m_X12_mixed (l : Launch) (D : va_G) (Y : Nat → ClassId)  (h : Int32) (v : Int32) (sz : Nat) : Met l yX12_mixed (ws_ yX12_mixed cX12_mixed 3 (some .int)) ({ frames := 1, cells := 0, slots := 0, locals := 12 }) (zPc D Y [.int h, .int v] sz (wj []) (wj [])) (va_Qi (fun (r : Int32) (u : Unit) => r = f_mixed h v) (zB D (fun (u : Unit) => (wj [])) (va_A (wj []) sz)) (va_A (wj []) sz)) 0 0 (va_A (wj []) sz) := by
  refine Met.ofW (cc := cX12_mixed) (maxL := 3) (ret := (some .int)) (by decide) rfl ?_
  intro p e s m args below meth c s₁ B hml hv
  obtain ⟨rfl, hsz, hW, hR, hK, hA⟩ := zEntry hv
  subst hsz
  have hx := B.exec
  have hb := B.bytes
  have hr := B.returns
  have hlocks := B.notSynchronized
  have hts : ∀ w ∈ lw_all, w.before _ s = true := fun w h => atoms_spec (ws := (ws_ yX12_mixed cX12_mixed 3 (some .int))) B.pre w (List.mem_cons_of_mem _ h)
  have hown : s.vm.findClass RX12 = some m.cls := findClass_of_methodNamed B.named
  generalize hAe : va_A (wj []) s.heap.size = A at hW hR hA ⊢
  have hl := lv_entry ([.int h, .int v]) (n := 3) (Nat.le_of_ble_eq_true rfl)
  rw [lg_entry_eq]
  generalize (lg_sl ([.int h, .int v]) ++ List.replicate (3 - (lg_sl ([.int h, .int v])).length) Slot.unset).toArray = ls at hl ⊢
  have hl : lv_has ls 3 [(0, .int h), (1, .int v)] := hl
  refine lv_iload_n hx hb dX12_mixed_0 rfl (lv_at hl 0 rfl) ?_
  refine lv_iload_n hx hb dX12_mixed_1 rfl (lv_at hl 1 rfl) ?_
  refine lv_ixor hx hb dX12_mixed_2 ?_
  refine lv_ldcw (v := 1103515245) hx hb hown (hts _ q2073) dX12_mixed_3 ?_
  refine lv_imul hx hb dX12_mixed_6 ?_
  refine lv_sipush (v := 12345) hx hb dX12_mixed_7 (by decide) ?_
  refine lv_iadd hx hb dX12_mixed_10 ?_
  refine lv_istore_n (lv' := [(2, .int (((h ^^^ v) * 1103515245) + 12345)), (0, .int h), (1, .int v)]) hx hb dX12_mixed_11 rfl hl (by decide) rfl (fun ls hl => ?_)
  refine lv_iload_n hx hb dX12_mixed_12 rfl (lv_at hl 0 rfl) ?_
  refine lv_iload_n hx hb dX12_mixed_13 rfl (lv_at hl 0 rfl) ?_
  refine lv_bipush (v := 15) hx hb dX12_mixed_14 (by decide) ?_
  refine lv_iushr (v := ((((h ^^^ v) * 1103515245) + 12345).toUInt32 >>> ((15 : Int32).toUInt32 &&& Int32.toUInt32 31)).toInt32) hx hb dX12_mixed_16 rfl ?_
  refine lv_ixor hx hb dX12_mixed_17 ?_
  refine z_ireti (() : Unit) hx hb hr hlocks rfl hW rfl dX12_mixed_18 ?_
  show ((((h ^^^ v) * 1103515245) + 12345) ^^^ (((((h ^^^ v) * 1103515245) + 12345).toUInt32 >>> ((15 : Int32).toUInt32 &&& Int32.toUInt32 31)).toInt32)) = f_mixed h v
  first | rfl | trivial | assumption | grind
set_option maxHeartbeats 4000000 in
set_option maxRecDepth 100000 in
theorem m_X12_appends (l : Launch) (D : va_G) (Y : Nat → ClassId)  (na : Int64) (ch : Int32) (sz : Nat) : Met l yX12_appends (ws_ yX12_appends cX12_appends 3 (some .long)) ({ frames := 1, cells := 0, slots := 0, locals := 12 }) (zPc D Y [.long na, .int ch] sz (wj []) (wj [])) (va_Ql (fun (r : Int64) (u : Unit) => r = f_app na ch) (zB D (fun (u : Unit) => (wj [])) (va_A (wj []) sz)) (va_A (wj []) sz)) 0 0 (va_A (wj []) sz) := by
  refine Met.ofW (cc := cX12_appends) (maxL := 3) (ret := (some .long)) (by decide) rfl ?_
  intro p e s m args below meth c s₁ B hml hv
  obtain ⟨rfl, hsz, hW, hR, hK, hA⟩ := zEntry hv
  subst hsz
  have hx := B.exec
  have hb := B.bytes
  have hr := B.returns
  have hlocks := B.notSynchronized
  have hts : ∀ w ∈ lw_all, w.before _ s = true := fun w h => atoms_spec (ws := (ws_ yX12_appends cX12_appends 3 (some .long))) B.pre w (List.mem_cons_of_mem _ h)
  have hown : s.vm.findClass RX12 = some m.cls := findClass_of_methodNamed B.named
  generalize hAe : va_A (wj []) s.heap.size = A at hW hR hA ⊢
  have hl := lv_entry ([.long na, .int ch]) (n := 3) (Nat.le_of_ble_eq_true rfl)
  rw [lg_entry_eq]
  generalize (lg_sl ([.long na, .int ch]) ++ List.replicate (3 - (lg_sl ([.long na, .int ch])).length) Slot.unset).toArray = ls at hl ⊢
  have hl : lv_has ls 3 [(0, .long na), (2, .int ch)] := hl
  refine lv_iload_n hx hb dX12_appends_0 rfl (lv_at hl 1 rfl) ?_
  refine lv_if_ne (tgt := 8) hx hb dX12_appends_1 (by decide) (fun c_1 => ?_) (fun c_1 => ?_)
  · refine lv_ldc2 (v := 27) hx hb hown (hts _ q1624) dX12_appends_8 ?_
    refine lv_lload_n hx hb dX12_appends_11 rfl (lv_at hl 0 rfl) ?_
    refine lv_lmul hx hb dX12_appends_12 ?_
    refine lv_iload_n hx hb dX12_appends_13 rfl (lv_at hl 1 rfl) ?_
    refine lv_bipush (v := 97) hx hb dX12_appends_14 (by decide) ?_
    refine lv_isub hx hb dX12_appends_16 ?_
    refine lv_iconst (v := 1) hx hb dX12_appends_17 (by decide) ?_
    refine lv_iadd hx hb dX12_appends_18 ?_
    refine lv_i2l (v := ((ch - 97) + 1).toInt64) hx hb dX12_appends_19 rfl ?_
    refine lv_ladd hx hb dX12_appends_20 ?_
    refine z_lret (() : Unit) hx hb hr hlocks hW rfl dX12_appends_21 ?_
    show (((27 : Int64) * na) + (((ch - 97) + 1).toInt64)) = f_app na ch
    simp [f_app, *]
  · refine lv_lload_n hx hb dX12_appends_4 rfl (lv_at hl 0 rfl) ?_
    refine lv_goto (tgt := 21) hx hb dX12_appends_5 (by decide) ?_
    refine z_lret (() : Unit) hx hb hr hlocks hW rfl dX12_appends_21 ?_
    show na = f_app na ch
    simp [f_app, *]
set_option maxHeartbeats 4000000 in
set_option maxRecDepth 100000 in
theorem m_X12_is (l : Launch) (D : va_G) (Y : Nat → ClassId) (ad_m : Nat → Nat) (g_m : Nat → Nat → Int32) (w_m : Nat → Nat → Int64) (t : Nat) (k : Int32) (sz : Nat) (ht : t ≤ 400) : Met l yX12_is (ws_ yX12_is cX12_is 2 (some .boolean)) ({ frames := 1, cells := 0, slots := 0, locals := 12 }) (zPc D Y [.ref (ad_m 0), .int k] sz (wj []) (wj [(mw Y ad_m (sA 11 (fun _ => nI t) g_m) w_m)])) (va_Qi (fun (r : Int32) (u : Unit) => r = zb ((g_m 13 0) = 0 ∧ (g_m 5) t = k)) (zB D (fun (u : Unit) => (wj [(mw Y ad_m (sA 11 (fun _ => nI t) g_m) w_m)])) (va_A (wj [(mw Y ad_m (sA 11 (fun _ => nI t) g_m) w_m)]) sz)) (va_A (wj [(mw Y ad_m (sA 11 (fun _ => nI t) g_m) w_m)]) sz)) 0 0 (va_A (wj [(mw Y ad_m (sA 11 (fun _ => nI t) g_m) w_m)]) sz) := by
  refine Met.ofW (cc := cX12_is) (maxL := 2) (ret := (some .boolean)) (by decide) rfl ?_
  intro p e s m args below meth c s₁ B hml hv
  obtain ⟨rfl, hsz, hW, hR, hK, hA⟩ := zEntry hv
  subst hsz
  have hx := B.exec
  have hb := B.bytes
  have hr := B.returns
  have hlocks := B.notSynchronized
  have hts : ∀ w ∈ lw_all, w.before _ s = true := fun w h => atoms_spec (ws := (ws_ yX12_is cX12_is 2 (some .boolean))) B.pre w (List.mem_cons_of_mem _ h)
  have hown : s.vm.findClass RX12 = some m.cls := findClass_of_methodNamed B.named
  generalize hAe : va_A (wj [(mw Y ad_m (sA 11 (fun _ => nI t) g_m) w_m)]) s.heap.size = A at hW hR hA ⊢
  have hl := lv_entry ([.ref (ad_m 0), .int k]) (n := 2) (Nat.le_of_ble_eq_true rfl)
  rw [lg_entry_eq]
  generalize (lg_sl ([.ref (ad_m 0), .int k]) ++ List.replicate (2 - (lg_sl ([.ref (ad_m 0), .int k])).length) Slot.unset).toArray = ls at hl ⊢
  have hl : lv_has ls 2 [(0, .ref (ad_m 0)), (1, .int k)] := hl
  refine lv_aload_n hx hb dX12_is_0 rfl (lv_at hl 0 rfl) ?_
  refine va_get (v := .int (g_m 13 0)) (C := RX12) (T := TX12) (N := 75) (ci := 11) hx hb hts in_X12 hown hK.1 hW.1 0 rfl rfl 13 (by decide) (hts _ q1649) (fun _ h9 => h9) rfl dX12_is_1 ?_
  refine lv_if_ne (tgt := 24) hx hb dX12_is_4 (by decide) (fun c_1 => ?_) (fun c_1 => ?_)
  · refine lv_iconst (v := 0) hx hb dX12_is_24 (by decide) ?_
    refine z_ireti (() : Unit) hx hb hr hlocks rfl hW rfl dX12_is_25 ?_
    show 0 = zb ((g_m 13 0) = 0 ∧ (g_m 5) t = k)
    exact zb_0 (by first | assumption | trivial | grind)
  · refine lv_aload_n hx hb dX12_is_7 rfl (lv_at hl 0 rfl) ?_
    refine va_get (v := .ref (ad_m 5)) (C := RX12) (T := TX12) (N := 75) (ci := 11) hx hb hts in_X12 hown hK.1 hW.1 0 rfl rfl 5 (by decide) (hts _ q1641) (fun _ h9 => h9) rfl dX12_is_8 ?_
    refine lv_aload_n hx hb dX12_is_11 rfl (lv_at hl 0 rfl) ?_
    refine va_get (v := .int (nI t)) (C := RX12) (T := TX12) (N := 75) (ci := 11) hx hb hts in_X12 hown hK.1 hW.1 0 rfl rfl 11 (by decide) (hts _ q1647) (fun _ h9 => h9) rfl dX12_is_12 ?_
    refine z_iald (v := (g_m 5) t) (f := g_m 5) (j := t) hx hb hK.1 hW.1 3 0 rfl rfl (vp_in_nI (n := t) (by omega) (by decide)) (nI_clamp (n := t) (by omega)) rfl dX12_is_15 ?_
    refine lv_iload_n hx hb dX12_is_16 rfl (lv_at hl 1 rfl) ?_
    refine lv_icmp_ne (tgt := 24) hx hb dX12_is_17 (by decide) (fun c_2 => ?_) (fun c_2 => ?_)
    · refine lv_iconst (v := 0) hx hb dX12_is_24 (by decide) ?_
      refine z_ireti (() : Unit) hx hb hr hlocks rfl hW rfl dX12_is_25 ?_
      show 0 = zb ((g_m 13 0) = 0 ∧ (g_m 5) t = k)
      exact zb_0 (by first | assumption | trivial | grind)
    · refine lv_iconst (v := 1) hx hb dX12_is_20 (by decide) ?_
      refine lv_goto (tgt := 25) hx hb dX12_is_21 (by decide) ?_
      refine z_ireti (() : Unit) hx hb hr hlocks rfl hW rfl dX12_is_25 ?_
      show 1 = zb ((g_m 13 0) = 0 ∧ (g_m 5) t = k)
      exact zb_1 (by first | assumption | trivial | grind)
set_option maxHeartbeats 4000000 in
set_option maxRecDepth 100000 in
theorem m_X12_byteAt (l : Launch) (D : va_G) (Y : Nat → ClassId) (ad_m : Nat → Nat) (g_m : Nat → Nat → Int32) (w_m : Nat → Nat → Int64) (i : Nat) (z : Nat) (sz : Nat) (hz : z ≤ 2000) (hi : i < 4000) : Met l yX12_byteAt (ws_ yX12_byteAt cX12_byteAt 2 (some .int)) ({ frames := 1, cells := 0, slots := 0, locals := 12 }) (zPc D Y [.ref (ad_m 0), .int (nI i)] sz (wj []) (wj [(mw Y ad_m (sA 4 (fun _ => nI z) g_m) w_m)])) (va_Qi (fun (r : Int32) (u : Unit) => r = if i < z then (g_m 3) i &&& 255 else 0) (zB D (fun (u : Unit) => (wj [(mw Y ad_m (sA 4 (fun _ => nI z) g_m) w_m)])) (va_A (wj [(mw Y ad_m (sA 4 (fun _ => nI z) g_m) w_m)]) sz)) (va_A (wj [(mw Y ad_m (sA 4 (fun _ => nI z) g_m) w_m)]) sz)) 0 0 (va_A (wj [(mw Y ad_m (sA 4 (fun _ => nI z) g_m) w_m)]) sz) := by
  refine Met.ofW (cc := cX12_byteAt) (maxL := 2) (ret := (some .int)) (by decide) rfl ?_
  intro p e s m args below meth c s₁ B hml hv
  obtain ⟨rfl, hsz, hW, hR, hK, hA⟩ := zEntry hv
  subst hsz
  have hx := B.exec
  have hb := B.bytes
  have hr := B.returns
  have hlocks := B.notSynchronized
  have hts : ∀ w ∈ lw_all, w.before _ s = true := fun w h => atoms_spec (ws := (ws_ yX12_byteAt cX12_byteAt 2 (some .int))) B.pre w (List.mem_cons_of_mem _ h)
  have hown : s.vm.findClass RX12 = some m.cls := findClass_of_methodNamed B.named
  generalize hAe : va_A (wj [(mw Y ad_m (sA 4 (fun _ => nI z) g_m) w_m)]) s.heap.size = A at hW hR hA ⊢
  have hl := lv_entry ([.ref (ad_m 0), .int (nI i)]) (n := 2) (Nat.le_of_ble_eq_true rfl)
  rw [lg_entry_eq]
  generalize (lg_sl ([.ref (ad_m 0), .int (nI i)]) ++ List.replicate (2 - (lg_sl ([.ref (ad_m 0), .int (nI i)])).length) Slot.unset).toArray = ls at hl ⊢
  have hl : lv_has ls 2 [(0, .ref (ad_m 0)), (1, .int (nI i))] := hl
  refine lv_iload_n hx hb dX12_byteAt_0 rfl (lv_at hl 1 rfl) ?_
  refine lv_aload_n hx hb dX12_byteAt_1 rfl (lv_at hl 0 rfl) ?_
  refine va_get (v := .int (nI z)) (C := RX12) (T := TX12) (N := 75) (ci := 11) hx hb hts in_X12 hown hK.1 hW.1 0 rfl rfl 4 (by decide) (hts _ q1640) (fun _ h9 => h9) rfl dX12_byteAt_2 ?_
  refine lv_icmp_ge (tgt := 21) hx hb dX12_byteAt_5 (by decide) (fun c_1 => ?_) (fun c_1 => ?_)
  · have c_1 : z ≤ i := (nI_leI (a := z) (b := i) (by omega) (by omega)).mp c_1
    refine lv_iconst (v := 0) hx hb dX12_byteAt_21 (by decide) ?_
    refine z_ireti (() : Unit) hx hb hr hlocks rfl hW rfl dX12_byteAt_22 ?_
    show 0 = if i < z then (g_m 3) i &&& 255 else 0
    split <;> first | rfl | omega
  · have c_1 : ¬ (z ≤ i) := fun hz_ => c_1 ((nI_leI (a := z) (b := i) (by omega) (by omega)).mpr hz_)
    refine lv_aload_n hx hb dX12_byteAt_8 rfl (lv_at hl 0 rfl) ?_
    refine va_get (v := .ref (ad_m 3)) (C := RX12) (T := TX12) (N := 75) (ci := 11) hx hb hts in_X12 hown hK.1 hW.1 0 rfl rfl 3 (by decide) (hts _ q1639) (fun _ h9 => h9) rfl dX12_byteAt_9 ?_
    refine lv_iload_n hx hb dX12_byteAt_12 rfl (lv_at hl 1 rfl) ?_
    refine z_bald (v := (g_m 3) i) (f := g_m 3) (j := i) hx hb hK.1 hW.1 2 1 rfl rfl (vp_in_nI (n := i) (by omega) (by decide)) (nI_clamp (n := i) (by omega)) rfl dX12_byteAt_13 ?_
    refine lv_sipush (v := 255) hx hb dX12_byteAt_14 (by decide) ?_
    refine lv_iand hx hb dX12_byteAt_17 ?_
    refine lv_goto (tgt := 22) hx hb dX12_byteAt_18 (by decide) ?_
    refine z_ireti (() : Unit) hx hb hr hlocks rfl hW rfl dX12_byteAt_22 ?_
    show (((g_m 3) i) &&& 255) = if i < z then (g_m 3) i &&& 255 else 0
    split <;> first | rfl | omega
set_option maxHeartbeats 4000000 in
set_option maxRecDepth 100000 in
theorem m_X12_token (l : Launch) (D : va_G) (Y : Nat → ClassId) (ad_m : Nat → Nat) (g_m : Nat → Nat → Int32) (w_m : Nat → Nat → Int64) (tk : Nat) (kind : Int32) (wh : Int32) (va : Int32) (na : Int64) (sz : Nat) (ht : tk ≤ 401) : Met l yX12_token (ws_ yX12_token cX12_token 6 none) ({ frames := 1, cells := 0, slots := 0, locals := 12 }) (zPc D Y [.ref (ad_m 0), .int kind, .int wh, .int va, .long na] sz (wj []) (wj [(mw Y ad_m (sA 10 (fun _ => nI tk) g_m) w_m)])) (va_Qv (fun (u : (Nat → Int32) × (Nat → Int32) × (Nat → Int32) × (Nat → Int64) × (Nat)) => u.1 = upd (g_m 5) tk kind ∧ u.2.1 = upd (g_m 6) tk wh ∧ u.2.2.1 = upd (g_m 7) tk va ∧ u.2.2.2.1 = vp_updL (w_m 8) tk na ∧ u.2.2.2.2 = tk + 1) (zB D (fun (u : (Nat → Int32) × (Nat → Int32) × (Nat → Int32) × (Nat → Int64) × (Nat)) => (wj [(mw Y ad_m (sA 10 (fun _ => nI u.2.2.2.2) (sA 7 u.2.2.1 (sA 6 u.2.1 (sA 5 u.1 g_m)))) (sA 8 u.2.2.2.1 w_m))])) (va_A (wj [(mw Y ad_m (sA 10 (fun _ => nI tk) g_m) w_m)]) sz)) (va_A (wj [(mw Y ad_m (sA 10 (fun _ => nI tk) g_m) w_m)]) sz)) 0 0 (va_A (wj [(mw Y ad_m (sA 10 (fun _ => nI tk) g_m) w_m)]) sz) := by
  refine Met.ofW (cc := cX12_token) (maxL := 6) (ret := none) (by decide) rfl ?_
  intro p e s m args below meth c s₁ B hml hv
  obtain ⟨rfl, hsz, hW, hR, hK, hA⟩ := zEntry hv
  subst hsz
  have hx := B.exec
  have hb := B.bytes
  have hr := B.returns
  have hlocks := B.notSynchronized
  have hts : ∀ w ∈ lw_all, w.before _ s = true := fun w h => atoms_spec (ws := (ws_ yX12_token cX12_token 6 none)) B.pre w (List.mem_cons_of_mem _ h)
  have hown : s.vm.findClass RX12 = some m.cls := findClass_of_methodNamed B.named
  generalize hAe : va_A (wj [(mw Y ad_m (sA 10 (fun _ => nI tk) g_m) w_m)]) s.heap.size = A at hW hR hA ⊢
  have hl := lv_entry ([.ref (ad_m 0), .int kind, .int wh, .int va, .long na]) (n := 6) (Nat.le_of_ble_eq_true rfl)
  rw [lg_entry_eq]
  generalize (lg_sl ([.ref (ad_m 0), .int kind, .int wh, .int va, .long na]) ++ List.replicate (6 - (lg_sl ([.ref (ad_m 0), .int kind, .int wh, .int va, .long na])).length) Slot.unset).toArray = ls at hl ⊢
  have hl : lv_has ls 6 [(0, .ref (ad_m 0)), (1, .int kind), (2, .int wh), (3, .int va), (4, .long na)] := hl
  refine lv_aload_n hx hb dX12_token_0 rfl (lv_at hl 0 rfl) ?_
  refine va_get (v := .ref (ad_m 5)) (C := RX12) (T := TX12) (N := 75) (ci := 11) hx hb hts in_X12 hown hK.1 hW.1 0 rfl rfl 5 (by decide) (hts _ q1641) (fun _ h9 => h9) rfl dX12_token_1 ?_
  refine lv_aload_n hx hb dX12_token_4 rfl (lv_at hl 0 rfl) ?_
  refine va_get (v := .int (nI tk)) (C := RX12) (T := TX12) (N := 75) (ci := 11) hx hb hts in_X12 hown hK.1 hW.1 0 rfl rfl 10 (by decide) (hts _ q1646) (fun _ h9 => h9) rfl dX12_token_5 ?_
  refine lv_iload_n hx hb dX12_token_8 rfl (lv_at hl 1 rfl) ?_
  refine z_iast (x := kind) (f := g_m 5) (j := tk) (wn := (wj [(mw Y ad_m (sA 10 (fun _ => nI tk) (sA 5 (upd (g_m 5) tk kind) g_m)) w_m)])) hx hb hK.1 hW 3 0 rfl rfl (vp_in_nI (n := tk) (by omega) (by decide)) (nI_clamp (n := tk) (by omega)) dX12_token_9 rfl (fun H locs hW => ?_)
  refine lv_aload_n hx hb dX12_token_10 rfl (lv_at hl 0 rfl) ?_
  refine va_get (v := .ref (ad_m 6)) (C := RX12) (T := TX12) (N := 75) (ci := 11) hx hb hts in_X12 hown hK.1 hW.1 0 rfl rfl 6 (by decide) (hts _ q1642) (fun _ h9 => h9) rfl dX12_token_11 ?_
  refine lv_aload_n hx hb dX12_token_14 rfl (lv_at hl 0 rfl) ?_
  refine va_get (v := .int (nI tk)) (C := RX12) (T := TX12) (N := 75) (ci := 11) hx hb hts in_X12 hown hK.1 hW.1 0 rfl rfl 10 (by decide) (hts _ q1646) (fun _ h9 => h9) rfl dX12_token_15 ?_
  refine lv_iload_n hx hb dX12_token_18 rfl (lv_at hl 2 rfl) ?_
  refine z_iast (x := wh) (f := g_m 6) (j := tk) (wn := (wj [(mw Y ad_m (sA 10 (fun _ => nI tk) (sA 6 (upd (g_m 6) tk wh) (sA 5 (upd (g_m 5) tk kind) g_m))) w_m)])) hx hb hK.1 hW 4 0 rfl rfl (vp_in_nI (n := tk) (by omega) (by decide)) (nI_clamp (n := tk) (by omega)) dX12_token_19 rfl (fun H locs hW => ?_)
  refine lv_aload_n hx hb dX12_token_20 rfl (lv_at hl 0 rfl) ?_
  refine va_get (v := .ref (ad_m 7)) (C := RX12) (T := TX12) (N := 75) (ci := 11) hx hb hts in_X12 hown hK.1 hW.1 0 rfl rfl 7 (by decide) (hts _ q1643) (fun _ h9 => h9) rfl dX12_token_21 ?_
  refine lv_aload_n hx hb dX12_token_24 rfl (lv_at hl 0 rfl) ?_
  refine va_get (v := .int (nI tk)) (C := RX12) (T := TX12) (N := 75) (ci := 11) hx hb hts in_X12 hown hK.1 hW.1 0 rfl rfl 10 (by decide) (hts _ q1646) (fun _ h9 => h9) rfl dX12_token_25 ?_
  refine lv_iload_n hx hb dX12_token_28 rfl (lv_at hl 3 rfl) ?_
  refine z_iast (x := va) (f := g_m 7) (j := tk) (wn := (wj [(mw Y ad_m (sA 10 (fun _ => nI tk) (sA 7 (upd (g_m 7) tk va) (sA 6 (upd (g_m 6) tk wh) (sA 5 (upd (g_m 5) tk kind) g_m)))) w_m)])) hx hb hK.1 hW 5 0 rfl rfl (vp_in_nI (n := tk) (by omega) (by decide)) (nI_clamp (n := tk) (by omega)) dX12_token_29 rfl (fun H locs hW => ?_)
  refine lv_aload_n hx hb dX12_token_30 rfl (lv_at hl 0 rfl) ?_
  refine va_get (v := .ref (ad_m 8)) (C := RX12) (T := TX12) (N := 75) (ci := 11) hx hb hts in_X12 hown hK.1 hW.1 0 rfl rfl 8 (by decide) (hts _ q1644) (fun _ h9 => h9) rfl dX12_token_31 ?_
  refine lv_aload_n hx hb dX12_token_34 rfl (lv_at hl 0 rfl) ?_
  refine va_get (v := .int (nI tk)) (C := RX12) (T := TX12) (N := 75) (ci := 11) hx hb hts in_X12 hown hK.1 hW.1 0 rfl rfl 10 (by decide) (hts _ q1646) (fun _ h9 => h9) rfl dX12_token_35 ?_
  refine lv_lload hx hb dX12_token_38 (lv_at hl 4 rfl) ?_
  refine z_last (x := na) (f := w_m 8) (j := tk) (wn := (wj [(mw Y ad_m (sA 10 (fun _ => nI tk) (sA 7 (upd (g_m 7) tk va) (sA 6 (upd (g_m 6) tk wh) (sA 5 (upd (g_m 5) tk kind) g_m)))) (sA 8 (vp_updL (w_m 8) tk na) w_m))])) hx hb hK.1 hW 6 4 rfl rfl (vp_in_nI (n := tk) (by omega) (by decide)) (nI_clamp (n := tk) (by omega)) dX12_token_40 rfl (fun H locs hW => ?_)
  refine lv_aload_n hx hb dX12_token_41 rfl (lv_at hl 0 rfl) ?_
  refine lv_dup hx hb dX12_token_42 rfl ?_
  refine va_get (v := .int (nI tk)) (C := RX12) (T := TX12) (N := 75) (ci := 11) hx hb hts in_X12 hown hK.1 hW.1 0 rfl rfl 10 (by decide) (hts _ q1646) (fun _ h9 => h9) rfl dX12_token_43 ?_
  refine lv_iconst (v := 1) hx hb dX12_token_46 (by decide) ?_
  refine lv_iadd hx hb dX12_token_47 ?_
  refine lv_topi (nm_r (e' := nI (tk + 1)) (nI_add tk 1) ?_)
  refine z_put (v := .int (nI (tk + 1))) (C := RX12) (T := TX12) (N := 75) (ci := 11) (wn := (wj [(mw Y ad_m (sA 10 (fun _ => nI (tk + 1)) (sA 7 (upd (g_m 7) tk va) (sA 6 (upd (g_m 6) tk wh) (sA 5 (upd (g_m 5) tk kind) g_m)))) (sA 8 (vp_updL (w_m 8) tk na) w_m))])) hx hb hts in_X12 tyX12 tyX12_ok nmX12 hown hK.1 hW 0 rfl rfl 10 (by decide) (hts _ q1646) (fun _ h9 => h9) rfl rfl rfl (Nat.le_of_ble_eq_true rfl) dX12_token_48 rfl (fun H locs hW => ?_)
  refine z_vret ((upd (g_m 5) tk kind, upd (g_m 6) tk wh, upd (g_m 7) tk va, vp_updL (w_m 8) tk na, tk + 1) : (Nat → Int32) × (Nat → Int32) × (Nat → Int32) × (Nat → Int64) × (Nat)) hx hb hr hlocks hW rfl dX12_token_51 ?_
  show (upd (g_m 5) tk kind) = upd (g_m 5) tk kind ∧ (upd (g_m 6) tk wh) = upd (g_m 6) tk wh ∧ (upd (g_m 7) tk va) = upd (g_m 7) tk va ∧ (vp_updL (w_m 8) tk na) = vp_updL (w_m 8) tk na ∧ (tk + 1) = tk + 1
  exact ⟨rfl, rfl, rfl, rfl, rfl⟩
set_option maxHeartbeats 4000000 in
set_option maxRecDepth 100000 in
theorem m_X12_keepsRow (l : Launch) (D : va_G) (Y : Nat → ClassId) (ad_m : Nat → Nat) (g_m : Nat → Nat → Int32) (w_m : Nat → Nat → Int64) (sz : Nat) : Met l yX12_keepsRow (ws_ yX12_keepsRow cX12_keepsRow 2 none) ({ frames := 1, cells := 0, slots := 0, locals := 12 }) (zPc D Y [.ref (ad_m 0)] sz (wj []) (wj [(mw Y ad_m g_m w_m)])) (va_Qv (fun (u : (Nat → Int32)) => ∀ j, j < 120 → u j = (g_m 60) j) (zB D (fun (u : (Nat → Int32)) => (wj [(mw Y ad_m (sA 59 u g_m) w_m)])) (va_A (wj [(mw Y ad_m g_m w_m)]) sz)) (va_A (wj [(mw Y ad_m g_m w_m)]) sz)) 0 0 (va_A (wj [(mw Y ad_m g_m w_m)]) sz) := by
  refine Met.ofW (cc := cX12_keepsRow) (maxL := 2) (ret := none) (by decide) rfl ?_
  intro p e s m args below meth c s₁ B hml hv
  obtain ⟨rfl, hsz, hW, hR, hK, hA⟩ := zEntry hv
  subst hsz
  have hx := B.exec
  have hb := B.bytes
  have hr := B.returns
  have hlocks := B.notSynchronized
  have hts : ∀ w ∈ lw_all, w.before _ s = true := fun w h => atoms_spec (ws := (ws_ yX12_keepsRow cX12_keepsRow 2 none)) B.pre w (List.mem_cons_of_mem _ h)
  have hown : s.vm.findClass RX12 = some m.cls := findClass_of_methodNamed B.named
  generalize hAe : va_A (wj [(mw Y ad_m g_m w_m)]) s.heap.size = A at hW hR hA ⊢
  have hl := lv_entry ([.ref (ad_m 0)]) (n := 2) (Nat.le_of_ble_eq_true rfl)
  rw [lg_entry_eq]
  generalize (lg_sl ([.ref (ad_m 0)]) ++ List.replicate (2 - (lg_sl ([.ref (ad_m 0)])).length) Slot.unset).toArray = ls at hl ⊢
  have hl : lv_has ls 2 [(0, .ref (ad_m 0))] := hl
  refine lv_iconst (v := 0) hx hb dX12_keepsRow_0 (by decide) ?_
  refine lv_istore_n (lv' := [(1, .int 0), (0, .ref (ad_m 0))]) hx hb dX12_keepsRow_1 rfl hl (by decide) rfl (fun ls hl => ?_)
  have loop_2 : ∀ (n : Nat) (k : Nat) (x_now_2 : Nat → Int32), 120 - k < n → (k ≤ 120) → (∀ j, j < k → x_now_2 j = (g_m 60) j) → ∀ (H : Heap) (locs : List Loc), zW D A s.heap H locs (wj [(mw Y ad_m (sA 59 x_now_2 g_m) w_m)]) → ∀ (ls : Array Slot), lv_has ls 2 [(1, .int (nI k)), (0, .ref (ad_m 0))] → W p l e (headSpec (ws_ yX12_keepsRow cX12_keepsRow 2 none) ({ frames := 1, cells := 0, slots := 0, locals := 12 })).room s m ([.ref (ad_m 0)] : List Value).toArray below meth c H locs 0 0 (MQ below (va_Qv (fun (u : (Nat → Int32)) => ∀ j, j < 120 → u j = (g_m 60) j) (zB D (fun (u : (Nat → Int32)) => (wj [(mw Y ad_m (sA 59 u g_m) w_m)])) A) A) ([.ref (ad_m 0)] : List Value).toArray s 0 0 A) (F0 m 2 ls []) := by
    intro n
    induction n with
    | zero =>
      intro k x_now_2 hmz
      exact absurd hmz (Nat.not_lt_zero _)
    | succ n ih =>
      intro k x_now_2 hm_2 hi1 hi2 H locs hW ls hl
      have ih_2 := ih
      clear ih
      refine lv_iload_n hx hb dX12_keepsRow_2 rfl (lv_at hl 0 rfl) ?_
      refine lv_bipush (v := 120) hx hb dX12_keepsRow_3 (by decide) ?_
      refine lv_icmp_ge (tgt := 26) hx hb dX12_keepsRow_5 (by decide) (fun c_1 => ?_) (fun c_1 => ?_)
      · have c_1 : 120 ≤ k := (nI_leI (a := 120) (b := k) (by omega) (by omega)).mp c_1
        refine z_vret (x_now_2 : (Nat → Int32)) hx hb hr hlocks hW rfl dX12_keepsRow_26 ?_
        show ∀ j, j < 120 → x_now_2 j = (g_m 60) j
        intro j hj; exact hi2 j (by omega)
      · have c_1 : ¬ (120 ≤ k) := fun hz_ => c_1 ((nI_leI (a := 120) (b := k) (by omega) (by omega)).mpr hz_)
        refine lv_aload_n hx hb dX12_keepsRow_8 rfl (lv_at hl 1 rfl) ?_
        refine va_get (v := .ref (ad_m 59)) (C := RX12) (T := TX12) (N := 75) (ci := 11) hx hb hts in_X12 hown hK.1 hW.1 0 rfl rfl 59 (by decide) (hts _ q1695) (fun _ h9 => h9) rfl dX12_keepsRow_9 ?_
        refine lv_iload_n hx hb dX12_keepsRow_12 rfl (lv_at hl 0 rfl) ?_
        refine lv_aload_n hx hb dX12_keepsRow_13 rfl (lv_at hl 1 rfl) ?_
        refine va_get (v := .ref (ad_m 60)) (C := RX12) (T := TX12) (N := 75) (ci := 11) hx hb hts in_X12 hown hK.1 hW.1 0 rfl rfl 60 (by decide) (hts _ q1696) (fun _ h9 => h9) rfl dX12_keepsRow_14 ?_
        refine lv_iload_n hx hb dX12_keepsRow_17 rfl (lv_at hl 0 rfl) ?_
        refine z_iald (v := (g_m 60) k) (f := g_m 60) (j := k) hx hb hK.1 hW.1 43 0 rfl rfl (vp_in_nI (n := k) (by omega) (by decide)) (nI_clamp (n := k) (by omega)) rfl dX12_keepsRow_18 ?_
        refine z_iast (x := (g_m 60) k) (f := x_now_2) (j := k) (wn := (wj [(mw Y ad_m (sA 59 (upd x_now_2 k ((g_m 60) k)) g_m) w_m)])) hx hb hK.1 hW 42 0 rfl rfl (vp_in_nI (n := k) (by omega) (by decide)) (nI_clamp (n := k) (by omega)) dX12_keepsRow_19 rfl (fun H locs hW => ?_)
        refine lv_iinc (v := nI (k + 1)) (lv' := [(1, .int (nI (k + 1))), (0, .ref (ad_m 0))]) hx hb dX12_keepsRow_20 hl (k := 0) rfl (nI_add k 1) (by decide) rfl (fun ls hl => ?_)
        refine lv_goto (tgt := 2) hx hb dX12_keepsRow_23 (by decide) ?_
        exact ih_2 (k + 1) (upd x_now_2 k ((g_m 60) k)) (by omega) (by first | assumption | omega | grind) (by intro j hj; unfold upd; split <;> grind) _ _ hW _ (lv_sub hl [0, 1] rfl)
  exact loop_2 _ 0 (g_m 59) (Nat.lt_succ_self _) (by first | assumption | omega | grind) (by intro j hj; omega) _ _ hW _ (lv_sub hl [0, 1] rfl)
