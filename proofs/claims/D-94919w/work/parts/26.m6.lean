/-! the model: questions within -/
set_option maxRecDepth 100000
set_option maxHeartbeats 4000000 in
set_option maxRecDepth 100000 in
theorem m_X12_isGrain (l : Launch) (D : va_G) (Y : Nat → ClassId) (ad_m : Nat → Nat) (g_m : Nat → Nat → Int32) (w_m : Nat → Nat → Int64) (lv : Nat) (cn : Nat → Nat) (t : tab) (lw : Nat → Option LAW) (gx : Int32) (sz : Nat) (hlv : lv < 2) (hTW : TW cn t lw) (hTM : TM lv cn t lw g_m) : Met l yX12_isGrain (ws_ yX12_isGrain cX12_isGrain 2 (some .boolean)) ({ frames := 2, cells := 0, slots := 0, locals := 34 }) (zPc D Y [.ref (ad_m 0), .int gx] sz (wj []) (wj [(mw Y ad_m (sA 18 (fun _ => nI lv) g_m) w_m)])) (va_Qi (fun (r : Int32) (u : Unit) => r = zb (vp_in gx (cn 0))) (zB D (fun (u : Unit) => (wj [(mw Y ad_m (sA 18 (fun _ => nI lv) g_m) w_m)])) (va_A (wj [(mw Y ad_m (sA 18 (fun _ => nI lv) g_m) w_m)]) sz)) (va_A (wj [(mw Y ad_m (sA 18 (fun _ => nI lv) g_m) w_m)]) sz)) 0 0 (va_A (wj [(mw Y ad_m (sA 18 (fun _ => nI lv) g_m) w_m)]) sz) := by
  refine Met.ofW (cc := cX12_isGrain) (maxL := 2) (ret := (some .boolean)) (by decide) rfl ?_
  intro p e s m args below meth c s₁ B hml hv
  obtain ⟨rfl, hsz, hW, hR, hK, hA⟩ := zEntry hv
  subst hsz
  have hx := B.exec
  have hb := B.bytes
  have hr := B.returns
  have hlocks := B.notSynchronized
  have hts : ∀ w ∈ lw_all, w.before _ s = true := fun w h => atoms_spec (ws := (ws_ yX12_isGrain cX12_isGrain 2 (some .boolean))) B.pre w (List.mem_cons_of_mem _ h)
  have hown : s.vm.findClass RX12 = some m.cls := findClass_of_methodNamed B.named
  generalize hAe : va_A (wj [(mw Y ad_m (sA 18 (fun _ => nI lv) g_m) w_m)]) s.heap.size = A at hW hR hA ⊢
  have hl := lv_entry ([.ref (ad_m 0), .int gx]) (n := 2) (Nat.le_of_ble_eq_true rfl)
  rw [lg_entry_eq]
  generalize (lg_sl ([.ref (ad_m 0), .int gx]) ++ List.replicate (2 - (lg_sl ([.ref (ad_m 0), .int gx])).length) Slot.unset).toArray = ls at hl ⊢
  have hl : lv_has ls 2 [(0, .ref (ad_m 0)), (1, .int gx)] := hl
  have hk8 := hTW.n2
  have hk6 := hTW.n1
  have hk60 := hTW.n0
  have hk5 := hTW.n3
  refine lv_iload_n hx hb dX12_isGrain_0 rfl (lv_at hl 1 rfl) ?_
  refine lv_iconst (v := 0) hx hb dX12_isGrain_1 (by decide) ?_
  refine lv_aload_n hx hb dX12_isGrain_2 rfl (lv_at hl 0 rfl) ?_
  refine va_get (v := .ref (ad_m 24)) (C := RX12) (T := TX12) (N := 75) (ci := 11) hx hb hts in_X12 hown hK.1 hW.1 0 rfl rfl 24 (by decide) (hts _ q1660) (fun _ h9 => h9) rfl dX12_isGrain_3 ?_
  refine lv_aload_n hx hb dX12_isGrain_6 rfl (lv_at hl 0 rfl) ?_
  refine va_get (v := .int (nI lv)) (C := RX12) (T := TX12) (N := 75) (ci := 11) hx hb hts in_X12 hown hK.1 hW.1 0 rfl rfl 18 (by decide) (hts _ q1654) (fun _ h9 => h9) rfl dX12_isGrain_7 ?_
  refine z_iald (v := nI (cn 0)) (f := g_m 24) (j := lv) hx hb hK.1 hW.1 11 0 rfl rfl (vp_in_nI (n := lv) (by omega) (by decide)) (nI_clamp (n := lv) (by omega)) (TM.c24 hTM) dX12_isGrain_10 ?_
  refine lv_iconst (v := 1) hx hb dX12_isGrain_11 (by decide) ?_
  refine lv_isub hx hb dX12_isGrain_12 ?_
  refine z_calli (wc := wj []) (wr := wj [(mw Y ad_m (sA 18 (fun _ => nI lv) g_m) w_m)]) (va_runS (As := [.int gx, .int 0, .int ((nI (cn 0)) - 1)]) (rest := []) ⟨hx, hb, hml, hown, hts⟩ (m_X12_in l D Y gx 0 ((nI (cn 0)) - 1) s.heap.size) (va_cwS 3 hts (lw_S q1997 q1998 q133 q1999) rfl rfl rfl (by decide +kernel) ⟨Nat.le_of_ble_eq_true rfl, Nat.le_of_ble_eq_true rfl⟩) (zPre hK hW hR (wj_split3 (B := [(mw Y ad_m (sA 18 (fun _ => nI lv) g_m) w_m)]) (R := []) (C := []) (O := []) (X := [(mw Y ad_m (sA 18 (fun _ => nI lv) g_m) w_m)]) (List.Perm.refl _))) rfl rfl hl.1 rfl (lv_room (Nat.le_of_ble_eq_true rfl)) dX12_isGrain_13 ⟨Nat.le_refl _, Nat.le_refl _⟩) hW hA (wj_split (B := [(mw Y ad_m (sA 18 (fun _ => nI lv) g_m) w_m)]) (C := []) (R := [(mw Y ad_m (sA 18 (fun _ => nI lv) g_m) w_m)]) (List.Perm.refl _)) (fun r_1 u H locs hp_2 hW => ?_)
  have hp_2 : r_1 = zb (¬ gx < 0 ∧ ¬ ((nI (cn 0)) - 1) < gx) := hp_2
  have hW : zW D A s.heap H locs (wj [(mw Y ad_m (sA 18 (fun _ => nI lv) g_m) w_m)]) := hW.join
  refine z_ireti (() : Unit) hx hb hr hlocks (zb_nar hp_2) hW rfl dX12_isGrain_16 ?_
  show r_1 = zb (vp_in gx (cn 0))
  rw [hp_2]; exact zb_congr (by exact (vp_iff (by omega)).symm)
set_option maxHeartbeats 4000000 in
set_option maxRecDepth 100000 in
theorem m_X12_isHole (l : Launch) (D : va_G) (Y : Nat → ClassId) (ad_m : Nat → Nat) (g_m : Nat → Nat → Int32) (w_m : Nat → Nat → Int64) (lv : Nat) (cn : Nat → Nat) (t : tab) (lw : Nat → Option LAW) (gx : Int32) (sz : Nat) (hlv : lv < 2) (hTW : TW cn t lw) (hTM : TM lv cn t lw g_m) : Met l yX12_isHole (ws_ yX12_isHole cX12_isHole 2 (some .boolean)) ({ frames := 2, cells := 0, slots := 0, locals := 34 }) (zPc D Y [.ref (ad_m 0), .int gx] sz (wj []) (wj [(mw Y ad_m (sA 18 (fun _ => nI lv) g_m) w_m)])) (va_Qi (fun (r : Int32) (u : Unit) => r = zb (vp_in gx (cn 1))) (zB D (fun (u : Unit) => (wj [(mw Y ad_m (sA 18 (fun _ => nI lv) g_m) w_m)])) (va_A (wj [(mw Y ad_m (sA 18 (fun _ => nI lv) g_m) w_m)]) sz)) (va_A (wj [(mw Y ad_m (sA 18 (fun _ => nI lv) g_m) w_m)]) sz)) 0 0 (va_A (wj [(mw Y ad_m (sA 18 (fun _ => nI lv) g_m) w_m)]) sz) := by
  refine Met.ofW (cc := cX12_isHole) (maxL := 2) (ret := (some .boolean)) (by decide) rfl ?_
  intro p e s m args below meth c s₁ B hml hv
  obtain ⟨rfl, hsz, hW, hR, hK, hA⟩ := zEntry hv
  subst hsz
  have hx := B.exec
  have hb := B.bytes
  have hr := B.returns
  have hlocks := B.notSynchronized
  have hts : ∀ w ∈ lw_all, w.before _ s = true := fun w h => atoms_spec (ws := (ws_ yX12_isHole cX12_isHole 2 (some .boolean))) B.pre w (List.mem_cons_of_mem _ h)
  have hown : s.vm.findClass RX12 = some m.cls := findClass_of_methodNamed B.named
  generalize hAe : va_A (wj [(mw Y ad_m (sA 18 (fun _ => nI lv) g_m) w_m)]) s.heap.size = A at hW hR hA ⊢
  have hl := lv_entry ([.ref (ad_m 0), .int gx]) (n := 2) (Nat.le_of_ble_eq_true rfl)
  rw [lg_entry_eq]
  generalize (lg_sl ([.ref (ad_m 0), .int gx]) ++ List.replicate (2 - (lg_sl ([.ref (ad_m 0), .int gx])).length) Slot.unset).toArray = ls at hl ⊢
  have hl : lv_has ls 2 [(0, .ref (ad_m 0)), (1, .int gx)] := hl
  have hk8 := hTW.n2
  have hk6 := hTW.n1
  have hk60 := hTW.n0
  have hk5 := hTW.n3
  refine lv_iload_n hx hb dX12_isHole_0 rfl (lv_at hl 1 rfl) ?_
  refine lv_iconst (v := 0) hx hb dX12_isHole_1 (by decide) ?_
  refine lv_aload_n hx hb dX12_isHole_2 rfl (lv_at hl 0 rfl) ?_
  refine va_get (v := .ref (ad_m 27)) (C := RX12) (T := TX12) (N := 75) (ci := 11) hx hb hts in_X12 hown hK.1 hW.1 0 rfl rfl 27 (by decide) (hts _ q1663) (fun _ h9 => h9) rfl dX12_isHole_3 ?_
  refine lv_aload_n hx hb dX12_isHole_6 rfl (lv_at hl 0 rfl) ?_
  refine va_get (v := .int (nI lv)) (C := RX12) (T := TX12) (N := 75) (ci := 11) hx hb hts in_X12 hown hK.1 hW.1 0 rfl rfl 18 (by decide) (hts _ q1654) (fun _ h9 => h9) rfl dX12_isHole_7 ?_
  refine z_iald (v := nI (cn 1)) (f := g_m 27) (j := lv) hx hb hK.1 hW.1 14 0 rfl rfl (vp_in_nI (n := lv) (by omega) (by decide)) (nI_clamp (n := lv) (by omega)) (TM.c27 hTM) dX12_isHole_10 ?_
  refine lv_iconst (v := 1) hx hb dX12_isHole_11 (by decide) ?_
  refine lv_isub hx hb dX12_isHole_12 ?_
  refine z_calli (wc := wj []) (wr := wj [(mw Y ad_m (sA 18 (fun _ => nI lv) g_m) w_m)]) (va_runS (As := [.int gx, .int 0, .int ((nI (cn 1)) - 1)]) (rest := []) ⟨hx, hb, hml, hown, hts⟩ (m_X12_in l D Y gx 0 ((nI (cn 1)) - 1) s.heap.size) (va_cwS 3 hts (lw_S q1997 q1998 q133 q1999) rfl rfl rfl (by decide +kernel) ⟨Nat.le_of_ble_eq_true rfl, Nat.le_of_ble_eq_true rfl⟩) (zPre hK hW hR (wj_split3 (B := [(mw Y ad_m (sA 18 (fun _ => nI lv) g_m) w_m)]) (R := []) (C := []) (O := []) (X := [(mw Y ad_m (sA 18 (fun _ => nI lv) g_m) w_m)]) (List.Perm.refl _))) rfl rfl hl.1 rfl (lv_room (Nat.le_of_ble_eq_true rfl)) dX12_isHole_13 ⟨Nat.le_refl _, Nat.le_refl _⟩) hW hA (wj_split (B := [(mw Y ad_m (sA 18 (fun _ => nI lv) g_m) w_m)]) (C := []) (R := [(mw Y ad_m (sA 18 (fun _ => nI lv) g_m) w_m)]) (List.Perm.refl _)) (fun r_1 u H locs hp_2 hW => ?_)
  have hp_2 : r_1 = zb (¬ gx < 0 ∧ ¬ ((nI (cn 1)) - 1) < gx) := hp_2
  have hW : zW D A s.heap H locs (wj [(mw Y ad_m (sA 18 (fun _ => nI lv) g_m) w_m)]) := hW.join
  refine z_ireti (() : Unit) hx hb hr hlocks (zb_nar hp_2) hW rfl dX12_isHole_16 ?_
  show r_1 = zb (vp_in gx (cn 1))
  rw [hp_2]; exact zb_congr (by exact (vp_iff (by omega)).symm)
set_option maxHeartbeats 4000000 in
set_option maxRecDepth 100000 in
theorem m_X12_isRat (l : Launch) (D : va_G) (Y : Nat → ClassId) (ad_m : Nat → Nat) (g_m : Nat → Nat → Int32) (w_m : Nat → Nat → Int64) (lv : Nat) (cn : Nat → Nat) (t : tab) (lw : Nat → Option LAW) (gx : Int32) (sz : Nat) (hlv : lv < 2) (hTW : TW cn t lw) (hTM : TM lv cn t lw g_m) : Met l yX12_isRat (ws_ yX12_isRat cX12_isRat 2 (some .boolean)) ({ frames := 2, cells := 0, slots := 0, locals := 34 }) (zPc D Y [.ref (ad_m 0), .int gx] sz (wj []) (wj [(mw Y ad_m (sA 18 (fun _ => nI lv) g_m) w_m)])) (va_Qi (fun (r : Int32) (u : Unit) => r = zb (vp_in gx (cn 2))) (zB D (fun (u : Unit) => (wj [(mw Y ad_m (sA 18 (fun _ => nI lv) g_m) w_m)])) (va_A (wj [(mw Y ad_m (sA 18 (fun _ => nI lv) g_m) w_m)]) sz)) (va_A (wj [(mw Y ad_m (sA 18 (fun _ => nI lv) g_m) w_m)]) sz)) 0 0 (va_A (wj [(mw Y ad_m (sA 18 (fun _ => nI lv) g_m) w_m)]) sz) := by
  refine Met.ofW (cc := cX12_isRat) (maxL := 2) (ret := (some .boolean)) (by decide) rfl ?_
  intro p e s m args below meth c s₁ B hml hv
  obtain ⟨rfl, hsz, hW, hR, hK, hA⟩ := zEntry hv
  subst hsz
  have hx := B.exec
  have hb := B.bytes
  have hr := B.returns
  have hlocks := B.notSynchronized
  have hts : ∀ w ∈ lw_all, w.before _ s = true := fun w h => atoms_spec (ws := (ws_ yX12_isRat cX12_isRat 2 (some .boolean))) B.pre w (List.mem_cons_of_mem _ h)
  have hown : s.vm.findClass RX12 = some m.cls := findClass_of_methodNamed B.named
  generalize hAe : va_A (wj [(mw Y ad_m (sA 18 (fun _ => nI lv) g_m) w_m)]) s.heap.size = A at hW hR hA ⊢
  have hl := lv_entry ([.ref (ad_m 0), .int gx]) (n := 2) (Nat.le_of_ble_eq_true rfl)
  rw [lg_entry_eq]
  generalize (lg_sl ([.ref (ad_m 0), .int gx]) ++ List.replicate (2 - (lg_sl ([.ref (ad_m 0), .int gx])).length) Slot.unset).toArray = ls at hl ⊢
  have hl : lv_has ls 2 [(0, .ref (ad_m 0)), (1, .int gx)] := hl
  have hk8 := hTW.n2
  have hk6 := hTW.n1
  have hk60 := hTW.n0
  have hk5 := hTW.n3
  refine lv_iload_n hx hb dX12_isRat_0 rfl (lv_at hl 1 rfl) ?_
  refine lv_iconst (v := 0) hx hb dX12_isRat_1 (by decide) ?_
  refine lv_aload_n hx hb dX12_isRat_2 rfl (lv_at hl 0 rfl) ?_
  refine va_get (v := .ref (ad_m 30)) (C := RX12) (T := TX12) (N := 75) (ci := 11) hx hb hts in_X12 hown hK.1 hW.1 0 rfl rfl 30 (by decide) (hts _ q1666) (fun _ h9 => h9) rfl dX12_isRat_3 ?_
  refine lv_aload_n hx hb dX12_isRat_6 rfl (lv_at hl 0 rfl) ?_
  refine va_get (v := .int (nI lv)) (C := RX12) (T := TX12) (N := 75) (ci := 11) hx hb hts in_X12 hown hK.1 hW.1 0 rfl rfl 18 (by decide) (hts _ q1654) (fun _ h9 => h9) rfl dX12_isRat_7 ?_
  refine z_iald (v := nI (cn 2)) (f := g_m 30) (j := lv) hx hb hK.1 hW.1 17 0 rfl rfl (vp_in_nI (n := lv) (by omega) (by decide)) (nI_clamp (n := lv) (by omega)) (TM.c30 hTM) dX12_isRat_10 ?_
  refine lv_iconst (v := 1) hx hb dX12_isRat_11 (by decide) ?_
  refine lv_isub hx hb dX12_isRat_12 ?_
  refine z_calli (wc := wj []) (wr := wj [(mw Y ad_m (sA 18 (fun _ => nI lv) g_m) w_m)]) (va_runS (As := [.int gx, .int 0, .int ((nI (cn 2)) - 1)]) (rest := []) ⟨hx, hb, hml, hown, hts⟩ (m_X12_in l D Y gx 0 ((nI (cn 2)) - 1) s.heap.size) (va_cwS 3 hts (lw_S q1997 q1998 q133 q1999) rfl rfl rfl (by decide +kernel) ⟨Nat.le_of_ble_eq_true rfl, Nat.le_of_ble_eq_true rfl⟩) (zPre hK hW hR (wj_split3 (B := [(mw Y ad_m (sA 18 (fun _ => nI lv) g_m) w_m)]) (R := []) (C := []) (O := []) (X := [(mw Y ad_m (sA 18 (fun _ => nI lv) g_m) w_m)]) (List.Perm.refl _))) rfl rfl hl.1 rfl (lv_room (Nat.le_of_ble_eq_true rfl)) dX12_isRat_13 ⟨Nat.le_refl _, Nat.le_refl _⟩) hW hA (wj_split (B := [(mw Y ad_m (sA 18 (fun _ => nI lv) g_m) w_m)]) (C := []) (R := [(mw Y ad_m (sA 18 (fun _ => nI lv) g_m) w_m)]) (List.Perm.refl _)) (fun r_1 u H locs hp_2 hW => ?_)
  have hp_2 : r_1 = zb (¬ gx < 0 ∧ ¬ ((nI (cn 2)) - 1) < gx) := hp_2
  have hW : zW D A s.heap H locs (wj [(mw Y ad_m (sA 18 (fun _ => nI lv) g_m) w_m)]) := hW.join
  refine z_ireti (() : Unit) hx hb hr hlocks (zb_nar hp_2) hW rfl dX12_isRat_16 ?_
  show r_1 = zb (vp_in gx (cn 2))
  rw [hp_2]; exact zb_congr (by exact (vp_iff (by omega)).symm)
set_option maxHeartbeats 4000000 in
set_option maxRecDepth 100000 in
theorem m_X12_bits (l : Launch) (D : va_G) (Y : Nat → ClassId)  (se : Int32) (sz : Nat) : Met l yX12_bits (ws_ yX12_bits cX12_bits 3 (some .int)) ({ frames := 1, cells := 0, slots := 0, locals := 12 }) (zPc D Y [.int se] sz (wj []) (wj [])) (va_Qi (fun (r : Int32) (u : Unit) => r = bitsTo se 8) (zB D (fun (u : Unit) => (wj [])) (va_A (wj []) sz)) (va_A (wj []) sz)) 0 0 (va_A (wj []) sz) := by
  refine Met.ofW (cc := cX12_bits) (maxL := 3) (ret := (some .int)) (by decide) rfl ?_
  intro p e s m args below meth c s₁ B hml hv
  obtain ⟨rfl, hsz, hW, hR, hK, hA⟩ := zEntry hv
  subst hsz
  have hx := B.exec
  have hb := B.bytes
  have hr := B.returns
  have hlocks := B.notSynchronized
  have hts : ∀ w ∈ lw_all, w.before _ s = true := fun w h => atoms_spec (ws := (ws_ yX12_bits cX12_bits 3 (some .int))) B.pre w (List.mem_cons_of_mem _ h)
  have hown : s.vm.findClass RX12 = some m.cls := findClass_of_methodNamed B.named
  generalize hAe : va_A (wj []) s.heap.size = A at hW hR hA ⊢
  have hl := lv_entry ([.int se]) (n := 3) (Nat.le_of_ble_eq_true rfl)
  rw [lg_entry_eq]
  generalize (lg_sl ([.int se]) ++ List.replicate (3 - (lg_sl ([.int se])).length) Slot.unset).toArray = ls at hl ⊢
  have hl : lv_has ls 3 [(0, .int se)] := hl
  refine lv_iconst (v := 0) hx hb dX12_bits_0 (by decide) ?_
  refine lv_istore_n (lv' := [(1, .int 0), (0, .int se)]) hx hb dX12_bits_1 rfl hl (by decide) rfl (fun ls hl => ?_)
  refine lv_iconst (v := 0) hx hb dX12_bits_2 (by decide) ?_
  refine lv_istore_n (lv' := [(2, .int 0), (1, .int 0), (0, .int se)]) hx hb dX12_bits_3 rfl hl (by decide) rfl (fun ls hl => ?_)
  have loop_4 : ∀ (n : Nat) (k : Nat) (v1_4 : Int32), 8 - k < n → (k ≤ 8) → (v1_4 = bitsTo se k) → ∀ (H : Heap) (locs : List Loc), zW D A s.heap H locs (wj []) → ∀ (ls : Array Slot), lv_has ls 3 [(2, .int (nI k)), (1, .int v1_4), (0, .int se)] → W p l e (headSpec (ws_ yX12_bits cX12_bits 3 (some .int)) ({ frames := 1, cells := 0, slots := 0, locals := 12 })).room s m ([.int se] : List Value).toArray below meth c H locs 0 0 (MQ below (va_Qi (fun (r : Int32) (u : Unit) => r = bitsTo se 8) (zB D (fun (u : Unit) => (wj [])) A) A) ([.int se] : List Value).toArray s 0 0 A) (F0 m 4 ls []) := by
    intro n
    induction n with
    | zero =>
      intro k v1_4 hmz
      exact absurd hmz (Nat.not_lt_zero _)
    | succ n ih =>
      intro k v1_4 hm_4 hi hv2 H locs hW ls hl
      have ih_4 := ih
      clear ih
      refine lv_iload_n hx hb dX12_bits_4 rfl (lv_at hl 0 rfl) ?_
      refine lv_bipush (v := 8) hx hb dX12_bits_5 (by decide) ?_
      refine lv_icmp_ge (tgt := 24) hx hb dX12_bits_7 (by decide) (fun c_1 => ?_) (fun c_1 => ?_)
      · have c_1 : 8 ≤ k := (nI_leI (a := 8) (b := k) (by omega) (by omega)).mp c_1
        refine lv_iload_n hx hb dX12_bits_24 rfl (lv_at hl 1 rfl) ?_
        refine z_ireti (() : Unit) hx hb hr hlocks rfl hW rfl dX12_bits_25 ?_
        show v1_4 = bitsTo se 8
        have e : k = 8 := by omega
        rw [hv2, e]
      · have c_1 : ¬ (8 ≤ k) := fun hz_ => c_1 ((nI_leI (a := 8) (b := k) (by omega) (by omega)).mpr hz_)
        refine lv_iload_n hx hb dX12_bits_10 rfl (lv_at hl 1 rfl) ?_
        refine lv_iload_n hx hb dX12_bits_11 rfl (lv_at hl 2 rfl) ?_
        refine lv_iload_n hx hb dX12_bits_12 rfl (lv_at hl 0 rfl) ?_
        refine lv_ishr hx hb dX12_bits_13 ?_
        refine lv_iconst (v := 1) hx hb dX12_bits_14 (by decide) ?_
        refine lv_iand hx hb dX12_bits_15 ?_
        refine lv_iadd hx hb dX12_bits_16 ?_
        refine lv_istore_n (lv' := [(1, .int (v1_4 + ((se >>> ((nI k) &&& 31)) &&& 1))), (2, .int (nI k)), (0, .int se)]) hx hb dX12_bits_17 rfl hl (by decide) rfl (fun ls hl => ?_)
        refine lv_iinc (v := nI (k + 1)) (lv' := [(2, .int (nI (k + 1))), (1, .int (v1_4 + ((se >>> ((nI k) &&& 31)) &&& 1))), (0, .int se)]) hx hb dX12_bits_18 hl (k := 1) rfl (nI_add k 1) (by decide) rfl (fun ls hl => ?_)
        refine lv_goto (tgt := 4) hx hb dX12_bits_21 (by decide) ?_
        exact ih_4 (k + 1) (v1_4 + ((se >>> ((nI k) &&& 31)) &&& 1)) (by omega) (by omega) (by rw [hv2]; rfl) _ _ hW _ (lv_sub hl [0, 1, 2] rfl)
  exact loop_4 _ 0 0 (Nat.lt_succ_self _) (by omega) (by rfl) _ _ hW _ (lv_sub hl [0, 1, 2] rfl)
set_option maxHeartbeats 4000000 in
set_option maxRecDepth 100000 in
theorem m_X12_common (l : Launch) (D : va_G) (Y : Nat → ClassId)  (xa : Nat) (xb : Nat) (sz : Nat) (hxa : xa < 2 ^ 31) (hxb : xb < 2 ^ 31) : Met l yX12_common (ws_ yX12_common cX12_common 5 (some .int)) ({ frames := 1, cells := 0, slots := 0, locals := 12 }) (zPc D Y [.int (nI xa), .int (nI xb)] sz (wj []) (wj [])) (va_Qi (fun (r : Int32) (u : Unit) => r = nI (Nat.gcd xa xb)) (zB D (fun (u : Unit) => (wj [])) (va_A (wj []) sz)) (va_A (wj []) sz)) 0 0 (va_A (wj []) sz) := by
  refine Met.ofW (cc := cX12_common) (maxL := 5) (ret := (some .int)) (by decide) rfl ?_
  intro p e s m args below meth c s₁ B hml hv
  obtain ⟨rfl, hsz, hW, hR, hK, hA⟩ := zEntry hv
  subst hsz
  have hx := B.exec
  have hb := B.bytes
  have hr := B.returns
  have hlocks := B.notSynchronized
  have hts : ∀ w ∈ lw_all, w.before _ s = true := fun w h => atoms_spec (ws := (ws_ yX12_common cX12_common 5 (some .int))) B.pre w (List.mem_cons_of_mem _ h)
  have hown : s.vm.findClass RX12 = some m.cls := findClass_of_methodNamed B.named
  generalize hAe : va_A (wj []) s.heap.size = A at hW hR hA ⊢
  have hl := lv_entry ([.int (nI xa), .int (nI xb)]) (n := 5) (Nat.le_of_ble_eq_true rfl)
  rw [lg_entry_eq]
  generalize (lg_sl ([.int (nI xa), .int (nI xb)]) ++ List.replicate (5 - (lg_sl ([.int (nI xa), .int (nI xb)])).length) Slot.unset).toArray = ls at hl ⊢
  have hl : lv_has ls 5 [(0, .int (nI xa)), (1, .int (nI xb))] := hl
  refine lv_iload_n hx hb dX12_common_0 rfl (lv_at hl 0 rfl) ?_
  refine lv_istore_n (lv' := [(2, .int (nI xa)), (0, .int (nI xa)), (1, .int (nI xb))]) hx hb dX12_common_1 rfl hl (by decide) rfl (fun ls hl => ?_)
  refine lv_iload_n hx hb dX12_common_2 rfl (lv_at hl 2 rfl) ?_
  refine lv_istore_n (lv' := [(3, .int (nI xb)), (2, .int (nI xa)), (0, .int (nI xa)), (1, .int (nI xb))]) hx hb dX12_common_3 rfl hl (by decide) rfl (fun ls hl => ?_)
  have loop_4 : ∀ (n : Nat) (yb : Nat) (ya : Nat), yb < n → (ya < 2 ^ 31 ∧ yb < 2 ^ 31) → (Nat.gcd ya yb = Nat.gcd xa xb) → ∀ (H : Heap) (locs : List Loc), zW D A s.heap H locs (wj []) → ∀ (ls : Array Slot), lv_has ls 5 [(3, .int (nI yb)), (2, .int (nI ya)), (0, .int (nI xa)), (1, .int (nI xb))] → W p l e (headSpec (ws_ yX12_common cX12_common 5 (some .int)) ({ frames := 1, cells := 0, slots := 0, locals := 12 })).room s m ([.int (nI xa), .int (nI xb)] : List Value).toArray below meth c H locs 0 0 (MQ below (va_Qi (fun (r : Int32) (u : Unit) => r = nI (Nat.gcd xa xb)) (zB D (fun (u : Unit) => (wj [])) A) A) ([.int (nI xa), .int (nI xb)] : List Value).toArray s 0 0 A) (F0 m 4 ls []) := by
    intro n
    induction n with
    | zero =>
      intro yb ya hmz
      exact absurd hmz (Nat.not_lt_zero _)
    | succ n ih =>
      intro yb ya hm_4 h1 h2 H locs hW ls hl
      have ih_4 := ih
      clear ih
      refine lv_iload_n hx hb dX12_common_4 rfl (lv_at hl 0 rfl) ?_
      refine lv_if_eq (tgt := 21) hx hb dX12_common_5 (by decide) (fun c_1 => ?_) (fun c_1 => ?_)
      · have c_1 : yb = 0 := (nI_eq (a := yb) (b := 0) (by omega) (by omega)).mp c_1
        refine lv_iload_n hx hb dX12_common_21 rfl (lv_at hl 1 rfl) ?_
        refine z_ireti (() : Unit) hx hb hr hlocks rfl hW rfl dX12_common_22 ?_
        show (nI ya) = nI (Nat.gcd xa xb)
        have e : yb = 0 := by omega
        rw [← h2, e, Nat.gcd_zero_right]
      · have c_1 : ¬ (yb = 0) := fun hz_ => c_1 ((nI_eq (a := yb) (b := 0) (by omega) (by omega)).mpr hz_)
        refine lv_iload_n hx hb dX12_common_8 rfl (lv_at hl 1 rfl) ?_
        refine lv_iload_n hx hb dX12_common_9 rfl (lv_at hl 0 rfl) ?_
        refine lv_irem hx hb dX12_common_10 (nI_ne0 (by omega) (by omega)) ?_
        refine lv_topi (nm_r (e' := nI (ya % yb)) (pk_rem (a := ya) (d := yb) (by omega) (by omega) (by omega)) ?_)
        refine lv_istore (lv' := [(4, .int (nI (ya % yb))), (3, .int (nI yb)), (2, .int (nI ya)), (0, .int (nI xa)), (1, .int (nI xb))]) hx hb dX12_common_11 hl (by decide) rfl (fun ls hl => ?_)
        refine lv_iload_n hx hb dX12_common_13 rfl (lv_at hl 1 rfl) ?_
        refine lv_istore_n (lv' := [(2, .int (nI yb)), (4, .int (nI (ya % yb))), (3, .int (nI yb)), (0, .int (nI xa)), (1, .int (nI xb))]) hx hb dX12_common_14 rfl hl (by decide) rfl (fun ls hl => ?_)
        refine lv_iload hx hb dX12_common_15 (lv_at hl 1 rfl) ?_
        refine lv_istore_n (lv' := [(3, .int (nI (ya % yb))), (2, .int (nI yb)), (4, .int (nI (ya % yb))), (0, .int (nI xa)), (1, .int (nI xb))]) hx hb dX12_common_17 rfl hl (by decide) rfl (fun ls hl => ?_)
        refine lv_goto (tgt := 4) hx hb dX12_common_18 (by decide) ?_
        have hlt := Nat.mod_lt ya (show 0 < yb by omega)
        exact ih_4 (ya % yb) yb (by omega) (by have := Nat.mod_lt ya (show 0 < yb by omega); omega) (by rw [← h2, Nat.gcd_comm yb, ← Nat.gcd_rec, Nat.gcd_comm]) _ _ hW _ (lv_sub hl [0, 1, 3, 4] rfl)
  exact loop_4 _ xb xa (Nat.lt_succ_self _) (by exact ⟨hxa, hxb⟩) (by rfl) _ _ hW _ (lv_sub hl [0, 1, 2, 3] rfl)
set_option maxHeartbeats 4000000 in
set_option maxRecDepth 100000 in
theorem m_X12_isCleanNow_0 (l : Launch) (D : va_G) (Y : Nat → ClassId) (ad_m : Nat → Nat) (g_m : Nat → Nat → Int32) (w_m : Nat → Nat → Int64) (lv : Nat) (cn : Nat → Nat) (t : tab) (lw : Nat → Option LAW) (σ : tab) (B_ : Int) (sz : Nat) (hlv : lv < 2) (hTW : TW cn t lw) (hTM : TM lv cn t lw g_m) (hRS : RS cn σ (g_m 60) (g_m 62) (g_m 61 0)) (hWF : WF cn B_ σ) : Met l yX12_isCleanNow (ws_ yX12_isCleanNow cX12_isCleanNow 3 (some .boolean)) ({ frames := 1, cells := 0, slots := 0, locals := 12 }) (zPc D Y [.ref (ad_m 0), .int 0] sz (wj []) (wj [(mw Y ad_m (sA 18 (fun _ => nI lv) g_m) w_m)])) (va_Qi (fun (r : Int32) (u : Unit) => r = zb (cleanP cn σ false)) (zB D (fun (u : Unit) => (wj [(mw Y ad_m (sA 18 (fun _ => nI lv) g_m) w_m)])) (va_A (wj [(mw Y ad_m (sA 18 (fun _ => nI lv) g_m) w_m)]) sz)) (va_A (wj [(mw Y ad_m (sA 18 (fun _ => nI lv) g_m) w_m)]) sz)) 0 0 (va_A (wj [(mw Y ad_m (sA 18 (fun _ => nI lv) g_m) w_m)]) sz) := by
  refine Met.ofW (cc := cX12_isCleanNow) (maxL := 3) (ret := (some .boolean)) (by decide) rfl ?_
  intro p e s m args below meth c s₁ B hml hv
  obtain ⟨rfl, hsz, hW, hR, hK, hA⟩ := zEntry hv
  subst hsz
  have hx := B.exec
  have hb := B.bytes
  have hr := B.returns
  have hlocks := B.notSynchronized
  have hts : ∀ w ∈ lw_all, w.before _ s = true := fun w h => atoms_spec (ws := (ws_ yX12_isCleanNow cX12_isCleanNow 3 (some .boolean))) B.pre w (List.mem_cons_of_mem _ h)
  have hown : s.vm.findClass RX12 = some m.cls := findClass_of_methodNamed B.named
  generalize hAe : va_A (wj [(mw Y ad_m (sA 18 (fun _ => nI lv) g_m) w_m)]) s.heap.size = A at hW hR hA ⊢
  have hl := lv_entry ([.ref (ad_m 0), .int 0]) (n := 3) (Nat.le_of_ble_eq_true rfl)
  rw [lg_entry_eq]
  generalize (lg_sl ([.ref (ad_m 0), .int 0]) ++ List.replicate (3 - (lg_sl ([.ref (ad_m 0), .int 0])).length) Slot.unset).toArray = ls at hl ⊢
  have hl : lv_has ls 3 [(0, .ref (ad_m 0)), (1, .int 0)] := hl
  have hLT := hRS.2.2
  have hk8 := hTW.n2
  have hk6 := hTW.n1
  have hk60 := hTW.n0
  have hk5 := hTW.n3
  refine lv_iconst (v := 0) hx hb dX12_isCleanNow_0 (by decide) ?_
  refine lv_istore_n (lv' := [(2, .int 0), (0, .ref (ad_m 0)), (1, .int 0)]) hx hb dX12_isCleanNow_1 rfl hl (by decide) rfl (fun ls hl => ?_)
  have loop_2 : ∀ (n : Nat) (rr : Nat), cn 2 - rr < n → (rr ≤ cn 2) → (∀ j, j < rr → ¬ σ 3 j = 1 ∧ ((false = true ∨ ¬ σ 3 j = 3) → σ 0 (σ 10 j).toNatClampNeg ≤ 0)) → ∀ (H : Heap) (locs : List Loc), zW D A s.heap H locs (wj [(mw Y ad_m (sA 18 (fun _ => nI lv) g_m) w_m)]) → ∀ (ls : Array Slot), lv_has ls 3 [(2, .int (nI rr)), (0, .ref (ad_m 0)), (1, .int 0)] → W p l e (headSpec (ws_ yX12_isCleanNow cX12_isCleanNow 3 (some .boolean)) ({ frames := 1, cells := 0, slots := 0, locals := 12 })).room s m ([.ref (ad_m 0), .int 0] : List Value).toArray below meth c H locs 0 0 (MQ below (va_Qi (fun (r : Int32) (u : Unit) => r = zb (cleanP cn σ false)) (zB D (fun (u : Unit) => (wj [(mw Y ad_m (sA 18 (fun _ => nI lv) g_m) w_m)])) A) A) ([.ref (ad_m 0), .int 0] : List Value).toArray s 0 0 A) (F0 m 2 ls []) := by
    intro n
    induction n with
    | zero =>
      intro rr hmz
      exact absurd hmz (Nat.not_lt_zero _)
    | succ n ih =>
      intro rr hm_2 hi hc2 H locs hW ls hl
      have ih_2 := ih
      clear ih
      refine lv_iload_n hx hb dX12_isCleanNow_2 rfl (lv_at hl 0 rfl) ?_
      refine lv_aload_n hx hb dX12_isCleanNow_3 rfl (lv_at hl 1 rfl) ?_
      refine va_get (v := .ref (ad_m 30)) (C := RX12) (T := TX12) (N := 75) (ci := 11) hx hb hts in_X12 hown hK.1 hW.1 0 rfl rfl 30 (by decide) (hts _ q1666) (fun _ h9 => h9) rfl dX12_isCleanNow_4 ?_
      refine lv_aload_n hx hb dX12_isCleanNow_7 rfl (lv_at hl 1 rfl) ?_
      refine va_get (v := .int (nI lv)) (C := RX12) (T := TX12) (N := 75) (ci := 11) hx hb hts in_X12 hown hK.1 hW.1 0 rfl rfl 18 (by decide) (hts _ q1654) (fun _ h9 => h9) rfl dX12_isCleanNow_8 ?_
      refine z_iald (v := nI (cn 2)) (f := g_m 30) (j := lv) hx hb hK.1 hW.1 17 0 rfl rfl (vp_in_nI (n := lv) (by omega) (by decide)) (nI_clamp (n := lv) (by omega)) (TM.c30 hTM) dX12_isCleanNow_11 ?_
      refine lv_icmp_ge (tgt := 72) hx hb dX12_isCleanNow_12 (by decide) (fun c_1 => ?_) (fun c_1 => ?_)
      · have c_1 : cn 2 ≤ rr := (nI_leI (a := cn 2) (b := rr) (by omega) (by omega)).mp c_1
        refine lv_iconst (v := 1) hx hb dX12_isCleanNow_72 (by decide) ?_
        refine z_ireti (() : Unit) hx hb hr hlocks rfl hW rfl dX12_isCleanNow_73 ?_
        show 1 = zb (cleanP cn σ false)
        exact zb_1 (cleanP_yes (fun j hj => hc2 j (by omega)))
      · have c_1 : ¬ (cn 2 ≤ rr) := fun hz_ => c_1 ((nI_leI (a := cn 2) (b := rr) (by omega) (by omega)).mpr hz_)
        refine lv_aload_n hx hb dX12_isCleanNow_15 rfl (lv_at hl 1 rfl) ?_
        refine va_get (v := .ref (ad_m 60)) (C := RX12) (T := TX12) (N := 75) (ci := 11) hx hb hts in_X12 hown hK.1 hW.1 0 rfl rfl 60 (by decide) (hts _ q1696) (fun _ h9 => h9) rfl dX12_isCleanNow_16 ?_
        refine lv_bipush (v := 42) hx hb dX12_isCleanNow_19 (by decide) ?_
        refine lv_iload_n hx hb dX12_isCleanNow_21 rfl (lv_at hl 0 rfl) ?_
        refine lv_iadd hx hb dX12_isCleanNow_22 ?_
        refine lv_topi (nm_r (e' := nI (42 + rr)) (nI_add 42 rr) ?_)
        refine z_iald (v := σ 3 rr) (f := g_m 60) (j := 42 + rr) hx hb hK.1 hW.1 43 0 rfl rfl (vp_in_nI (n := 42 + rr) (by omega) (by decide)) (nI_clamp (n := 42 + rr) (by omega)) (MR.r3 hRS.1 (r := rr) (by omega)) dX12_isCleanNow_23 ?_
        refine lv_iconst (v := 1) hx hb dX12_isCleanNow_24 (by decide) ?_
        refine lv_icmp_ne (tgt := 30) hx hb dX12_isCleanNow_25 (by decide) (fun c_2 => ?_) (fun c_2 => ?_)
        · have h31n := c_2
          refine lv_iload_n hx hb dX12_isCleanNow_30 rfl (lv_at hl 2 rfl) ?_
          refine lv_if_ne (tgt := 47) hx hb dX12_isCleanNow_31 (by decide) (fun c_3 => by first | exact absurd c_3 (by decide) | exact absurd (by decide) c_3) (fun c_3 => ?_)
          refine lv_aload_n hx hb dX12_isCleanNow_34 rfl (lv_at hl 1 rfl) ?_
          refine va_get (v := .ref (ad_m 60)) (C := RX12) (T := TX12) (N := 75) (ci := 11) hx hb hts in_X12 hown hK.1 hW.1 0 rfl rfl 60 (by decide) (hts _ q1696) (fun _ h9 => h9) rfl dX12_isCleanNow_35 ?_
          refine lv_bipush (v := 42) hx hb dX12_isCleanNow_38 (by decide) ?_
          refine lv_iload_n hx hb dX12_isCleanNow_40 rfl (lv_at hl 0 rfl) ?_
          refine lv_iadd hx hb dX12_isCleanNow_41 ?_
          refine lv_topi (nm_r (e' := nI (42 + rr)) (nI_add 42 rr) ?_)
          refine z_iald (v := σ 3 rr) (f := g_m 60) (j := 42 + rr) hx hb hK.1 hW.1 43 0 rfl rfl (vp_in_nI (n := 42 + rr) (by omega) (by decide)) (nI_clamp (n := 42 + rr) (by omega)) (MR.r3 hRS.1 (r := rr) (by omega)) dX12_isCleanNow_42 ?_
          refine lv_iconst (v := 3) hx hb dX12_isCleanNow_43 (by decide) ?_
          refine lv_icmp_eq (tgt := 66) hx hb dX12_isCleanNow_44 (by decide) (fun c_4 => ?_) (fun c_4 => ?_)
          · have h33 := c_4
            refine lv_iinc (v := nI (rr + 1)) (lv' := [(2, .int (nI (rr + 1))), (0, .ref (ad_m 0)), (1, .int 0)]) hx hb dX12_isCleanNow_66 hl (k := 0) rfl (nI_add rr 1) (by decide) rfl (fun ls hl => ?_)
            refine lv_goto (tgt := 2) hx hb dX12_isCleanNow_69 (by decide) ?_
            exact ih_2 (rr + 1) (by omega) (by omega) (by exact clean_step hc2 h31n (by first | (intro _; rw [ekn, ckn]; exact hle) | exact fun hq => absurd h33 (by simpa using hq))) _ _ hW _ (lv_sub hl [0, 1, 2] rfl)
          · have h33n := c_4
            obtain ⟨kn, hkn, ekn⟩ := vp_in_of (hWF.w10 (show rr < cn 2 by omega)) (by omega)
            have ckn := nI_clamp (show kn < 2 ^ 31 by omega)
            refine lv_aload_n hx hb dX12_isCleanNow_47 rfl (lv_at hl 1 rfl) ?_
            refine va_get (v := .ref (ad_m 60)) (C := RX12) (T := TX12) (N := 75) (ci := 11) hx hb hts in_X12 hown hK.1 hW.1 0 rfl rfl 60 (by decide) (hts _ q1696) (fun _ h9 => h9) rfl dX12_isCleanNow_48 ?_
            refine lv_aload_n hx hb dX12_isCleanNow_51 rfl (lv_at hl 1 rfl) ?_
            refine va_get (v := .ref (ad_m 60)) (C := RX12) (T := TX12) (N := 75) (ci := 11) hx hb hts in_X12 hown hK.1 hW.1 0 rfl rfl 60 (by decide) (hts _ q1696) (fun _ h9 => h9) rfl dX12_isCleanNow_52 ?_
            refine lv_bipush (v := 90) hx hb dX12_isCleanNow_55 (by decide) ?_
            refine lv_iload_n hx hb dX12_isCleanNow_57 rfl (lv_at hl 0 rfl) ?_
            refine lv_iadd hx hb dX12_isCleanNow_58 ?_
            refine lv_topi (nm_r (e' := nI (90 + rr)) (nI_add 90 rr) ?_)
            refine z_iald (v := nI kn) (f := g_m 60) (j := 90 + rr) hx hb hK.1 hW.1 43 0 rfl rfl (vp_in_nI (n := 90 + rr) (by omega) (by decide)) (nI_clamp (n := 90 + rr) (by omega)) (Eq.trans (MR.r10 hRS.1 (r := rr) (by omega)) ekn) dX12_isCleanNow_59 ?_
            refine z_iald (v := σ 0 kn) (f := g_m 60) (j := kn) hx hb hK.1 hW.1 43 0 rfl rfl (vp_in_nI (n := kn) (by omega) (by decide)) (nI_clamp (n := kn) (by omega)) (MR.heap hRS.1 (g := kn) (by omega)) dX12_isCleanNow_60 ?_
            refine lv_if_le (tgt := 66) hx hb dX12_isCleanNow_61 (by decide) (fun c_5 => ?_) (fun c_5 => ?_)
            · have hle := c_5
              refine lv_iinc (v := nI (rr + 1)) (lv' := [(2, .int (nI (rr + 1))), (0, .ref (ad_m 0)), (1, .int 0)]) hx hb dX12_isCleanNow_66 hl (k := 0) rfl (nI_add rr 1) (by decide) rfl (fun ls hl => ?_)
              refine lv_goto (tgt := 2) hx hb dX12_isCleanNow_69 (by decide) ?_
              exact ih_2 (rr + 1) (by omega) (by omega) (by exact clean_step hc2 h31n (by first | (intro _; rw [ekn, ckn]; exact hle) | exact fun hq => absurd h33 (by simpa using hq))) _ _ hW _ (lv_sub hl [0, 1, 2] rfl)
            · have hgt := c_5
              refine lv_iconst (v := 0) hx hb dX12_isCleanNow_64 (by decide) ?_
              refine z_ireti (() : Unit) hx hb hr hlocks rfl hW rfl dX12_isCleanNow_65 ?_
              show 0 = zb (cleanP cn σ false)
              exact zb_0 (cleanP_no2 (r := rr) (by omega) (Or.inr h33n) (by rw [ekn, ckn]; exact hgt))
        · have h31 := c_2
          refine lv_iconst (v := 0) hx hb dX12_isCleanNow_28 (by decide) ?_
          refine z_ireti (() : Unit) hx hb hr hlocks rfl hW rfl dX12_isCleanNow_29 ?_
          show 0 = zb (cleanP cn σ false)
          exact zb_0 (cleanP_no1 (by omega) h31)
  exact loop_2 _ 0 (Nat.lt_succ_self _) (by omega) (by intro j hj; omega) _ _ hW _ (lv_sub hl [0, 1, 2] rfl)
set_option maxHeartbeats 4000000 in
set_option maxRecDepth 100000 in
theorem m_X12_isCleanNow_1 (l : Launch) (D : va_G) (Y : Nat → ClassId) (ad_m : Nat → Nat) (g_m : Nat → Nat → Int32) (w_m : Nat → Nat → Int64) (lv : Nat) (cn : Nat → Nat) (t : tab) (lw : Nat → Option LAW) (σ : tab) (B_ : Int) (sz : Nat) (hlv : lv < 2) (hTW : TW cn t lw) (hTM : TM lv cn t lw g_m) (hRS : RS cn σ (g_m 60) (g_m 62) (g_m 61 0)) (hWF : WF cn B_ σ) : Met l yX12_isCleanNow (ws_ yX12_isCleanNow cX12_isCleanNow 3 (some .boolean)) ({ frames := 1, cells := 0, slots := 0, locals := 12 }) (zPc D Y [.ref (ad_m 0), .int 1] sz (wj []) (wj [(mw Y ad_m (sA 18 (fun _ => nI lv) g_m) w_m)])) (va_Qi (fun (r : Int32) (u : Unit) => r = zb (cleanP cn σ true)) (zB D (fun (u : Unit) => (wj [(mw Y ad_m (sA 18 (fun _ => nI lv) g_m) w_m)])) (va_A (wj [(mw Y ad_m (sA 18 (fun _ => nI lv) g_m) w_m)]) sz)) (va_A (wj [(mw Y ad_m (sA 18 (fun _ => nI lv) g_m) w_m)]) sz)) 0 0 (va_A (wj [(mw Y ad_m (sA 18 (fun _ => nI lv) g_m) w_m)]) sz) := by
  refine Met.ofW (cc := cX12_isCleanNow) (maxL := 3) (ret := (some .boolean)) (by decide) rfl ?_
  intro p e s m args below meth c s₁ B hml hv
  obtain ⟨rfl, hsz, hW, hR, hK, hA⟩ := zEntry hv
  subst hsz
  have hx := B.exec
  have hb := B.bytes
  have hr := B.returns
  have hlocks := B.notSynchronized
  have hts : ∀ w ∈ lw_all, w.before _ s = true := fun w h => atoms_spec (ws := (ws_ yX12_isCleanNow cX12_isCleanNow 3 (some .boolean))) B.pre w (List.mem_cons_of_mem _ h)
  have hown : s.vm.findClass RX12 = some m.cls := findClass_of_methodNamed B.named
  generalize hAe : va_A (wj [(mw Y ad_m (sA 18 (fun _ => nI lv) g_m) w_m)]) s.heap.size = A at hW hR hA ⊢
  have hl := lv_entry ([.ref (ad_m 0), .int 1]) (n := 3) (Nat.le_of_ble_eq_true rfl)
  rw [lg_entry_eq]
  generalize (lg_sl ([.ref (ad_m 0), .int 1]) ++ List.replicate (3 - (lg_sl ([.ref (ad_m 0), .int 1])).length) Slot.unset).toArray = ls at hl ⊢
  have hl : lv_has ls 3 [(0, .ref (ad_m 0)), (1, .int 1)] := hl
  have hLT := hRS.2.2
  have hk8 := hTW.n2
  have hk6 := hTW.n1
  have hk60 := hTW.n0
  have hk5 := hTW.n3
  refine lv_iconst (v := 0) hx hb dX12_isCleanNow_0 (by decide) ?_
  refine lv_istore_n (lv' := [(2, .int 0), (0, .ref (ad_m 0)), (1, .int 1)]) hx hb dX12_isCleanNow_1 rfl hl (by decide) rfl (fun ls hl => ?_)
  have loop_2 : ∀ (n : Nat) (rr : Nat), cn 2 - rr < n → (rr ≤ cn 2) → (∀ j, j < rr → ¬ σ 3 j = 1 ∧ ((true = true ∨ ¬ σ 3 j = 3) → σ 0 (σ 10 j).toNatClampNeg ≤ 0)) → ∀ (H : Heap) (locs : List Loc), zW D A s.heap H locs (wj [(mw Y ad_m (sA 18 (fun _ => nI lv) g_m) w_m)]) → ∀ (ls : Array Slot), lv_has ls 3 [(2, .int (nI rr)), (0, .ref (ad_m 0)), (1, .int 1)] → W p l e (headSpec (ws_ yX12_isCleanNow cX12_isCleanNow 3 (some .boolean)) ({ frames := 1, cells := 0, slots := 0, locals := 12 })).room s m ([.ref (ad_m 0), .int 1] : List Value).toArray below meth c H locs 0 0 (MQ below (va_Qi (fun (r : Int32) (u : Unit) => r = zb (cleanP cn σ true)) (zB D (fun (u : Unit) => (wj [(mw Y ad_m (sA 18 (fun _ => nI lv) g_m) w_m)])) A) A) ([.ref (ad_m 0), .int 1] : List Value).toArray s 0 0 A) (F0 m 2 ls []) := by
    intro n
    induction n with
    | zero =>
      intro rr hmz
      exact absurd hmz (Nat.not_lt_zero _)
    | succ n ih =>
      intro rr hm_2 hi hc2 H locs hW ls hl
      have ih_2 := ih
      clear ih
      refine lv_iload_n hx hb dX12_isCleanNow_2 rfl (lv_at hl 0 rfl) ?_
      refine lv_aload_n hx hb dX12_isCleanNow_3 rfl (lv_at hl 1 rfl) ?_
      refine va_get (v := .ref (ad_m 30)) (C := RX12) (T := TX12) (N := 75) (ci := 11) hx hb hts in_X12 hown hK.1 hW.1 0 rfl rfl 30 (by decide) (hts _ q1666) (fun _ h9 => h9) rfl dX12_isCleanNow_4 ?_
      refine lv_aload_n hx hb dX12_isCleanNow_7 rfl (lv_at hl 1 rfl) ?_
      refine va_get (v := .int (nI lv)) (C := RX12) (T := TX12) (N := 75) (ci := 11) hx hb hts in_X12 hown hK.1 hW.1 0 rfl rfl 18 (by decide) (hts _ q1654) (fun _ h9 => h9) rfl dX12_isCleanNow_8 ?_
      refine z_iald (v := nI (cn 2)) (f := g_m 30) (j := lv) hx hb hK.1 hW.1 17 0 rfl rfl (vp_in_nI (n := lv) (by omega) (by decide)) (nI_clamp (n := lv) (by omega)) (TM.c30 hTM) dX12_isCleanNow_11 ?_
      refine lv_icmp_ge (tgt := 72) hx hb dX12_isCleanNow_12 (by decide) (fun c_1 => ?_) (fun c_1 => ?_)
      · have c_1 : cn 2 ≤ rr := (nI_leI (a := cn 2) (b := rr) (by omega) (by omega)).mp c_1
        refine lv_iconst (v := 1) hx hb dX12_isCleanNow_72 (by decide) ?_
        refine z_ireti (() : Unit) hx hb hr hlocks rfl hW rfl dX12_isCleanNow_73 ?_
        show 1 = zb (cleanP cn σ true)
        exact zb_1 (cleanP_yes (fun j hj => hc2 j (by omega)))
      · have c_1 : ¬ (cn 2 ≤ rr) := fun hz_ => c_1 ((nI_leI (a := cn 2) (b := rr) (by omega) (by omega)).mpr hz_)
        refine lv_aload_n hx hb dX12_isCleanNow_15 rfl (lv_at hl 1 rfl) ?_
        refine va_get (v := .ref (ad_m 60)) (C := RX12) (T := TX12) (N := 75) (ci := 11) hx hb hts in_X12 hown hK.1 hW.1 0 rfl rfl 60 (by decide) (hts _ q1696) (fun _ h9 => h9) rfl dX12_isCleanNow_16 ?_
        refine lv_bipush (v := 42) hx hb dX12_isCleanNow_19 (by decide) ?_
        refine lv_iload_n hx hb dX12_isCleanNow_21 rfl (lv_at hl 0 rfl) ?_
        refine lv_iadd hx hb dX12_isCleanNow_22 ?_
        refine lv_topi (nm_r (e' := nI (42 + rr)) (nI_add 42 rr) ?_)
        refine z_iald (v := σ 3 rr) (f := g_m 60) (j := 42 + rr) hx hb hK.1 hW.1 43 0 rfl rfl (vp_in_nI (n := 42 + rr) (by omega) (by decide)) (nI_clamp (n := 42 + rr) (by omega)) (MR.r3 hRS.1 (r := rr) (by omega)) dX12_isCleanNow_23 ?_
        refine lv_iconst (v := 1) hx hb dX12_isCleanNow_24 (by decide) ?_
        refine lv_icmp_ne (tgt := 30) hx hb dX12_isCleanNow_25 (by decide) (fun c_2 => ?_) (fun c_2 => ?_)
        · have h31n := c_2
          refine lv_iload_n hx hb dX12_isCleanNow_30 rfl (lv_at hl 2 rfl) ?_
          refine lv_if_ne (tgt := 47) hx hb dX12_isCleanNow_31 (by decide) (fun c_3 => ?_) (fun c_3 => by first | exact absurd c_3 (by decide) | exact absurd (by decide) c_3)
          obtain ⟨kn, hkn, ekn⟩ := vp_in_of (hWF.w10 (show rr < cn 2 by omega)) (by omega)
          have ckn := nI_clamp (show kn < 2 ^ 31 by omega)
          refine lv_aload_n hx hb dX12_isCleanNow_47 rfl (lv_at hl 1 rfl) ?_
          refine va_get (v := .ref (ad_m 60)) (C := RX12) (T := TX12) (N := 75) (ci := 11) hx hb hts in_X12 hown hK.1 hW.1 0 rfl rfl 60 (by decide) (hts _ q1696) (fun _ h9 => h9) rfl dX12_isCleanNow_48 ?_
          refine lv_aload_n hx hb dX12_isCleanNow_51 rfl (lv_at hl 1 rfl) ?_
          refine va_get (v := .ref (ad_m 60)) (C := RX12) (T := TX12) (N := 75) (ci := 11) hx hb hts in_X12 hown hK.1 hW.1 0 rfl rfl 60 (by decide) (hts _ q1696) (fun _ h9 => h9) rfl dX12_isCleanNow_52 ?_
          refine lv_bipush (v := 90) hx hb dX12_isCleanNow_55 (by decide) ?_
          refine lv_iload_n hx hb dX12_isCleanNow_57 rfl (lv_at hl 0 rfl) ?_
          refine lv_iadd hx hb dX12_isCleanNow_58 ?_
          refine lv_topi (nm_r (e' := nI (90 + rr)) (nI_add 90 rr) ?_)
          refine z_iald (v := nI kn) (f := g_m 60) (j := 90 + rr) hx hb hK.1 hW.1 43 0 rfl rfl (vp_in_nI (n := 90 + rr) (by omega) (by decide)) (nI_clamp (n := 90 + rr) (by omega)) (Eq.trans (MR.r10 hRS.1 (r := rr) (by omega)) ekn) dX12_isCleanNow_59 ?_
          refine z_iald (v := σ 0 kn) (f := g_m 60) (j := kn) hx hb hK.1 hW.1 43 0 rfl rfl (vp_in_nI (n := kn) (by omega) (by decide)) (nI_clamp (n := kn) (by omega)) (MR.heap hRS.1 (g := kn) (by omega)) dX12_isCleanNow_60 ?_
          refine lv_if_le (tgt := 66) hx hb dX12_isCleanNow_61 (by decide) (fun c_4 => ?_) (fun c_4 => ?_)
          · have hle := c_4
            refine lv_iinc (v := nI (rr + 1)) (lv' := [(2, .int (nI (rr + 1))), (0, .ref (ad_m 0)), (1, .int 1)]) hx hb dX12_isCleanNow_66 hl (k := 0) rfl (nI_add rr 1) (by decide) rfl (fun ls hl => ?_)
            refine lv_goto (tgt := 2) hx hb dX12_isCleanNow_69 (by decide) ?_
            exact ih_2 (rr + 1) (by omega) (by omega) (by exact clean_step hc2 h31n (by first | (intro _; rw [ekn, ckn]; exact hle) | exact fun hq => absurd h33 (by simpa using hq))) _ _ hW _ (lv_sub hl [0, 1, 2] rfl)
          · have hgt := c_4
            refine lv_iconst (v := 0) hx hb dX12_isCleanNow_64 (by decide) ?_
            refine z_ireti (() : Unit) hx hb hr hlocks rfl hW rfl dX12_isCleanNow_65 ?_
            show 0 = zb (cleanP cn σ true)
            exact zb_0 (cleanP_no2 (r := rr) (by omega) (Or.inl rfl) (by rw [ekn, ckn]; exact hgt))
        · have h31 := c_2
          refine lv_iconst (v := 0) hx hb dX12_isCleanNow_28 (by decide) ?_
          refine z_ireti (() : Unit) hx hb hr hlocks rfl hW rfl dX12_isCleanNow_29 ?_
          show 0 = zb (cleanP cn σ true)
          exact zb_0 (cleanP_no1 (by omega) h31)
  exact loop_2 _ 0 (Nat.lt_succ_self _) (by omega) (by intro j hj; omega) _ _ hW _ (lv_sub hl [0, 1, 2] rfl)
set_option maxHeartbeats 4000000 in
set_option maxRecDepth 100000 in
theorem m_X12_inHoles_0 (l : Launch) (D : va_G) (Y : Nat → ClassId) (ad_m : Nat → Nat) (g_m : Nat → Nat → Int32) (w_m : Nat → Nat → Int64) (lv : Nat) (cn : Nat → Nat) (t : tab) (lw : Nat → Option LAW) (σ : tab) (sz : Nat) (hlv : lv < 2) (hTW : TW cn t lw) (hTM : TM lv cn t lw g_m) (hRS : RS cn σ (g_m 60) (g_m 62) (g_m 61 0)) : Met l yX12_inHoles (ws_ yX12_inHoles cX12_inHoles 5 (some .int)) ({ frames := 1, cells := 0, slots := 0, locals := 12 }) (zPc D Y [.ref (ad_m 0), .int 0] sz (wj []) (wj [(mw Y ad_m (sA 18 (fun _ => nI lv) g_m) w_m)])) (va_Qi (fun (r : Int32) (u : Unit) => r = sortedTo t σ false (cn 1)) (zB D (fun (u : Unit) => (wj [(mw Y ad_m (sA 18 (fun _ => nI lv) g_m) w_m)])) (va_A (wj [(mw Y ad_m (sA 18 (fun _ => nI lv) g_m) w_m)]) sz)) (va_A (wj [(mw Y ad_m (sA 18 (fun _ => nI lv) g_m) w_m)]) sz)) 0 0 (va_A (wj [(mw Y ad_m (sA 18 (fun _ => nI lv) g_m) w_m)]) sz) := by
  refine Met.ofW (cc := cX12_inHoles) (maxL := 5) (ret := (some .int)) (by decide) rfl ?_
  intro p e s m args below meth c s₁ B hml hv
  obtain ⟨rfl, hsz, hW, hR, hK, hA⟩ := zEntry hv
  subst hsz
  have hx := B.exec
  have hb := B.bytes
  have hr := B.returns
  have hlocks := B.notSynchronized
  have hts : ∀ w ∈ lw_all, w.before _ s = true := fun w h => atoms_spec (ws := (ws_ yX12_inHoles cX12_inHoles 5 (some .int))) B.pre w (List.mem_cons_of_mem _ h)
  have hown : s.vm.findClass RX12 = some m.cls := findClass_of_methodNamed B.named
  generalize hAe : va_A (wj [(mw Y ad_m (sA 18 (fun _ => nI lv) g_m) w_m)]) s.heap.size = A at hW hR hA ⊢
  have hl := lv_entry ([.ref (ad_m 0), .int 0]) (n := 5) (Nat.le_of_ble_eq_true rfl)
  rw [lg_entry_eq]
  generalize (lg_sl ([.ref (ad_m 0), .int 0]) ++ List.replicate (5 - (lg_sl ([.ref (ad_m 0), .int 0])).length) Slot.unset).toArray = ls at hl ⊢
  have hl : lv_has ls 5 [(0, .ref (ad_m 0)), (1, .int 0)] := hl
  have hLT := hRS.2.2
  have hk8 := hTW.n2
  have hk6 := hTW.n1
  have hk60 := hTW.n0
  have hk5 := hTW.n3
  refine lv_iconst (v := 0) hx hb dX12_inHoles_0 (by decide) ?_
  refine lv_istore_n (lv' := [(2, .int 0), (0, .ref (ad_m 0)), (1, .int 0)]) hx hb dX12_inHoles_1 rfl hl (by decide) rfl (fun ls hl => ?_)
  refine lv_iconst (v := 0) hx hb dX12_inHoles_2 (by decide) ?_
  refine lv_istore_n (lv' := [(3, .int 0), (2, .int 0), (0, .ref (ad_m 0)), (1, .int 0)]) hx hb dX12_inHoles_3 rfl hl (by decide) rfl (fun ls hl => ?_)
  have loop_4 : ∀ (n : Nat) (h : Nat) (v2_4 : Int32), cn 1 - h < n → (h ≤ cn 1) → (v2_4 = sortedTo t σ false h) → ∀ (H : Heap) (locs : List Loc), zW D A s.heap H locs (wj [(mw Y ad_m (sA 18 (fun _ => nI lv) g_m) w_m)]) → ∀ (ls : Array Slot), lv_has ls 5 [(3, .int (nI h)), (2, .int v2_4), (0, .ref (ad_m 0)), (1, .int 0)] → W p l e (headSpec (ws_ yX12_inHoles cX12_inHoles 5 (some .int)) ({ frames := 1, cells := 0, slots := 0, locals := 12 })).room s m ([.ref (ad_m 0), .int 0] : List Value).toArray below meth c H locs 0 0 (MQ below (va_Qi (fun (r : Int32) (u : Unit) => r = sortedTo t σ false (cn 1)) (zB D (fun (u : Unit) => (wj [(mw Y ad_m (sA 18 (fun _ => nI lv) g_m) w_m)])) A) A) ([.ref (ad_m 0), .int 0] : List Value).toArray s 0 0 A) (F0 m 4 ls []) := by
    intro n
    induction n with
    | zero =>
      intro h v2_4 hmz
      exact absurd hmz (Nat.not_lt_zero _)
    | succ n ih =>
      intro h v2_4 hm_4 hi hv2 H locs hW ls hl
      have ih_4 := ih
      clear ih
      refine lv_iload_n hx hb dX12_inHoles_4 rfl (lv_at hl 0 rfl) ?_
      refine lv_aload_n hx hb dX12_inHoles_5 rfl (lv_at hl 2 rfl) ?_
      refine va_get (v := .ref (ad_m 27)) (C := RX12) (T := TX12) (N := 75) (ci := 11) hx hb hts in_X12 hown hK.1 hW.1 0 rfl rfl 27 (by decide) (hts _ q1663) (fun _ h9 => h9) rfl dX12_inHoles_6 ?_
      refine lv_aload_n hx hb dX12_inHoles_9 rfl (lv_at hl 2 rfl) ?_
      refine va_get (v := .int (nI lv)) (C := RX12) (T := TX12) (N := 75) (ci := 11) hx hb hts in_X12 hown hK.1 hW.1 0 rfl rfl 18 (by decide) (hts _ q1654) (fun _ h9 => h9) rfl dX12_inHoles_10 ?_
      refine z_iald (v := nI (cn 1)) (f := g_m 27) (j := lv) hx hb hK.1 hW.1 14 0 rfl rfl (vp_in_nI (n := lv) (by omega) (by decide)) (nI_clamp (n := lv) (by omega)) (TM.c27 hTM) dX12_inHoles_13 ?_
      refine lv_icmp_ge (tgt := 85) hx hb dX12_inHoles_14 (by decide) (fun c_1 => ?_) (fun c_1 => ?_)
      · have c_1 : cn 1 ≤ h := (nI_leI (a := cn 1) (b := h) (by omega) (by omega)).mp c_1
        refine lv_iload_n hx hb dX12_inHoles_85 rfl (lv_at hl 1 rfl) ?_
        refine z_ireti (() : Unit) hx hb hr hlocks rfl hW rfl dX12_inHoles_86 ?_
        show v2_4 = sortedTo t σ false (cn 1)
        have e : h = cn 1 := by omega
        rw [hv2, e]
      · have c_1 : ¬ (cn 1 ≤ h) := fun hz_ => c_1 ((nI_leI (a := cn 1) (b := h) (by omega) (by omega)).mpr hz_)
        obtain ⟨gr, hgr, egr⟩ := vp_in_of (hTW.h3 (show h < cn 1 by omega)) (by omega)
        have cgr := nI_clamp (show gr < 2 ^ 31 by omega)
        refine lv_iconst (v := 0) hx hb dX12_inHoles_17 (by decide) ?_
        refine lv_istore (lv' := [(4, .int 0), (3, .int (nI h)), (2, .int v2_4), (0, .ref (ad_m 0)), (1, .int 0)]) hx hb dX12_inHoles_18 hl (by decide) rfl (fun ls hl => ?_)
        have loop_20 : ∀ (n : Nat) (g : Nat) (v2_20 : Int32), 6 - g < n → (g ≤ 6) → (v2_20 = sortedTo t σ false h + partTo (σ (30 + h)) gr false g) → ∀ (H : Heap) (locs : List Loc), zW D A s.heap H locs (wj [(mw Y ad_m (sA 18 (fun _ => nI lv) g_m) w_m)]) → ∀ (ls : Array Slot), lv_has ls 5 [(4, .int (nI g)), (3, .int (nI h)), (2, .int v2_20), (0, .ref (ad_m 0)), (1, .int 0)] → W p l e (headSpec (ws_ yX12_inHoles cX12_inHoles 5 (some .int)) ({ frames := 1, cells := 0, slots := 0, locals := 12 })).room s m ([.ref (ad_m 0), .int 0] : List Value).toArray below meth c H locs 0 0 (MQ below (va_Qi (fun (r : Int32) (u : Unit) => r = sortedTo t σ false (cn 1)) (zB D (fun (u : Unit) => (wj [(mw Y ad_m (sA 18 (fun _ => nI lv) g_m) w_m)])) A) A) ([.ref (ad_m 0), .int 0] : List Value).toArray s 0 0 A) (F0 m 20 ls []) := by
          intro n
          induction n with
          | zero =>
            intro g v2_20 hmz
            exact absurd hmz (Nat.not_lt_zero _)
          | succ n ih =>
            intro g v2_20 hm_20 hg hv3 H locs hW ls hl
            have ih_20 := ih
            clear ih
            refine lv_iload hx hb dX12_inHoles_20 (lv_at hl 0 rfl) ?_
            refine lv_bipush (v := 6) hx hb dX12_inHoles_22 (by decide) ?_
            refine lv_icmp_ge (tgt := 79) hx hb dX12_inHoles_24 (by decide) (fun c_2 => ?_) (fun c_2 => ?_)
            · have c_2 : 6 ≤ g := (nI_leI (a := 6) (b := g) (by omega) (by omega)).mp c_2
              refine lv_iinc (v := nI (h + 1)) (lv' := [(3, .int (nI (h + 1))), (4, .int (nI g)), (2, .int v2_20), (0, .ref (ad_m 0)), (1, .int 0)]) hx hb dX12_inHoles_79 hl (k := 1) rfl (nI_add h 1) (by decide) rfl (fun ls hl => ?_)
              refine lv_goto (tgt := 4) hx hb dX12_inHoles_82 (by decide) ?_
              exact ih_4 (h + 1) v2_20 (by omega) (by omega) (by rw [hv3, show g = 6 by omega, part6 _ (by omega)]; simp [sortedTo, inHoleP, egr, cgr]) _ _ hW _ (lv_sub hl [0, 2, 3, 4] rfl)
            · have c_2 : ¬ (6 ≤ g) := fun hz_ => c_2 ((nI_leI (a := 6) (b := g) (by omega) (by omega)).mpr hz_)
              refine lv_aload_n hx hb dX12_inHoles_27 rfl (lv_at hl 3 rfl) ?_
              refine va_get (v := .ref (ad_m 29)) (C := RX12) (T := TX12) (N := 75) (ci := 11) hx hb hts in_X12 hown hK.1 hW.1 0 rfl rfl 29 (by decide) (hts _ q1665) (fun _ h9 => h9) rfl dX12_inHoles_28 ?_
              refine lv_bipush (v := 6) hx hb dX12_inHoles_31 (by decide) ?_
              refine lv_aload_n hx hb dX12_inHoles_33 rfl (lv_at hl 3 rfl) ?_
              refine va_get (v := .int (nI lv)) (C := RX12) (T := TX12) (N := 75) (ci := 11) hx hb hts in_X12 hown hK.1 hW.1 0 rfl rfl 18 (by decide) (hts _ q1654) (fun _ h9 => h9) rfl dX12_inHoles_34 ?_
              refine lv_imul hx hb dX12_inHoles_37 ?_
              refine lv_topi (nm_r (e' := nI (6 * lv)) (pk_mul 6 lv) ?_)
              refine lv_iload_n hx hb dX12_inHoles_38 rfl (lv_at hl 1 rfl) ?_
              refine lv_iadd hx hb dX12_inHoles_39 ?_
              refine lv_topi (nm_r (e' := nI (6 * lv + h)) (nI_add (6 * lv) h) ?_)
              refine z_iald (v := nI gr) (f := g_m 29) (j := 6 * lv + h) hx hb hK.1 hW.1 16 0 rfl rfl (vp_in_nI (n := 6 * lv + h) (by omega) (by decide)) (nI_clamp (n := 6 * lv + h) (by omega)) (Eq.trans (TM.c29 hTM (j := h) (by omega)) egr) dX12_inHoles_40 ?_
              refine lv_iload hx hb dX12_inHoles_41 (lv_at hl 0 rfl) ?_
              refine lv_icmp_ne (tgt := 50) hx hb dX12_inHoles_43 (by decide) (fun c_3 => ?_) (fun c_3 => ?_)
              · have c_3 : ¬ (gr = g) := fun hz_ => c_3 ((nI_eq (a := gr) (b := g) (by omega) (by omega)).mpr hz_)
                refine lv_iconst (v := 0) hx hb dX12_inHoles_50 (by decide) ?_
                refine lv_iload_n hx hb dX12_inHoles_51 rfl (lv_at hl 4 rfl) ?_
                refine lv_icmp_ne (tgt := 73) hx hb dX12_inHoles_52 (by decide) (fun c_4 => by first | exact absurd c_4 (by decide) | exact absurd (by decide) c_4) (fun c_4 => ?_)
                refine lv_iload_n hx hb dX12_inHoles_55 rfl (lv_at hl 2 rfl) ?_
                refine lv_aload_n hx hb dX12_inHoles_56 rfl (lv_at hl 3 rfl) ?_
                refine va_get (v := .ref (ad_m 60)) (C := RX12) (T := TX12) (N := 75) (ci := 11) hx hb hts in_X12 hown hK.1 hW.1 0 rfl rfl 60 (by decide) (hts _ q1696) (fun _ h9 => h9) rfl dX12_inHoles_57 ?_
                refine lv_bipush (v := 6) hx hb dX12_inHoles_60 (by decide) ?_
                refine lv_bipush (v := 6) hx hb dX12_inHoles_62 (by decide) ?_
                refine lv_iload_n hx hb dX12_inHoles_64 rfl (lv_at hl 1 rfl) ?_
                refine lv_imul hx hb dX12_inHoles_65 ?_
                refine lv_topi (nm_r (e' := nI (6 * h)) (pk_mul 6 h) ?_)
                refine lv_iadd hx hb dX12_inHoles_66 ?_
                refine lv_topi (nm_r (e' := nI (6 + 6 * h)) (nI_add 6 (6 * h)) ?_)
                refine lv_iload hx hb dX12_inHoles_67 (lv_at hl 0 rfl) ?_
                refine lv_iadd hx hb dX12_inHoles_69 ?_
                refine lv_topi (nm_r (e' := nI (6 + 6 * h + g)) (nI_add (6 + 6 * h) g) ?_)
                refine z_iald (v := σ (30 + h) g) (f := g_m 60) (j := 6 + 6 * h + g) hx hb hK.1 hW.1 43 0 rfl rfl (vp_in_nI (n := 6 + 6 * h + g) (by omega) (by decide)) (nI_clamp (n := 6 + 6 * h + g) (by omega)) (MR.hole hRS.1 (a := h) (g := g) (by omega) (by omega)) dX12_inHoles_70 ?_
                refine lv_iadd hx hb dX12_inHoles_71 ?_
                refine lv_istore_n (lv' := [(2, .int (v2_20 + (σ (30 + h) g))), (4, .int (nI g)), (3, .int (nI h)), (0, .ref (ad_m 0)), (1, .int 0)]) hx hb dX12_inHoles_72 rfl hl (by decide) rfl (fun ls hl => ?_)
                refine lv_iinc (v := nI (g + 1)) (lv' := [(4, .int (nI (g + 1))), (2, .int (v2_20 + (σ (30 + h) g))), (3, .int (nI h)), (0, .ref (ad_m 0)), (1, .int 0)]) hx hb dX12_inHoles_73 hl (k := 1) rfl (nI_add g 1) (by decide) rfl (fun ls hl => ?_)
                refine lv_goto (tgt := 20) hx hb dX12_inHoles_76 (by decide) ?_
                exact ih_20 (g + 1) (v2_20 + (σ (30 + h) g)) (by omega) (by omega) (by rw [hv3]; simp [partTo, *]; try grind) _ _ hW _ (lv_sub hl [0, 2, 1, 3, 4] rfl)
              · have c_3 : gr = g := (nI_eq (a := gr) (b := g) (by omega) (by omega)).mp c_3
                refine lv_iconst (v := 1) hx hb dX12_inHoles_46 (by decide) ?_
                refine lv_goto (tgt := 51) hx hb dX12_inHoles_47 (by decide) ?_
                refine lv_iload_n hx hb dX12_inHoles_51 rfl (lv_at hl 4 rfl) ?_
                refine lv_icmp_ne (tgt := 73) hx hb dX12_inHoles_52 (by decide) (fun c_5 => ?_) (fun c_5 => by first | exact absurd c_5 (by decide) | exact absurd (by decide) c_5)
                refine lv_iinc (v := nI (g + 1)) (lv' := [(4, .int (nI (g + 1))), (3, .int (nI h)), (2, .int v2_20), (0, .ref (ad_m 0)), (1, .int 0)]) hx hb dX12_inHoles_73 hl (k := 0) rfl (nI_add g 1) (by decide) rfl (fun ls hl => ?_)
                refine lv_goto (tgt := 20) hx hb dX12_inHoles_76 (by decide) ?_
                exact ih_20 (g + 1) v2_20 (by omega) (by omega) (by rw [hv3]; simp [partTo, *]; try grind) _ _ hW _ (lv_sub hl [0, 1, 2, 3, 4] rfl)
        exact loop_20 _ 0 v2_4 (Nat.lt_succ_self _) (by omega) (by rw [hv2]; simp [partTo]) _ _ hW _ (lv_sub hl [0, 1, 2, 3, 4] rfl)
  exact loop_4 _ 0 0 (Nat.lt_succ_self _) (by omega) (by rfl) _ _ hW _ (lv_sub hl [0, 1, 2, 3] rfl)
set_option maxHeartbeats 4000000 in
set_option maxRecDepth 100000 in
theorem m_X12_inHoles_1 (l : Launch) (D : va_G) (Y : Nat → ClassId) (ad_m : Nat → Nat) (g_m : Nat → Nat → Int32) (w_m : Nat → Nat → Int64) (lv : Nat) (cn : Nat → Nat) (t : tab) (lw : Nat → Option LAW) (σ : tab) (sz : Nat) (hlv : lv < 2) (hTW : TW cn t lw) (hTM : TM lv cn t lw g_m) (hRS : RS cn σ (g_m 60) (g_m 62) (g_m 61 0)) : Met l yX12_inHoles (ws_ yX12_inHoles cX12_inHoles 5 (some .int)) ({ frames := 1, cells := 0, slots := 0, locals := 12 }) (zPc D Y [.ref (ad_m 0), .int 1] sz (wj []) (wj [(mw Y ad_m (sA 18 (fun _ => nI lv) g_m) w_m)])) (va_Qi (fun (r : Int32) (u : Unit) => r = sortedTo t σ true (cn 1)) (zB D (fun (u : Unit) => (wj [(mw Y ad_m (sA 18 (fun _ => nI lv) g_m) w_m)])) (va_A (wj [(mw Y ad_m (sA 18 (fun _ => nI lv) g_m) w_m)]) sz)) (va_A (wj [(mw Y ad_m (sA 18 (fun _ => nI lv) g_m) w_m)]) sz)) 0 0 (va_A (wj [(mw Y ad_m (sA 18 (fun _ => nI lv) g_m) w_m)]) sz) := by
  refine Met.ofW (cc := cX12_inHoles) (maxL := 5) (ret := (some .int)) (by decide) rfl ?_
  intro p e s m args below meth c s₁ B hml hv
  obtain ⟨rfl, hsz, hW, hR, hK, hA⟩ := zEntry hv
  subst hsz
  have hx := B.exec
  have hb := B.bytes
  have hr := B.returns
  have hlocks := B.notSynchronized
  have hts : ∀ w ∈ lw_all, w.before _ s = true := fun w h => atoms_spec (ws := (ws_ yX12_inHoles cX12_inHoles 5 (some .int))) B.pre w (List.mem_cons_of_mem _ h)
  have hown : s.vm.findClass RX12 = some m.cls := findClass_of_methodNamed B.named
  generalize hAe : va_A (wj [(mw Y ad_m (sA 18 (fun _ => nI lv) g_m) w_m)]) s.heap.size = A at hW hR hA ⊢
  have hl := lv_entry ([.ref (ad_m 0), .int 1]) (n := 5) (Nat.le_of_ble_eq_true rfl)
  rw [lg_entry_eq]
  generalize (lg_sl ([.ref (ad_m 0), .int 1]) ++ List.replicate (5 - (lg_sl ([.ref (ad_m 0), .int 1])).length) Slot.unset).toArray = ls at hl ⊢
  have hl : lv_has ls 5 [(0, .ref (ad_m 0)), (1, .int 1)] := hl
  have hLT := hRS.2.2
  have hk8 := hTW.n2
  have hk6 := hTW.n1
  have hk60 := hTW.n0
  have hk5 := hTW.n3
  refine lv_iconst (v := 0) hx hb dX12_inHoles_0 (by decide) ?_
  refine lv_istore_n (lv' := [(2, .int 0), (0, .ref (ad_m 0)), (1, .int 1)]) hx hb dX12_inHoles_1 rfl hl (by decide) rfl (fun ls hl => ?_)
  refine lv_iconst (v := 0) hx hb dX12_inHoles_2 (by decide) ?_
  refine lv_istore_n (lv' := [(3, .int 0), (2, .int 0), (0, .ref (ad_m 0)), (1, .int 1)]) hx hb dX12_inHoles_3 rfl hl (by decide) rfl (fun ls hl => ?_)
  have loop_4 : ∀ (n : Nat) (h : Nat) (v2_4 : Int32), cn 1 - h < n → (h ≤ cn 1) → (v2_4 = sortedTo t σ true h) → ∀ (H : Heap) (locs : List Loc), zW D A s.heap H locs (wj [(mw Y ad_m (sA 18 (fun _ => nI lv) g_m) w_m)]) → ∀ (ls : Array Slot), lv_has ls 5 [(3, .int (nI h)), (2, .int v2_4), (0, .ref (ad_m 0)), (1, .int 1)] → W p l e (headSpec (ws_ yX12_inHoles cX12_inHoles 5 (some .int)) ({ frames := 1, cells := 0, slots := 0, locals := 12 })).room s m ([.ref (ad_m 0), .int 1] : List Value).toArray below meth c H locs 0 0 (MQ below (va_Qi (fun (r : Int32) (u : Unit) => r = sortedTo t σ true (cn 1)) (zB D (fun (u : Unit) => (wj [(mw Y ad_m (sA 18 (fun _ => nI lv) g_m) w_m)])) A) A) ([.ref (ad_m 0), .int 1] : List Value).toArray s 0 0 A) (F0 m 4 ls []) := by
    intro n
    induction n with
    | zero =>
      intro h v2_4 hmz
      exact absurd hmz (Nat.not_lt_zero _)
    | succ n ih =>
      intro h v2_4 hm_4 hi hv2 H locs hW ls hl
      have ih_4 := ih
      clear ih
      refine lv_iload_n hx hb dX12_inHoles_4 rfl (lv_at hl 0 rfl) ?_
      refine lv_aload_n hx hb dX12_inHoles_5 rfl (lv_at hl 2 rfl) ?_
      refine va_get (v := .ref (ad_m 27)) (C := RX12) (T := TX12) (N := 75) (ci := 11) hx hb hts in_X12 hown hK.1 hW.1 0 rfl rfl 27 (by decide) (hts _ q1663) (fun _ h9 => h9) rfl dX12_inHoles_6 ?_
      refine lv_aload_n hx hb dX12_inHoles_9 rfl (lv_at hl 2 rfl) ?_
      refine va_get (v := .int (nI lv)) (C := RX12) (T := TX12) (N := 75) (ci := 11) hx hb hts in_X12 hown hK.1 hW.1 0 rfl rfl 18 (by decide) (hts _ q1654) (fun _ h9 => h9) rfl dX12_inHoles_10 ?_
      refine z_iald (v := nI (cn 1)) (f := g_m 27) (j := lv) hx hb hK.1 hW.1 14 0 rfl rfl (vp_in_nI (n := lv) (by omega) (by decide)) (nI_clamp (n := lv) (by omega)) (TM.c27 hTM) dX12_inHoles_13 ?_
      refine lv_icmp_ge (tgt := 85) hx hb dX12_inHoles_14 (by decide) (fun c_1 => ?_) (fun c_1 => ?_)
      · have c_1 : cn 1 ≤ h := (nI_leI (a := cn 1) (b := h) (by omega) (by omega)).mp c_1
        refine lv_iload_n hx hb dX12_inHoles_85 rfl (lv_at hl 1 rfl) ?_
        refine z_ireti (() : Unit) hx hb hr hlocks rfl hW rfl dX12_inHoles_86 ?_
        show v2_4 = sortedTo t σ true (cn 1)
        have e : h = cn 1 := by omega
        rw [hv2, e]
      · have c_1 : ¬ (cn 1 ≤ h) := fun hz_ => c_1 ((nI_leI (a := cn 1) (b := h) (by omega) (by omega)).mpr hz_)
        obtain ⟨gr, hgr, egr⟩ := vp_in_of (hTW.h3 (show h < cn 1 by omega)) (by omega)
        have cgr := nI_clamp (show gr < 2 ^ 31 by omega)
        refine lv_iconst (v := 0) hx hb dX12_inHoles_17 (by decide) ?_
        refine lv_istore (lv' := [(4, .int 0), (3, .int (nI h)), (2, .int v2_4), (0, .ref (ad_m 0)), (1, .int 1)]) hx hb dX12_inHoles_18 hl (by decide) rfl (fun ls hl => ?_)
        have loop_20 : ∀ (n : Nat) (g : Nat) (v2_20 : Int32), 6 - g < n → (g ≤ 6) → (v2_20 = sortedTo t σ true h + partTo (σ (30 + h)) gr true g) → ∀ (H : Heap) (locs : List Loc), zW D A s.heap H locs (wj [(mw Y ad_m (sA 18 (fun _ => nI lv) g_m) w_m)]) → ∀ (ls : Array Slot), lv_has ls 5 [(4, .int (nI g)), (3, .int (nI h)), (2, .int v2_20), (0, .ref (ad_m 0)), (1, .int 1)] → W p l e (headSpec (ws_ yX12_inHoles cX12_inHoles 5 (some .int)) ({ frames := 1, cells := 0, slots := 0, locals := 12 })).room s m ([.ref (ad_m 0), .int 1] : List Value).toArray below meth c H locs 0 0 (MQ below (va_Qi (fun (r : Int32) (u : Unit) => r = sortedTo t σ true (cn 1)) (zB D (fun (u : Unit) => (wj [(mw Y ad_m (sA 18 (fun _ => nI lv) g_m) w_m)])) A) A) ([.ref (ad_m 0), .int 1] : List Value).toArray s 0 0 A) (F0 m 20 ls []) := by
          intro n
          induction n with
          | zero =>
            intro g v2_20 hmz
            exact absurd hmz (Nat.not_lt_zero _)
          | succ n ih =>
            intro g v2_20 hm_20 hg hv3 H locs hW ls hl
            have ih_20 := ih
            clear ih
            refine lv_iload hx hb dX12_inHoles_20 (lv_at hl 0 rfl) ?_
            refine lv_bipush (v := 6) hx hb dX12_inHoles_22 (by decide) ?_
            refine lv_icmp_ge (tgt := 79) hx hb dX12_inHoles_24 (by decide) (fun c_2 => ?_) (fun c_2 => ?_)
            · have c_2 : 6 ≤ g := (nI_leI (a := 6) (b := g) (by omega) (by omega)).mp c_2
              refine lv_iinc (v := nI (h + 1)) (lv' := [(3, .int (nI (h + 1))), (4, .int (nI g)), (2, .int v2_20), (0, .ref (ad_m 0)), (1, .int 1)]) hx hb dX12_inHoles_79 hl (k := 1) rfl (nI_add h 1) (by decide) rfl (fun ls hl => ?_)
              refine lv_goto (tgt := 4) hx hb dX12_inHoles_82 (by decide) ?_
              exact ih_4 (h + 1) v2_20 (by omega) (by omega) (by rw [hv3, show g = 6 by omega, part6 _ (by omega)]; simp [sortedTo, inHoleP, egr, cgr]) _ _ hW _ (lv_sub hl [0, 2, 3, 4] rfl)
            · have c_2 : ¬ (6 ≤ g) := fun hz_ => c_2 ((nI_leI (a := 6) (b := g) (by omega) (by omega)).mpr hz_)
              refine lv_aload_n hx hb dX12_inHoles_27 rfl (lv_at hl 3 rfl) ?_
              refine va_get (v := .ref (ad_m 29)) (C := RX12) (T := TX12) (N := 75) (ci := 11) hx hb hts in_X12 hown hK.1 hW.1 0 rfl rfl 29 (by decide) (hts _ q1665) (fun _ h9 => h9) rfl dX12_inHoles_28 ?_
              refine lv_bipush (v := 6) hx hb dX12_inHoles_31 (by decide) ?_
              refine lv_aload_n hx hb dX12_inHoles_33 rfl (lv_at hl 3 rfl) ?_
              refine va_get (v := .int (nI lv)) (C := RX12) (T := TX12) (N := 75) (ci := 11) hx hb hts in_X12 hown hK.1 hW.1 0 rfl rfl 18 (by decide) (hts _ q1654) (fun _ h9 => h9) rfl dX12_inHoles_34 ?_
              refine lv_imul hx hb dX12_inHoles_37 ?_
              refine lv_topi (nm_r (e' := nI (6 * lv)) (pk_mul 6 lv) ?_)
              refine lv_iload_n hx hb dX12_inHoles_38 rfl (lv_at hl 1 rfl) ?_
              refine lv_iadd hx hb dX12_inHoles_39 ?_
              refine lv_topi (nm_r (e' := nI (6 * lv + h)) (nI_add (6 * lv) h) ?_)
              refine z_iald (v := nI gr) (f := g_m 29) (j := 6 * lv + h) hx hb hK.1 hW.1 16 0 rfl rfl (vp_in_nI (n := 6 * lv + h) (by omega) (by decide)) (nI_clamp (n := 6 * lv + h) (by omega)) (Eq.trans (TM.c29 hTM (j := h) (by omega)) egr) dX12_inHoles_40 ?_
              refine lv_iload hx hb dX12_inHoles_41 (lv_at hl 0 rfl) ?_
              refine lv_icmp_ne (tgt := 50) hx hb dX12_inHoles_43 (by decide) (fun c_3 => ?_) (fun c_3 => ?_)
              · have c_3 : ¬ (gr = g) := fun hz_ => c_3 ((nI_eq (a := gr) (b := g) (by omega) (by omega)).mpr hz_)
                refine lv_iconst (v := 0) hx hb dX12_inHoles_50 (by decide) ?_
                refine lv_iload_n hx hb dX12_inHoles_51 rfl (lv_at hl 4 rfl) ?_
                refine lv_icmp_ne (tgt := 73) hx hb dX12_inHoles_52 (by decide) (fun c_4 => ?_) (fun c_4 => by first | exact absurd c_4 (by decide) | exact absurd (by decide) c_4)
                refine lv_iinc (v := nI (g + 1)) (lv' := [(4, .int (nI (g + 1))), (3, .int (nI h)), (2, .int v2_20), (0, .ref (ad_m 0)), (1, .int 1)]) hx hb dX12_inHoles_73 hl (k := 0) rfl (nI_add g 1) (by decide) rfl (fun ls hl => ?_)
                refine lv_goto (tgt := 20) hx hb dX12_inHoles_76 (by decide) ?_
                exact ih_20 (g + 1) v2_20 (by omega) (by omega) (by rw [hv3]; simp [partTo, *]; try grind) _ _ hW _ (lv_sub hl [0, 1, 2, 3, 4] rfl)
              · have c_3 : gr = g := (nI_eq (a := gr) (b := g) (by omega) (by omega)).mp c_3
                refine lv_iconst (v := 1) hx hb dX12_inHoles_46 (by decide) ?_
                refine lv_goto (tgt := 51) hx hb dX12_inHoles_47 (by decide) ?_
                refine lv_iload_n hx hb dX12_inHoles_51 rfl (lv_at hl 4 rfl) ?_
                refine lv_icmp_ne (tgt := 73) hx hb dX12_inHoles_52 (by decide) (fun c_5 => by first | exact absurd c_5 (by decide) | exact absurd (by decide) c_5) (fun c_5 => ?_)
                refine lv_iload_n hx hb dX12_inHoles_55 rfl (lv_at hl 2 rfl) ?_
                refine lv_aload_n hx hb dX12_inHoles_56 rfl (lv_at hl 3 rfl) ?_
                refine va_get (v := .ref (ad_m 60)) (C := RX12) (T := TX12) (N := 75) (ci := 11) hx hb hts in_X12 hown hK.1 hW.1 0 rfl rfl 60 (by decide) (hts _ q1696) (fun _ h9 => h9) rfl dX12_inHoles_57 ?_
                refine lv_bipush (v := 6) hx hb dX12_inHoles_60 (by decide) ?_
                refine lv_bipush (v := 6) hx hb dX12_inHoles_62 (by decide) ?_
                refine lv_iload_n hx hb dX12_inHoles_64 rfl (lv_at hl 1 rfl) ?_
                refine lv_imul hx hb dX12_inHoles_65 ?_
                refine lv_topi (nm_r (e' := nI (6 * h)) (pk_mul 6 h) ?_)
                refine lv_iadd hx hb dX12_inHoles_66 ?_
                refine lv_topi (nm_r (e' := nI (6 + 6 * h)) (nI_add 6 (6 * h)) ?_)
                refine lv_iload hx hb dX12_inHoles_67 (lv_at hl 0 rfl) ?_
                refine lv_iadd hx hb dX12_inHoles_69 ?_
                refine lv_topi (nm_r (e' := nI (6 + 6 * h + g)) (nI_add (6 + 6 * h) g) ?_)
                refine z_iald (v := σ (30 + h) g) (f := g_m 60) (j := 6 + 6 * h + g) hx hb hK.1 hW.1 43 0 rfl rfl (vp_in_nI (n := 6 + 6 * h + g) (by omega) (by decide)) (nI_clamp (n := 6 + 6 * h + g) (by omega)) (MR.hole hRS.1 (a := h) (g := g) (by omega) (by omega)) dX12_inHoles_70 ?_
                refine lv_iadd hx hb dX12_inHoles_71 ?_
                refine lv_istore_n (lv' := [(2, .int (v2_20 + (σ (30 + h) g))), (4, .int (nI g)), (3, .int (nI h)), (0, .ref (ad_m 0)), (1, .int 1)]) hx hb dX12_inHoles_72 rfl hl (by decide) rfl (fun ls hl => ?_)
                refine lv_iinc (v := nI (g + 1)) (lv' := [(4, .int (nI (g + 1))), (2, .int (v2_20 + (σ (30 + h) g))), (3, .int (nI h)), (0, .ref (ad_m 0)), (1, .int 1)]) hx hb dX12_inHoles_73 hl (k := 1) rfl (nI_add g 1) (by decide) rfl (fun ls hl => ?_)
                refine lv_goto (tgt := 20) hx hb dX12_inHoles_76 (by decide) ?_
                exact ih_20 (g + 1) (v2_20 + (σ (30 + h) g)) (by omega) (by omega) (by rw [hv3]; simp [partTo, *]; try grind) _ _ hW _ (lv_sub hl [0, 2, 1, 3, 4] rfl)
        exact loop_20 _ 0 v2_4 (Nat.lt_succ_self _) (by omega) (by rw [hv2]; simp [partTo]) _ _ hW _ (lv_sub hl [0, 1, 2, 3, 4] rfl)
  exact loop_4 _ 0 0 (Nat.lt_succ_self _) (by omega) (by rfl) _ _ hW _ (lv_sub hl [0, 1, 2, 3] rfl)
set_option maxHeartbeats 4000000 in
set_option maxRecDepth 100000 in
theorem m_X12_cleanBy (l : Launch) (D : va_G) (Y : Nat → ClassId) (ad_m : Nat → Nat) (g_m : Nat → Nat → Int32) (w_m : Nat → Nat → Int64) (lv : Nat) (cn : Nat → Nat) (t : tab) (lw : Nat → Option LAW) (σ : tab) (B_ : Int) (sz : Nat) (hlv : lv < 2) (hTW : TW cn t lw) (hTM : TM lv cn t lw g_m) (hRS : RS cn σ (g_m 60) (g_m 62) (g_m 61 0)) (hWF : WF cn B_ σ) : Met l yX12_cleanBy (ws_ yX12_cleanBy cX12_cleanBy 2 (some .int)) ({ frames := 5, cells := 0, slots := 0, locals := 119 }) (zPc D Y [.ref (ad_m 0)] sz (wj []) (wj [(mw Y ad_m (sA 18 (fun _ => nI lv) g_m) w_m)])) (va_Qi (fun (r : Int32) (u : (Nat → Int32) × (Nat → Int32) × (Nat → Int32) × (Nat → Int32) × (Int32)) => r = cleanByP cn lw t σ ∧ True) (zB D (fun (u : (Nat → Int32) × (Nat → Int32) × (Nat → Int32) × (Nat → Int32) × (Int32)) => (wj [(mw Y ad_m (sA 63 u.2.1 (sA 60 u.1 (sA 58 (fun _ => u.2.2.2.2) (sA 57 u.2.2.2.1 (sA 56 u.2.2.1 (sA 18 (fun _ => nI lv) g_m)))))) w_m)])) (va_A (wj [(mw Y ad_m (sA 18 (fun _ => nI lv) g_m) w_m)]) sz)) (va_A (wj [(mw Y ad_m (sA 18 (fun _ => nI lv) g_m) w_m)]) sz)) 0 0 (va_A (wj [(mw Y ad_m (sA 18 (fun _ => nI lv) g_m) w_m)]) sz) := by
  refine Met.ofW (cc := cX12_cleanBy) (maxL := 2) (ret := (some .int)) (by decide) rfl ?_
  intro p e s m args below meth c s₁ B hml hv
  obtain ⟨rfl, hsz, hW, hR, hK, hA⟩ := zEntry hv
  subst hsz
  have hx := B.exec
  have hb := B.bytes
  have hr := B.returns
  have hlocks := B.notSynchronized
  have hts : ∀ w ∈ lw_all, w.before _ s = true := fun w h => atoms_spec (ws := (ws_ yX12_cleanBy cX12_cleanBy 2 (some .int))) B.pre w (List.mem_cons_of_mem _ h)
  have hown : s.vm.findClass RX12 = some m.cls := findClass_of_methodNamed B.named
  generalize hAe : va_A (wj [(mw Y ad_m (sA 18 (fun _ => nI lv) g_m) w_m)]) s.heap.size = A at hW hR hA ⊢
  have hl := lv_entry ([.ref (ad_m 0)]) (n := 2) (Nat.le_of_ble_eq_true rfl)
  rw [lg_entry_eq]
  generalize (lg_sl ([.ref (ad_m 0)]) ++ List.replicate (2 - (lg_sl ([.ref (ad_m 0)])).length) Slot.unset).toArray = ls at hl ⊢
  have hl : lv_has ls 2 [(0, .ref (ad_m 0))] := hl
  have hLT := hRS.2.2
  have hk8 := hTW.n2
  have hk6 := hTW.n1
  have hk60 := hTW.n0
  have hk5 := hTW.n3
  refine lv_iconst (v := 0) hx hb dX12_cleanBy_0 (by decide) ?_
  refine lv_istore_n (lv' := [(1, .int 0), (0, .ref (ad_m 0))]) hx hb dX12_cleanBy_1 rfl hl (by decide) rfl (fun ls hl => ?_)
  have loop_2 : ∀ (n : Nat) (k : Nat) (x_row_2 : Nat → Int32) (x_isLoaded_2 : Nat → Int32) (x_variables_2 : Nat → Int32) (x_pile_2 : Nat → Int32) (x_isBroken_2 : Int32) (τ : tab), 601 - k < n → (k ≤ 601) → (cleanFrom cn lw t (601 - k) k τ = cleanByP cn lw t σ) → (RS cn τ x_row_2 (g_m 62) (g_m 61 0)) → (WF cn B_ τ) → ∀ (H : Heap) (locs : List Loc), zW D A s.heap H locs (wj [(mw Y ad_m (sA 63 x_isLoaded_2 (sA 60 x_row_2 (sA 58 (fun _ => x_isBroken_2) (sA 57 x_pile_2 (sA 56 x_variables_2 (sA 18 (fun _ => nI lv) g_m)))))) w_m)]) → ∀ (ls : Array Slot), lv_has ls 2 [(1, .int (nI k)), (0, .ref (ad_m 0))] → W p l e (headSpec (ws_ yX12_cleanBy cX12_cleanBy 2 (some .int)) ({ frames := 5, cells := 0, slots := 0, locals := 119 })).room s m ([.ref (ad_m 0)] : List Value).toArray below meth c H locs 0 0 (MQ below (va_Qi (fun (r : Int32) (u : (Nat → Int32) × (Nat → Int32) × (Nat → Int32) × (Nat → Int32) × (Int32)) => r = cleanByP cn lw t σ ∧ True) (zB D (fun (u : (Nat → Int32) × (Nat → Int32) × (Nat → Int32) × (Nat → Int32) × (Int32)) => (wj [(mw Y ad_m (sA 63 u.2.1 (sA 60 u.1 (sA 58 (fun _ => u.2.2.2.2) (sA 57 u.2.2.2.1 (sA 56 u.2.2.1 (sA 18 (fun _ => nI lv) g_m)))))) w_m)])) A) A) ([.ref (ad_m 0)] : List Value).toArray s 0 0 A) (F0 m 2 ls []) := by
    intro n
    induction n with
    | zero =>
      intro k x_row_2 x_isLoaded_2 x_variables_2 x_pile_2 x_isBroken_2 τ hmz
      exact absurd hmz (Nat.not_lt_zero _)
    | succ n ih =>
      intro k x_row_2 x_isLoaded_2 x_variables_2 x_pile_2 x_isBroken_2 τ hm_2 hi hτ hRSr hWr H locs hW ls hl
      have ih_2 := ih
      clear ih
      refine lv_iload_n hx hb dX12_cleanBy_2 rfl (lv_at hl 0 rfl) ?_
      refine lv_sipush (v := 600) hx hb dX12_cleanBy_3 (by decide) ?_
      refine lv_icmp_gt (tgt := 29) hx hb dX12_cleanBy_6 (by decide) (fun c_1 => ?_) (fun c_1 => ?_)
      · have c_1 : 600 < k := (nI_ltI (a := 600) (b := k) (by omega) (by omega)).mp c_1
        refine lv_bipush (v := (-2)) hx hb dX12_cleanBy_29 (by decide) ?_
        refine z_ireti ((x_row_2, x_isLoaded_2, x_variables_2, x_pile_2, x_isBroken_2) : (Nat → Int32) × (Nat → Int32) × (Nat → Int32) × (Nat → Int32) × (Int32)) hx hb hr hlocks rfl hW rfl dX12_cleanBy_31 ?_
        show (-2) = cleanByP cn lw t σ ∧ True
        refine ⟨?_, trivial⟩
        rw [← hτ, show 601 - k = 0 by omega]
        rfl
      · have c_1 : ¬ (600 < k) := fun hz_ => c_1 ((nI_ltI (a := 600) (b := k) (by omega) (by omega)).mpr hz_)
        refine lv_aload_n hx hb dX12_cleanBy_9 rfl (lv_at hl 1 rfl) ?_
        refine lv_iconst (v := 0) hx hb dX12_cleanBy_10 (by decide) ?_
        refine z_calli (wc := wj [(mw Y ad_m (sA 63 x_isLoaded_2 (sA 60 x_row_2 (sA 58 (fun _ => x_isBroken_2) (sA 57 x_pile_2 (sA 56 x_variables_2 (sA 18 (fun _ => nI lv) g_m)))))) w_m)]) (wr := wj []) (va_runV (As := [.int 0]) (rest := []) ⟨hx, hb, hml, hown, hts⟩ (m_X12_isCleanNow_0 l D Y ad_m (sA 63 x_isLoaded_2 (sA 60 x_row_2 (sA 58 (fun _ => x_isBroken_2) (sA 57 x_pile_2 (sA 56 x_variables_2 (sA 18 (fun _ => nI lv) g_m)))))) w_m lv cn t lw τ B_ H.size (show lv < 2 from by exact hlv) (show TW cn t lw from by exact hTW) (show TM lv cn t lw (sA 63 x_isLoaded_2 (sA 60 x_row_2 (sA 58 (fun _ => x_isBroken_2) (sA 57 x_pile_2 (sA 56 x_variables_2 (sA 18 (fun _ => nI lv) g_m)))))) from by exact hTM) (show RS cn τ x_row_2 (g_m 62) (g_m 61 0) from by exact hRSr) (show WF cn B_ τ from by exact hWr)) (cwV 1 hts (lw_V q2142 q2144 qs102 q133 q2145) rfl rfl rfl (by decide +kernel) ⟨Nat.le_of_ble_eq_true rfl, Nat.le_of_ble_eq_true rfl⟩) (zPreV hK hW hR (wj_split3 (B := [(mw Y ad_m (sA 63 x_isLoaded_2 (sA 60 x_row_2 (sA 58 (fun _ => x_isBroken_2) (sA 57 x_pile_2 (sA 56 x_variables_2 (sA 18 (fun _ => nI lv) g_m)))))) w_m)]) (R := []) (C := [(mw Y ad_m (sA 63 x_isLoaded_2 (sA 60 x_row_2 (sA 58 (fun _ => x_isBroken_2) (sA 57 x_pile_2 (sA 56 x_variables_2 (sA 18 (fun _ => nI lv) g_m)))))) w_m)]) (O := []) (X := []) (List.Perm.refl _)) (va_recv hK.1 hW.1 (ci := 11) (q0 := 0) rfl rfl)) rfl rfl hl.1 rfl (lv_room (Nat.le_of_ble_eq_true rfl)) dX12_cleanBy_11 ⟨Nat.le_refl _, Nat.le_refl _⟩) hW hA (wj_split (B := [(mw Y ad_m (sA 63 x_isLoaded_2 (sA 60 x_row_2 (sA 58 (fun _ => x_isBroken_2) (sA 57 x_pile_2 (sA 56 x_variables_2 (sA 18 (fun _ => nI lv) g_m)))))) w_m)]) (C := [(mw Y ad_m (sA 63 x_isLoaded_2 (sA 60 x_row_2 (sA 58 (fun _ => x_isBroken_2) (sA 57 x_pile_2 (sA 56 x_variables_2 (sA 18 (fun _ => nI lv) g_m)))))) w_m)]) (R := []) (List.Perm.refl _)) (fun r_2 u H locs hp_3 hW => ?_)
        have hp_3 : r_2 = zb (cleanP cn τ false) := hp_3
        have hW : zW D A s.heap H locs (wj [(mw Y ad_m (sA 63 x_isLoaded_2 (sA 60 x_row_2 (sA 58 (fun _ => x_isBroken_2) (sA 57 x_pile_2 (sA 56 x_variables_2 (sA 18 (fun _ => nI lv) g_m)))))) w_m)]) := hW.join
        refine lv_if_eq (tgt := 19) hx hb dX12_cleanBy_14 (by decide) (fun c_4 => ?_) (fun c_4 => ?_)
        · have c_4 : ¬ (cleanP cn τ false) := zb_eq hp_3 c_4
          have hncl := c_4
          refine lv_aload_n hx hb dX12_cleanBy_19 rfl (lv_at hl 1 rfl) ?_
          refine z_callv (wc := wj [(mw Y ad_m (sA 63 x_isLoaded_2 (sA 60 x_row_2 (sA 58 (fun _ => x_isBroken_2) (sA 57 x_pile_2 (sA 56 x_variables_2 (sA 18 (fun _ => nI lv) g_m)))))) w_m)]) (wr := wj []) (va_runV (As := []) (rest := []) ⟨hx, hb, hml, hown, hts⟩ (m_X12_minuteGoes l D Y ad_m (sA 63 x_isLoaded_2 (sA 60 x_row_2 (sA 58 (fun _ => x_isBroken_2) (sA 57 x_pile_2 (sA 56 x_variables_2 (sA 18 (fun _ => nI lv) g_m)))))) w_m lv cn t lw τ B_ H.size (show lv < 2 from by exact hlv) (show TW cn t lw from by exact hTW) (show TM lv cn t lw (sA 63 x_isLoaded_2 (sA 60 x_row_2 (sA 58 (fun _ => x_isBroken_2) (sA 57 x_pile_2 (sA 56 x_variables_2 (sA 18 (fun _ => nI lv) g_m)))))) from by exact hTM) (show RS cn τ x_row_2 (g_m 62) (g_m 61 0) from by exact hRSr) (show WF cn B_ τ from by exact hWr)) (cwV 0 hts (lw_V q2043 q2045 qs89 q133 q2046) rfl rfl rfl (by decide +kernel) ⟨Nat.le_of_ble_eq_true rfl, Nat.le_of_ble_eq_true rfl⟩) (zPreV hK hW hR (wj_split3 (B := [(mw Y ad_m (sA 63 x_isLoaded_2 (sA 60 x_row_2 (sA 58 (fun _ => x_isBroken_2) (sA 57 x_pile_2 (sA 56 x_variables_2 (sA 18 (fun _ => nI lv) g_m)))))) w_m)]) (R := []) (C := [(mw Y ad_m (sA 63 x_isLoaded_2 (sA 60 x_row_2 (sA 58 (fun _ => x_isBroken_2) (sA 57 x_pile_2 (sA 56 x_variables_2 (sA 18 (fun _ => nI lv) g_m)))))) w_m)]) (O := []) (X := []) (List.Perm.refl _)) (va_recv hK.1 hW.1 (ci := 11) (q0 := 0) rfl rfl)) rfl rfl hl.1 rfl (lv_room (Nat.le_of_ble_eq_true rfl)) dX12_cleanBy_20 ⟨Nat.le_refl _, Nat.le_refl _⟩) hW hA (wj_split (B := [(mw Y ad_m (sA 63 x_isLoaded_2 (sA 60 x_row_2 (sA 58 (fun _ => x_isBroken_2) (sA 57 x_pile_2 (sA 56 x_variables_2 (sA 18 (fun _ => nI lv) g_m)))))) w_m)]) (C := [(mw Y ad_m (sA 63 x_isLoaded_2 (sA 60 x_row_2 (sA 58 (fun _ => x_isBroken_2) (sA 57 x_pile_2 (sA 56 x_variables_2 (sA 18 (fun _ => nI lv) g_m)))))) w_m)]) (R := []) (List.Perm.refl _)) (fun  u H locs hp_6 hW => ?_)
          obtain ⟨urow_7, uisLoaded_8, uvariables_9, upile_10, uisBroken_11⟩ := u
          have hp_6 : RS cn (minuteP cn lw t τ) urow_7 (g_m 62) (g_m 61 0) := hp_6
          have hW : zW D A s.heap H locs (wj [(mw Y ad_m (sA 63 uisLoaded_8 (sA 60 urow_7 (sA 58 (fun _ => uisBroken_11) (sA 57 upile_10 (sA 56 uvariables_9 (sA 18 (fun _ => nI lv) g_m)))))) w_m)]) := hW.join
          refine lv_iinc (v := nI (k + 1)) (lv' := [(1, .int (nI (k + 1))), (0, .ref (ad_m 0))]) hx hb dX12_cleanBy_23 hl (k := 0) rfl (nI_add k 1) (by decide) rfl (fun ls hl => ?_)
          refine lv_goto (tgt := 2) hx hb dX12_cleanBy_26 (by decide) ?_
          exact ih_2 (k + 1) urow_7 uisLoaded_8 uvariables_9 upile_10 uisBroken_11 (minuteP cn lw t τ) (by omega) (by omega) (by rw [← hτ, show 601 - k = (601 - (k + 1)) + 1 by omega]; exact (zi_f hncl _ _).symm) (by exact hp_6) (by exact WF.minute hTW hWr) _ _ hW _ (lv_sub hl [0, 1] rfl)
        · have c_4 : cleanP cn τ false := zb_ne hp_3 c_4
          have hcl := c_4
          refine lv_iload_n hx hb dX12_cleanBy_17 rfl (lv_at hl 0 rfl) ?_
          refine z_ireti ((x_row_2, x_isLoaded_2, x_variables_2, x_pile_2, x_isBroken_2) : (Nat → Int32) × (Nat → Int32) × (Nat → Int32) × (Nat → Int32) × (Int32)) hx hb hr hlocks rfl hW rfl dX12_cleanBy_18 ?_
          show (nI k) = cleanByP cn lw t σ ∧ True
          refine ⟨?_, trivial⟩
          rw [← hτ, show 601 - k = (600 - k) + 1 by omega]
          exact (zi_t hcl _ _).symm
  exact loop_2 _ 0 (g_m 60) (g_m 63) (g_m 56) (g_m 57) (g_m 58 0) σ (Nat.lt_succ_self _) (by omega) (by rfl) (by exact hRS) (by exact hWF) _ _ hW _ (lv_sub hl [0, 1] rfl)
set_option maxHeartbeats 4000000 in
set_option maxRecDepth 100000 in
theorem m_X12_feesOf (l : Launch) (D : va_G) (Y : Nat → ClassId) (ad_m : Nat → Nat) (g_m : Nat → Nat → Int32) (w_m : Nat → Nat → Int64) (lv : Nat) (cn : Nat → Nat) (t : tab) (lw : Nat → Option LAW) (se : Int32) (sz : Nat) (hlv : lv < 2) (hTW : TW cn t lw) (hTM : TM lv cn t lw g_m) : Met l yX12_feesOf (ws_ yX12_feesOf cX12_feesOf 4 (some .int)) ({ frames := 1, cells := 0, slots := 0, locals := 12 }) (zPc D Y [.ref (ad_m 0), .int se] sz (wj []) (wj [(mw Y ad_m (sA 18 (fun _ => nI lv) g_m) w_m)])) (va_Qi (fun (r : Int32) (u : Unit) => r = feesTo t se (cn 2)) (zB D (fun (u : Unit) => (wj [(mw Y ad_m (sA 18 (fun _ => nI lv) g_m) w_m)])) (va_A (wj [(mw Y ad_m (sA 18 (fun _ => nI lv) g_m) w_m)]) sz)) (va_A (wj [(mw Y ad_m (sA 18 (fun _ => nI lv) g_m) w_m)]) sz)) 0 0 (va_A (wj [(mw Y ad_m (sA 18 (fun _ => nI lv) g_m) w_m)]) sz) := by
  refine Met.ofW (cc := cX12_feesOf) (maxL := 4) (ret := (some .int)) (by decide) rfl ?_
  intro p e s m args below meth c s₁ B hml hv
  obtain ⟨rfl, hsz, hW, hR, hK, hA⟩ := zEntry hv
  subst hsz
  have hx := B.exec
  have hb := B.bytes
  have hr := B.returns
  have hlocks := B.notSynchronized
  have hts : ∀ w ∈ lw_all, w.before _ s = true := fun w h => atoms_spec (ws := (ws_ yX12_feesOf cX12_feesOf 4 (some .int))) B.pre w (List.mem_cons_of_mem _ h)
  have hown : s.vm.findClass RX12 = some m.cls := findClass_of_methodNamed B.named
  generalize hAe : va_A (wj [(mw Y ad_m (sA 18 (fun _ => nI lv) g_m) w_m)]) s.heap.size = A at hW hR hA ⊢
  have hl := lv_entry ([.ref (ad_m 0), .int se]) (n := 4) (Nat.le_of_ble_eq_true rfl)
  rw [lg_entry_eq]
  generalize (lg_sl ([.ref (ad_m 0), .int se]) ++ List.replicate (4 - (lg_sl ([.ref (ad_m 0), .int se])).length) Slot.unset).toArray = ls at hl ⊢
  have hl : lv_has ls 4 [(0, .ref (ad_m 0)), (1, .int se)] := hl
  have hk8 := hTW.n2
  have hk6 := hTW.n1
  have hk60 := hTW.n0
  have hk5 := hTW.n3
  refine lv_iconst (v := 0) hx hb dX12_feesOf_0 (by decide) ?_
  refine lv_istore_n (lv' := [(2, .int 0), (0, .ref (ad_m 0)), (1, .int se)]) hx hb dX12_feesOf_1 rfl hl (by decide) rfl (fun ls hl => ?_)
  refine lv_iconst (v := 0) hx hb dX12_feesOf_2 (by decide) ?_
  refine lv_istore_n (lv' := [(3, .int 0), (2, .int 0), (0, .ref (ad_m 0)), (1, .int se)]) hx hb dX12_feesOf_3 rfl hl (by decide) rfl (fun ls hl => ?_)
  have loop_4 : ∀ (n : Nat) (rr : Nat) (v2_4 : Int32), cn 2 - rr < n → (rr ≤ cn 2) → (v2_4 = feesTo t se rr) → ∀ (H : Heap) (locs : List Loc), zW D A s.heap H locs (wj [(mw Y ad_m (sA 18 (fun _ => nI lv) g_m) w_m)]) → ∀ (ls : Array Slot), lv_has ls 4 [(3, .int (nI rr)), (2, .int v2_4), (0, .ref (ad_m 0)), (1, .int se)] → W p l e (headSpec (ws_ yX12_feesOf cX12_feesOf 4 (some .int)) ({ frames := 1, cells := 0, slots := 0, locals := 12 })).room s m ([.ref (ad_m 0), .int se] : List Value).toArray below meth c H locs 0 0 (MQ below (va_Qi (fun (r : Int32) (u : Unit) => r = feesTo t se (cn 2)) (zB D (fun (u : Unit) => (wj [(mw Y ad_m (sA 18 (fun _ => nI lv) g_m) w_m)])) A) A) ([.ref (ad_m 0), .int se] : List Value).toArray s 0 0 A) (F0 m 4 ls []) := by
    intro n
    induction n with
    | zero =>
      intro rr v2_4 hmz
      exact absurd hmz (Nat.not_lt_zero _)
    | succ n ih =>
      intro rr v2_4 hm_4 hi hv2 H locs hW ls hl
      have ih_4 := ih
      clear ih
      refine lv_iload_n hx hb dX12_feesOf_4 rfl (lv_at hl 0 rfl) ?_
      refine lv_aload_n hx hb dX12_feesOf_5 rfl (lv_at hl 2 rfl) ?_
      refine va_get (v := .ref (ad_m 30)) (C := RX12) (T := TX12) (N := 75) (ci := 11) hx hb hts in_X12 hown hK.1 hW.1 0 rfl rfl 30 (by decide) (hts _ q1666) (fun _ h9 => h9) rfl dX12_feesOf_6 ?_
      refine lv_aload_n hx hb dX12_feesOf_9 rfl (lv_at hl 2 rfl) ?_
      refine va_get (v := .int (nI lv)) (C := RX12) (T := TX12) (N := 75) (ci := 11) hx hb hts in_X12 hown hK.1 hW.1 0 rfl rfl 18 (by decide) (hts _ q1654) (fun _ h9 => h9) rfl dX12_feesOf_10 ?_
      refine z_iald (v := nI (cn 2)) (f := g_m 30) (j := lv) hx hb hK.1 hW.1 17 0 rfl rfl (vp_in_nI (n := lv) (by omega) (by decide)) (nI_clamp (n := lv) (by omega)) (TM.c30 hTM) dX12_feesOf_13 ?_
      refine lv_icmp_ge (tgt := 49) hx hb dX12_feesOf_14 (by decide) (fun c_1 => ?_) (fun c_1 => ?_)
      · have c_1 : cn 2 ≤ rr := (nI_leI (a := cn 2) (b := rr) (by omega) (by omega)).mp c_1
        refine lv_iload_n hx hb dX12_feesOf_49 rfl (lv_at hl 1 rfl) ?_
        refine z_ireti (() : Unit) hx hb hr hlocks rfl hW rfl dX12_feesOf_50 ?_
        show v2_4 = feesTo t se (cn 2)
        have e : rr = cn 2 := by omega
        rw [hv2, e]
      · have c_1 : ¬ (cn 2 ≤ rr) := fun hz_ => c_1 ((nI_leI (a := cn 2) (b := rr) (by omega) (by omega)).mpr hz_)
        refine lv_iload_n hx hb dX12_feesOf_17 rfl (lv_at hl 3 rfl) ?_
        refine lv_iload_n hx hb dX12_feesOf_18 rfl (lv_at hl 0 rfl) ?_
        refine lv_ishr hx hb dX12_feesOf_19 ?_
        refine lv_iconst (v := 1) hx hb dX12_feesOf_20 (by decide) ?_
        refine lv_iand hx hb dX12_feesOf_21 ?_
        refine lv_iconst (v := 1) hx hb dX12_feesOf_22 (by decide) ?_
        refine lv_icmp_ne (tgt := 43) hx hb dX12_feesOf_23 (by decide) (fun c_2 => ?_) (fun c_2 => ?_)
        · have hbt := c_2
          refine lv_iinc (v := nI (rr + 1)) (lv' := [(3, .int (nI (rr + 1))), (2, .int v2_4), (0, .ref (ad_m 0)), (1, .int se)]) hx hb dX12_feesOf_43 hl (k := 0) rfl (nI_add rr 1) (by decide) rfl (fun ls hl => ?_)
          refine lv_goto (tgt := 4) hx hb dX12_feesOf_46 (by decide) ?_
          exact ih_4 (rr + 1) v2_4 (by omega) (by omega) (by first | exact (by rw [hv2]; exact (zi_t hbt _ _).symm) | exact (by rw [hv2]; exact (zi_f hbt _ _).symm)) _ _ hW _ (lv_sub hl [0, 1, 2, 3] rfl)
        · have hbt := c_2
          refine lv_iload_n hx hb dX12_feesOf_26 rfl (lv_at hl 1 rfl) ?_
          refine lv_aload_n hx hb dX12_feesOf_27 rfl (lv_at hl 2 rfl) ?_
          refine va_get (v := .ref (ad_m 34)) (C := RX12) (T := TX12) (N := 75) (ci := 11) hx hb hts in_X12 hown hK.1 hW.1 0 rfl rfl 34 (by decide) (hts _ q1670) (fun _ h9 => h9) rfl dX12_feesOf_28 ?_
          refine lv_bipush (v := 8) hx hb dX12_feesOf_31 (by decide) ?_
          refine lv_aload_n hx hb dX12_feesOf_33 rfl (lv_at hl 2 rfl) ?_
          refine va_get (v := .int (nI lv)) (C := RX12) (T := TX12) (N := 75) (ci := 11) hx hb hts in_X12 hown hK.1 hW.1 0 rfl rfl 18 (by decide) (hts _ q1654) (fun _ h9 => h9) rfl dX12_feesOf_34 ?_
          refine lv_imul hx hb dX12_feesOf_37 ?_
          refine lv_topi (nm_r (e' := nI (8 * lv)) (pk_mul 8 lv) ?_)
          refine lv_iload_n hx hb dX12_feesOf_38 rfl (lv_at hl 0 rfl) ?_
          refine lv_iadd hx hb dX12_feesOf_39 ?_
          refine lv_topi (nm_r (e' := nI (8 * lv + rr)) (nI_add (8 * lv) rr) ?_)
          refine z_iald (v := t 7 rr) (f := g_m 34) (j := 8 * lv + rr) hx hb hK.1 hW.1 21 0 rfl rfl (vp_in_nI (n := 8 * lv + rr) (by omega) (by decide)) (nI_clamp (n := 8 * lv + rr) (by omega)) (TM.c34 hTM (j := rr) (by omega)) dX12_feesOf_40 ?_
          refine lv_iadd hx hb dX12_feesOf_41 ?_
          refine lv_istore_n (lv' := [(2, .int (v2_4 + (t 7 rr))), (3, .int (nI rr)), (0, .ref (ad_m 0)), (1, .int se)]) hx hb dX12_feesOf_42 rfl hl (by decide) rfl (fun ls hl => ?_)
          refine lv_iinc (v := nI (rr + 1)) (lv' := [(3, .int (nI (rr + 1))), (2, .int (v2_4 + (t 7 rr))), (0, .ref (ad_m 0)), (1, .int se)]) hx hb dX12_feesOf_43 hl (k := 1) rfl (nI_add rr 1) (by decide) rfl (fun ls hl => ?_)
          refine lv_goto (tgt := 4) hx hb dX12_feesOf_46 (by decide) ?_
          exact ih_4 (rr + 1) (v2_4 + (t 7 rr)) (by omega) (by omega) (by first | exact (by rw [hv2]; exact (zi_t hbt _ _).symm) | exact (by rw [hv2]; exact (zi_f hbt _ _).symm)) _ _ hW _ (lv_sub hl [0, 1, 2, 3] rfl)
  exact loop_4 _ 0 0 (Nat.lt_succ_self _) (by omega) (by rfl) _ _ hW _ (lv_sub hl [0, 1, 2, 3] rfl)
set_option maxHeartbeats 4000000 in
set_option maxRecDepth 100000 in
theorem m_X12_paysOf (l : Launch) (D : va_G) (Y : Nat → ClassId) (ad_m : Nat → Nat) (g_m : Nat → Nat → Int32) (w_m : Nat → Nat → Int64) (lv : Nat) (cn : Nat → Nat) (t : tab) (lw : Nat → Option LAW) (se : Int32) (sz : Nat) (hlv : lv < 2) (hTW : TW cn t lw) (hTM : TM lv cn t lw g_m) : Met l yX12_paysOf (ws_ yX12_paysOf cX12_paysOf 4 (some .int)) ({ frames := 1, cells := 0, slots := 0, locals := 12 }) (zPc D Y [.ref (ad_m 0), .int se] sz (wj []) (wj [(mw Y ad_m (sA 18 (fun _ => nI lv) g_m) w_m)])) (va_Qi (fun (r : Int32) (u : Unit) => r = paysTo t se (cn 3)) (zB D (fun (u : Unit) => (wj [(mw Y ad_m (sA 18 (fun _ => nI lv) g_m) w_m)])) (va_A (wj [(mw Y ad_m (sA 18 (fun _ => nI lv) g_m) w_m)]) sz)) (va_A (wj [(mw Y ad_m (sA 18 (fun _ => nI lv) g_m) w_m)]) sz)) 0 0 (va_A (wj [(mw Y ad_m (sA 18 (fun _ => nI lv) g_m) w_m)]) sz) := by
  refine Met.ofW (cc := cX12_paysOf) (maxL := 4) (ret := (some .int)) (by decide) rfl ?_
  intro p e s m args below meth c s₁ B hml hv
  obtain ⟨rfl, hsz, hW, hR, hK, hA⟩ := zEntry hv
  subst hsz
  have hx := B.exec
  have hb := B.bytes
  have hr := B.returns
  have hlocks := B.notSynchronized
  have hts : ∀ w ∈ lw_all, w.before _ s = true := fun w h => atoms_spec (ws := (ws_ yX12_paysOf cX12_paysOf 4 (some .int))) B.pre w (List.mem_cons_of_mem _ h)
  have hown : s.vm.findClass RX12 = some m.cls := findClass_of_methodNamed B.named
  generalize hAe : va_A (wj [(mw Y ad_m (sA 18 (fun _ => nI lv) g_m) w_m)]) s.heap.size = A at hW hR hA ⊢
  have hl := lv_entry ([.ref (ad_m 0), .int se]) (n := 4) (Nat.le_of_ble_eq_true rfl)
  rw [lg_entry_eq]
  generalize (lg_sl ([.ref (ad_m 0), .int se]) ++ List.replicate (4 - (lg_sl ([.ref (ad_m 0), .int se])).length) Slot.unset).toArray = ls at hl ⊢
  have hl : lv_has ls 4 [(0, .ref (ad_m 0)), (1, .int se)] := hl
  have hk8 := hTW.n2
  have hk6 := hTW.n1
  have hk60 := hTW.n0
  have hk5 := hTW.n3
  refine lv_iconst (v := 0) hx hb dX12_paysOf_0 (by decide) ?_
  refine lv_istore_n (lv' := [(2, .int 0), (0, .ref (ad_m 0)), (1, .int se)]) hx hb dX12_paysOf_1 rfl hl (by decide) rfl (fun ls hl => ?_)
  refine lv_iconst (v := 0) hx hb dX12_paysOf_2 (by decide) ?_
  refine lv_istore_n (lv' := [(3, .int 0), (2, .int 0), (0, .ref (ad_m 0)), (1, .int se)]) hx hb dX12_paysOf_3 rfl hl (by decide) rfl (fun ls hl => ?_)
  have loop_4 : ∀ (n : Nat) (rr : Nat) (v2_4 : Int32), cn 3 - rr < n → (rr ≤ cn 3) → (v2_4 = paysTo t se rr) → ∀ (H : Heap) (locs : List Loc), zW D A s.heap H locs (wj [(mw Y ad_m (sA 18 (fun _ => nI lv) g_m) w_m)]) → ∀ (ls : Array Slot), lv_has ls 4 [(3, .int (nI rr)), (2, .int v2_4), (0, .ref (ad_m 0)), (1, .int se)] → W p l e (headSpec (ws_ yX12_paysOf cX12_paysOf 4 (some .int)) ({ frames := 1, cells := 0, slots := 0, locals := 12 })).room s m ([.ref (ad_m 0), .int se] : List Value).toArray below meth c H locs 0 0 (MQ below (va_Qi (fun (r : Int32) (u : Unit) => r = paysTo t se (cn 3)) (zB D (fun (u : Unit) => (wj [(mw Y ad_m (sA 18 (fun _ => nI lv) g_m) w_m)])) A) A) ([.ref (ad_m 0), .int se] : List Value).toArray s 0 0 A) (F0 m 4 ls []) := by
    intro n
    induction n with
    | zero =>
      intro rr v2_4 hmz
      exact absurd hmz (Nat.not_lt_zero _)
    | succ n ih =>
      intro rr v2_4 hm_4 hi hv2 H locs hW ls hl
      have ih_4 := ih
      clear ih
      refine lv_iload_n hx hb dX12_paysOf_4 rfl (lv_at hl 0 rfl) ?_
      refine lv_aload_n hx hb dX12_paysOf_5 rfl (lv_at hl 2 rfl) ?_
      refine va_get (v := .ref (ad_m 35)) (C := RX12) (T := TX12) (N := 75) (ci := 11) hx hb hts in_X12 hown hK.1 hW.1 0 rfl rfl 35 (by decide) (hts _ q1671) (fun _ h9 => h9) rfl dX12_paysOf_6 ?_
      refine lv_aload_n hx hb dX12_paysOf_9 rfl (lv_at hl 2 rfl) ?_
      refine va_get (v := .int (nI lv)) (C := RX12) (T := TX12) (N := 75) (ci := 11) hx hb hts in_X12 hown hK.1 hW.1 0 rfl rfl 18 (by decide) (hts _ q1654) (fun _ h9 => h9) rfl dX12_paysOf_10 ?_
      refine z_iald (v := nI (cn 3)) (f := g_m 35) (j := lv) hx hb hK.1 hW.1 22 0 rfl rfl (vp_in_nI (n := lv) (by omega) (by decide)) (nI_clamp (n := lv) (by omega)) (TM.c35 hTM) dX12_paysOf_13 ?_
      refine lv_icmp_ge (tgt := 48) hx hb dX12_paysOf_14 (by decide) (fun c_1 => ?_) (fun c_1 => ?_)
      · have c_1 : cn 3 ≤ rr := (nI_leI (a := cn 3) (b := rr) (by omega) (by omega)).mp c_1
        refine lv_iload_n hx hb dX12_paysOf_48 rfl (lv_at hl 1 rfl) ?_
        refine z_ireti (() : Unit) hx hb hr hlocks rfl hW rfl dX12_paysOf_49 ?_
        show v2_4 = paysTo t se (cn 3)
        have e : rr = cn 3 := by omega
        rw [hv2, e]
      · have c_1 : ¬ (cn 3 ≤ rr) := fun hz_ => c_1 ((nI_leI (a := cn 3) (b := rr) (by omega) (by omega)).mpr hz_)
        refine lv_iload_n hx hb dX12_paysOf_17 rfl (lv_at hl 3 rfl) ?_
        refine lv_iload_n hx hb dX12_paysOf_18 rfl (lv_at hl 0 rfl) ?_
        refine lv_ishr hx hb dX12_paysOf_19 ?_
        refine lv_iconst (v := 1) hx hb dX12_paysOf_20 (by decide) ?_
        refine lv_iand hx hb dX12_paysOf_21 ?_
        refine lv_iconst (v := 1) hx hb dX12_paysOf_22 (by decide) ?_
        refine lv_icmp_ne (tgt := 42) hx hb dX12_paysOf_23 (by decide) (fun c_2 => ?_) (fun c_2 => ?_)
        · have hbt := c_2
          refine lv_iinc (v := nI (rr + 1)) (lv' := [(3, .int (nI (rr + 1))), (2, .int v2_4), (0, .ref (ad_m 0)), (1, .int se)]) hx hb dX12_paysOf_42 hl (k := 0) rfl (nI_add rr 1) (by decide) rfl (fun ls hl => ?_)
          refine lv_goto (tgt := 4) hx hb dX12_paysOf_45 (by decide) ?_
          exact ih_4 (rr + 1) v2_4 (by omega) (by omega) (by first | exact (by rw [hv2]; exact (zi_t hbt _ _).symm) | exact (by rw [hv2]; exact (zi_f hbt _ _).symm)) _ _ hW _ (lv_sub hl [0, 1, 2, 3] rfl)
        · have hbt := c_2
          refine lv_iload_n hx hb dX12_paysOf_26 rfl (lv_at hl 1 rfl) ?_
          refine lv_aload_n hx hb dX12_paysOf_27 rfl (lv_at hl 2 rfl) ?_
          refine va_get (v := .ref (ad_m 36)) (C := RX12) (T := TX12) (N := 75) (ci := 11) hx hb hts in_X12 hown hK.1 hW.1 0 rfl rfl 36 (by decide) (hts _ q1672) (fun _ h9 => h9) rfl dX12_paysOf_28 ?_
          refine lv_iconst (v := 5) hx hb dX12_paysOf_31 (by decide) ?_
          refine lv_aload_n hx hb dX12_paysOf_32 rfl (lv_at hl 2 rfl) ?_
          refine va_get (v := .int (nI lv)) (C := RX12) (T := TX12) (N := 75) (ci := 11) hx hb hts in_X12 hown hK.1 hW.1 0 rfl rfl 18 (by decide) (hts _ q1654) (fun _ h9 => h9) rfl dX12_paysOf_33 ?_
          refine lv_imul hx hb dX12_paysOf_36 ?_
          refine lv_topi (nm_r (e' := nI (5 * lv)) (pk_mul 5 lv) ?_)
          refine lv_iload_n hx hb dX12_paysOf_37 rfl (lv_at hl 0 rfl) ?_
          refine lv_iadd hx hb dX12_paysOf_38 ?_
          refine lv_topi (nm_r (e' := nI (5 * lv + rr)) (nI_add (5 * lv) rr) ?_)
          refine z_iald (v := t 8 rr) (f := g_m 36) (j := 5 * lv + rr) hx hb hK.1 hW.1 23 0 rfl rfl (vp_in_nI (n := 5 * lv + rr) (by omega) (by decide)) (nI_clamp (n := 5 * lv + rr) (by omega)) (TM.c36 hTM (j := rr) (by omega)) dX12_paysOf_39 ?_
          refine lv_iadd hx hb dX12_paysOf_40 ?_
          refine lv_istore_n (lv' := [(2, .int (v2_4 + (t 8 rr))), (3, .int (nI rr)), (0, .ref (ad_m 0)), (1, .int se)]) hx hb dX12_paysOf_41 rfl hl (by decide) rfl (fun ls hl => ?_)
          refine lv_iinc (v := nI (rr + 1)) (lv' := [(3, .int (nI (rr + 1))), (2, .int (v2_4 + (t 8 rr))), (0, .ref (ad_m 0)), (1, .int se)]) hx hb dX12_paysOf_42 hl (k := 1) rfl (nI_add rr 1) (by decide) rfl (fun ls hl => ?_)
          refine lv_goto (tgt := 4) hx hb dX12_paysOf_45 (by decide) ?_
          exact ih_4 (rr + 1) (v2_4 + (t 8 rr)) (by omega) (by omega) (by first | exact (by rw [hv2]; exact (zi_t hbt _ _).symm) | exact (by rw [hv2]; exact (zi_f hbt _ _).symm)) _ _ hW _ (lv_sub hl [0, 1, 2, 3] rfl)
  exact loop_4 _ 0 0 (Nat.lt_succ_self _) (by omega) (by rfl) _ _ hW _ (lv_sub hl [0, 1, 2, 3] rfl)
