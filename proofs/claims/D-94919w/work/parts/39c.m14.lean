/-! the model reads: rows, flags, numbers, names -/
set_option maxRecDepth 100000
set_option maxHeartbeats 1000000 in
set_option maxRecDepth 100000 in
theorem m_X12_isF (l : Launch) (D : va_G) (Y : Nat → ClassId) (ad_m : Nat → Nat) (g_m : Nat → Nat → Int32) (w_m : Nat → Nat → Int64) (kd : Nat → Nat) (pl : Nat → Nat) (vl : Nat → Int32) (nv : Nat → Nat) (fl : Nat) (tt : Nat) (kk : Nat) (sz : Nat) (hTK : TKR kd pl vl nv (g_m 5) (g_m 6) (g_m 7) (w_m 8)) (ht4 : tt ≤ 400) (hok : fl = 0 → OKP kd tt) (hkk : kk < 100) (hfl : fl ≤ 2) : Met l yX12_is (ws_ yX12_is cX12_is 2 (some .boolean)) ({ frames := 1, cells := 0, slots := 0, locals := 12 }) (zPc D Y [.ref (ad_m 0), .int (nI kk)] sz (wj []) (wj [(mw Y ad_m (sA 13 (fun _ => nI fl) (sA 11 (fun _ => nI tt) g_m)) w_m)])) (va_Qi (fun (r : Int32) (u : Unit) => r = zb (fl = 0 ∧ kd tt = kk)) (zB D (fun (u : Unit) => (wj [(mw Y ad_m (sA 13 (fun _ => nI fl) (sA 11 (fun _ => nI tt) g_m)) w_m)])) (va_A (wj [(mw Y ad_m (sA 13 (fun _ => nI fl) (sA 11 (fun _ => nI tt) g_m)) w_m)]) sz)) (va_A (wj [(mw Y ad_m (sA 13 (fun _ => nI fl) (sA 11 (fun _ => nI tt) g_m)) w_m)]) sz)) 0 0 (va_A (wj [(mw Y ad_m (sA 13 (fun _ => nI fl) (sA 11 (fun _ => nI tt) g_m)) w_m)]) sz) := by
  refine Met.ofW (cc := cX12_is) (maxL := 2) (ret := (some .boolean)) (by decide) rfl ?_
  intro p e s m args below meth c s₁ B hml hv
  obtain ⟨rfl, hsz, hW, hR, hK, hA⟩ := zEntry hv
  subst hsz
  have hx := B.exec
  have hb := B.bytes
  have hr := B.returns
  have hlocks := B.notSynchronized
  have hts : ∀ w ∈ lw_all, w.before _ s = true := fun w h => atoms_spec (ws := (ws_ yX12_is cX12_is 2 (some .boolean))) B.pre w (List.mem_cons_of_mem _ h)
  have hown : s.vm.findClass RX12 = some m.cls := findClass_of_methodNamed B.named
  generalize hAe : va_A (wj [(mw Y ad_m (sA 13 (fun _ => nI fl) (sA 11 (fun _ => nI tt) g_m)) w_m)]) s.heap.size = A at hW hR hA ⊢
  have hl := lv_entry ([.ref (ad_m 0), .int (nI kk)]) (n := 2) (Nat.le_of_ble_eq_true rfl)
  rw [lg_entry_eq]
  generalize (lg_sl ([.ref (ad_m 0), .int (nI kk)]) ++ List.replicate (2 - (lg_sl ([.ref (ad_m 0), .int (nI kk)])).length) Slot.unset).toArray = ls at hl ⊢
  have hl : lv_has ls 2 [(0, .ref (ad_m 0)), (1, .int (nI kk))] := hl
  have hkb := hTK.kb tt
  refine lv_aload_n hx hb dX12_is_0 rfl (lv_at hl 0 rfl) ?_
  refine va_get (v := .int (nI fl)) (C := RX12) (T := TX12) (N := 75) (ci := 11) hx hb hts in_X12 hown hK.1 hW.1 0 rfl rfl 13 (by decide) (hts _ q1649) (fun _ h9 => h9) rfl dX12_is_1 ?_
  refine lv_if_ne (tgt := 24) hx hb dX12_is_4 (by decide) (fun c_1 => ?_) (fun c_1 => ?_)
  · have c_1 : ¬ (fl = 0) := fun hz_ => c_1 ((nI_eq (a := fl) (b := 0) (by omega) (by omega)).mpr hz_)
    refine lv_iconst (v := 0) hx hb dX12_is_24 (by decide) ?_
    refine z_ireti (() : Unit) hx hb hr hlocks rfl hW rfl dX12_is_25 ?_
    show 0 = zb (fl = 0 ∧ kd tt = kk)
    exact zb_0 (by omega)
  · have c_1 : fl = 0 := (nI_eq (a := fl) (b := 0) (by omega) (by omega)).mp c_1
    refine lv_aload_n hx hb dX12_is_7 rfl (lv_at hl 0 rfl) ?_
    refine va_get (v := .ref (ad_m 5)) (C := RX12) (T := TX12) (N := 75) (ci := 11) hx hb hts in_X12 hown hK.1 hW.1 0 rfl rfl 5 (by decide) (hts _ q1641) (fun _ h9 => h9) rfl dX12_is_8 ?_
    refine lv_aload_n hx hb dX12_is_11 rfl (lv_at hl 0 rfl) ?_
    refine va_get (v := .int (nI tt)) (C := RX12) (T := TX12) (N := 75) (ci := 11) hx hb hts in_X12 hown hK.1 hW.1 0 rfl rfl 11 (by decide) (hts _ q1647) (fun _ h9 => h9) rfl dX12_is_12 ?_
    refine z_iald (v := nI (kd tt)) (f := g_m 5) (j := tt) hx hb hK.1 hW.1 3 0 rfl rfl (vp_in_nI (n := tt) (by omega) (by decide)) (nI_clamp (n := tt) (by omega)) (hTK.k (j := tt) (by omega) (by first | assumption | exact hok (by omega) | exact hFM.okp (by omega))) dX12_is_15 ?_
    refine lv_iload_n hx hb dX12_is_16 rfl (lv_at hl 1 rfl) ?_
    refine lv_icmp_ne (tgt := 24) hx hb dX12_is_17 (by decide) (fun c_2 => ?_) (fun c_2 => ?_)
    · have c_2 : ¬ (kd tt = kk) := fun hz_ => c_2 ((nI_eq (a := kd tt) (b := kk) (by omega) (by omega)).mpr hz_)
      refine lv_iconst (v := 0) hx hb dX12_is_24 (by decide) ?_
      refine z_ireti (() : Unit) hx hb hr hlocks rfl hW rfl dX12_is_25 ?_
      show 0 = zb (fl = 0 ∧ kd tt = kk)
      exact zb_0 (by omega)
    · have c_2 : kd tt = kk := (nI_eq (a := kd tt) (b := kk) (by omega) (by omega)).mp c_2
      refine lv_iconst (v := 1) hx hb dX12_is_20 (by decide) ?_
      refine lv_goto (tgt := 25) hx hb dX12_is_21 (by decide) ?_
      refine z_ireti (() : Unit) hx hb hr hlocks rfl hW rfl dX12_is_25 ?_
      show 1 = zb (fl = 0 ∧ kd tt = kk)
      exact zb_1 (by omega)
set_option maxHeartbeats 1000000 in
set_option maxRecDepth 100000 in
theorem m_X12_fail (l : Launch) (D : va_G) (Y : Nat → ClassId) (ad_m : Nat → Nat) (g_m : Nat → Nat → Int32) (w_m : Nat → Nat → Int64) (kd : Nat → Nat) (pl : Nat → Nat) (vl : Nat → Int32) (nv : Nat → Nat) (x : PO PS) (fl : Nat) (fp : Nat) (tt : Nat) (wk : Nat) (wp : Nat) (kk : Nat) (sz : Nat) (hTK : TKR kd pl vl nv (g_m 5) (g_m 6) (g_m 7) (w_m 8)) (hFM : FM kd pl x fl fp tt wk wp) (hk : 1 ≤ kk ∧ kk ≤ 2) : Met l yX12_fail (ws_ yX12_fail cX12_fail 2 none) ({ frames := 1, cells := 0, slots := 0, locals := 12 }) (zPc D Y [.ref (ad_m 0), .int (nI kk)] sz (wj []) (wj [(mw Y ad_m (sA 16 (fun _ => nI wp) (sA 15 (fun _ => nI wk) (sA 14 (fun _ => nI fp) (sA 13 (fun _ => nI fl) (sA 11 (fun _ => nI tt) g_m))))) w_m)])) (va_Qv (fun (u : (Nat) × (Nat)) => FM kd pl (PO.bd x (failR kk)) u.1 u.2 tt wk wp) (zB D (fun (u : (Nat) × (Nat)) => (wj [(mw Y ad_m (sA 16 (fun _ => nI wp) (sA 15 (fun _ => nI wk) (sA 14 (fun _ => nI u.2) (sA 13 (fun _ => nI u.1) (sA 11 (fun _ => nI tt) g_m))))) w_m)])) (va_A (wj [(mw Y ad_m (sA 16 (fun _ => nI wp) (sA 15 (fun _ => nI wk) (sA 14 (fun _ => nI fp) (sA 13 (fun _ => nI fl) (sA 11 (fun _ => nI tt) g_m))))) w_m)]) sz)) (va_A (wj [(mw Y ad_m (sA 16 (fun _ => nI wp) (sA 15 (fun _ => nI wk) (sA 14 (fun _ => nI fp) (sA 13 (fun _ => nI fl) (sA 11 (fun _ => nI tt) g_m))))) w_m)]) sz)) 0 0 (va_A (wj [(mw Y ad_m (sA 16 (fun _ => nI wp) (sA 15 (fun _ => nI wk) (sA 14 (fun _ => nI fp) (sA 13 (fun _ => nI fl) (sA 11 (fun _ => nI tt) g_m))))) w_m)]) sz) := by
  refine Met.ofW (cc := cX12_fail) (maxL := 2) (ret := none) (by decide) rfl ?_
  intro p e s m args below meth c s₁ B hml hv
  obtain ⟨rfl, hsz, hW, hR, hK, hA⟩ := zEntry hv
  subst hsz
  have hx := B.exec
  have hb := B.bytes
  have hr := B.returns
  have hlocks := B.notSynchronized
  have hts : ∀ w ∈ lw_all, w.before _ s = true := fun w h => atoms_spec (ws := (ws_ yX12_fail cX12_fail 2 none)) B.pre w (List.mem_cons_of_mem _ h)
  have hown : s.vm.findClass RX12 = some m.cls := findClass_of_methodNamed B.named
  generalize hAe : va_A (wj [(mw Y ad_m (sA 16 (fun _ => nI wp) (sA 15 (fun _ => nI wk) (sA 14 (fun _ => nI fp) (sA 13 (fun _ => nI fl) (sA 11 (fun _ => nI tt) g_m))))) w_m)]) s.heap.size = A at hW hR hA ⊢
  have hl := lv_entry ([.ref (ad_m 0), .int (nI kk)]) (n := 2) (Nat.le_of_ble_eq_true rfl)
  rw [lg_entry_eq]
  generalize (lg_sl ([.ref (ad_m 0), .int (nI kk)]) ++ List.replicate (2 - (lg_sl ([.ref (ad_m 0), .int (nI kk)])).length) Slot.unset).toArray = ls at hl ⊢
  have hl : lv_has ls 2 [(0, .ref (ad_m 0)), (1, .int (nI kk))] := hl
  have hbnd := hFM.bnd
  have hkb := hTK.kb tt
  have hpb := hTK.pb tt
  refine lv_aload_n hx hb dX12_fail_0 rfl (lv_at hl 0 rfl) ?_
  refine va_get (v := .int (nI fl)) (C := RX12) (T := TX12) (N := 75) (ci := 11) hx hb hts in_X12 hown hK.1 hW.1 0 rfl rfl 13 (by decide) (hts _ q1649) (fun _ h9 => h9) rfl dX12_fail_1 ?_
  refine lv_if_le (tgt := 8) hx hb dX12_fail_4 (by decide) (fun c_1 => ?_) (fun c_1 => ?_)
  · have c_1 : fl ≤ 0 := (nI_leI (a := fl) (b := 0) (by omega) (by omega)).mp c_1
    refine lv_aload_n hx hb dX12_fail_8 rfl (lv_at hl 0 rfl) ?_
    refine lv_iload_n hx hb dX12_fail_9 rfl (lv_at hl 1 rfl) ?_
    refine z_put (v := .int (nI kk)) (C := RX12) (T := TX12) (N := 75) (ci := 11) (wn := (wj [(mw Y ad_m (sA 16 (fun _ => nI wp) (sA 15 (fun _ => nI wk) (sA 14 (fun _ => nI fp) (sA 13 (fun _ => nI kk) (sA 11 (fun _ => nI tt) g_m))))) w_m)])) hx hb hts in_X12 tyX12 tyX12_ok nmX12 hown hK.1 hW 0 rfl rfl 13 (by decide) (hts _ q1649) (fun _ h9 => h9) rfl rfl rfl (Nat.le_of_ble_eq_true rfl) dX12_fail_10 rfl (fun H locs hW => ?_)
    refine lv_aload_n hx hb dX12_fail_13 rfl (lv_at hl 0 rfl) ?_
    refine lv_aload_n hx hb dX12_fail_14 rfl (lv_at hl 0 rfl) ?_
    refine va_get (v := .ref (ad_m 6)) (C := RX12) (T := TX12) (N := 75) (ci := 11) hx hb hts in_X12 hown hK.1 hW.1 0 rfl rfl 6 (by decide) (hts _ q1642) (fun _ h9 => h9) rfl dX12_fail_15 ?_
    refine lv_aload_n hx hb dX12_fail_18 rfl (lv_at hl 0 rfl) ?_
    refine va_get (v := .int (nI tt)) (C := RX12) (T := TX12) (N := 75) (ci := 11) hx hb hts in_X12 hown hK.1 hW.1 0 rfl rfl 11 (by decide) (hts _ q1647) (fun _ h9 => h9) rfl dX12_fail_19 ?_
    refine z_iald (v := nI (pl tt)) (f := g_m 6) (j := tt) hx hb hK.1 hW.1 4 0 rfl rfl (vp_in_nI (n := tt) (by omega) (by decide)) (nI_clamp (n := tt) (by omega)) (hTK.p (j := tt) (by omega) (by first | assumption | exact hok (by omega) | exact hFM.okp (by omega))) dX12_fail_22 ?_
    refine z_put (v := .int (nI (pl tt))) (C := RX12) (T := TX12) (N := 75) (ci := 11) (wn := (wj [(mw Y ad_m (sA 16 (fun _ => nI wp) (sA 15 (fun _ => nI wk) (sA 14 (fun _ => nI (pl tt)) (sA 13 (fun _ => nI kk) (sA 11 (fun _ => nI tt) g_m))))) w_m)])) hx hb hts in_X12 tyX12 tyX12_ok nmX12 hown hK.1 hW 0 rfl rfl 14 (by decide) (hts _ q1650) (fun _ h9 => h9) rfl rfl rfl (Nat.le_of_ble_eq_true rfl) dX12_fail_23 rfl (fun H locs hW => ?_)
    refine z_vret ((kk, pl tt) : (Nat) × (Nat)) hx hb hr hlocks hW rfl dX12_fail_26 ?_
    show FM kd pl (PO.bd x (failR kk)) kk (pl tt) tt wk wp
    exact hFM.fail0 (by omega) hk (hTK.pb tt)
  · have c_1 : ¬ (fl ≤ 0) := fun hz_ => c_1 ((nI_leI (a := fl) (b := 0) (by omega) (by omega)).mpr hz_)
    refine z_vret ((fl, fp) : (Nat) × (Nat)) hx hb hr hlocks hW rfl dX12_fail_7 ?_
    show FM kd pl (PO.bd x (failR kk)) fl fp tt wk wp
    exact hFM.idle (by omega) _
set_option maxHeartbeats 1000000 in
set_option maxRecDepth 100000 in
theorem m_X12_goesOn (l : Launch) (D : va_G) (Y : Nat → ClassId) (ad_m : Nat → Nat) (g_m : Nat → Nat → Int32) (w_m : Nat → Nat → Int64) (kd : Nat → Nat) (pl : Nat → Nat) (vl : Nat → Int32) (nv : Nat → Nat) (x : PO PS) (fl : Nat) (fp : Nat) (tt : Nat) (wk : Nat) (wp : Nat) (sz : Nat) (hTK : TKR kd pl vl nv (g_m 5) (g_m 6) (g_m 7) (w_m 8)) (hFM : FM kd pl x fl fp tt wk wp) (hgo : fl = 0 → kd tt ≠ 0 ∧ kd tt ≠ 3) : Met l yX12_goesOn (ws_ yX12_goesOn cX12_goesOn 1 none) ({ frames := 2, cells := 0, slots := 0, locals := 33 }) (zPc D Y [.ref (ad_m 0)] sz (wj []) (wj [(mw Y ad_m (sA 16 (fun _ => nI wp) (sA 15 (fun _ => nI wk) (sA 14 (fun _ => nI fp) (sA 13 (fun _ => nI fl) (sA 11 (fun _ => nI tt) g_m))))) w_m)])) (va_Qv (fun (u : (Nat) × (Nat) × (Nat)) => FM kd pl (PO.bd x passR) u.1 u.2.1 u.2.2 wk wp) (zB D (fun (u : (Nat) × (Nat) × (Nat)) => (wj [(mw Y ad_m (sA 16 (fun _ => nI wp) (sA 15 (fun _ => nI wk) (sA 14 (fun _ => nI u.2.1) (sA 13 (fun _ => nI u.1) (sA 11 (fun _ => nI u.2.2) g_m))))) w_m)])) (va_A (wj [(mw Y ad_m (sA 16 (fun _ => nI wp) (sA 15 (fun _ => nI wk) (sA 14 (fun _ => nI fp) (sA 13 (fun _ => nI fl) (sA 11 (fun _ => nI tt) g_m))))) w_m)]) sz)) (va_A (wj [(mw Y ad_m (sA 16 (fun _ => nI wp) (sA 15 (fun _ => nI wk) (sA 14 (fun _ => nI fp) (sA 13 (fun _ => nI fl) (sA 11 (fun _ => nI tt) g_m))))) w_m)]) sz)) 0 0 (va_A (wj [(mw Y ad_m (sA 16 (fun _ => nI wp) (sA 15 (fun _ => nI wk) (sA 14 (fun _ => nI fp) (sA 13 (fun _ => nI fl) (sA 11 (fun _ => nI tt) g_m))))) w_m)]) sz) := by
  refine Met.ofW (cc := cX12_goesOn) (maxL := 1) (ret := none) (by decide) rfl ?_
  intro p e s m args below meth c s₁ B hml hv
  obtain ⟨rfl, hsz, hW, hR, hK, hA⟩ := zEntry hv
  subst hsz
  have hx := B.exec
  have hb := B.bytes
  have hr := B.returns
  have hlocks := B.notSynchronized
  have hts : ∀ w ∈ lw_all, w.before _ s = true := fun w h => atoms_spec (ws := (ws_ yX12_goesOn cX12_goesOn 1 none)) B.pre w (List.mem_cons_of_mem _ h)
  have hown : s.vm.findClass RX12 = some m.cls := findClass_of_methodNamed B.named
  generalize hAe : va_A (wj [(mw Y ad_m (sA 16 (fun _ => nI wp) (sA 15 (fun _ => nI wk) (sA 14 (fun _ => nI fp) (sA 13 (fun _ => nI fl) (sA 11 (fun _ => nI tt) g_m))))) w_m)]) s.heap.size = A at hW hR hA ⊢
  have hl := lv_entry ([.ref (ad_m 0)]) (n := 1) (Nat.le_of_ble_eq_true rfl)
  rw [lg_entry_eq]
  generalize (lg_sl ([.ref (ad_m 0)]) ++ List.replicate (1 - (lg_sl ([.ref (ad_m 0)])).length) Slot.unset).toArray = ls at hl ⊢
  have hl : lv_has ls 1 [(0, .ref (ad_m 0))] := hl
  have hbnd := hFM.bnd
  have hkb := hTK.kb tt
  have hpb := hTK.pb tt
  refine lv_aload_n hx hb dX12_goesOn_0 rfl (lv_at hl 0 rfl) ?_
  refine va_get (v := .int (nI tt)) (C := RX12) (T := TX12) (N := 75) (ci := 11) hx hb hts in_X12 hown hK.1 hW.1 0 rfl rfl 11 (by decide) (hts _ q1647) (fun _ h9 => h9) rfl dX12_goesOn_1 ?_
  refine lv_sipush (v := 400) hx hb dX12_goesOn_4 (by decide) ?_
  refine lv_icmp_ne (tgt := 18) hx hb dX12_goesOn_7 (by decide) (fun c_1 => ?_) (fun c_1 => ?_)
  · have c_1 : ¬ (tt = 400) := fun hz_ => c_1 ((nI_eq (a := tt) (b := 400) (by omega) (by omega)).mpr hz_)
    refine lv_aload_n hx hb dX12_goesOn_18 rfl (lv_at hl 0 rfl) ?_
    refine lv_dup hx hb dX12_goesOn_19 rfl ?_
    refine va_get (v := .int (nI tt)) (C := RX12) (T := TX12) (N := 75) (ci := 11) hx hb hts in_X12 hown hK.1 hW.1 0 rfl rfl 11 (by decide) (hts _ q1647) (fun _ h9 => h9) rfl dX12_goesOn_20 ?_
    refine lv_iconst (v := 1) hx hb dX12_goesOn_23 (by decide) ?_
    refine lv_iadd hx hb dX12_goesOn_24 ?_
    refine lv_topi (nm_r (e' := nI (tt + 1)) (nI_add tt 1) ?_)
    refine z_put (v := .int (nI (tt + 1))) (C := RX12) (T := TX12) (N := 75) (ci := 11) (wn := (wj [(mw Y ad_m (sA 16 (fun _ => nI wp) (sA 15 (fun _ => nI wk) (sA 14 (fun _ => nI fp) (sA 13 (fun _ => nI fl) (sA 11 (fun _ => nI (tt + 1)) g_m))))) w_m)])) hx hb hts in_X12 tyX12 tyX12_ok nmX12 hown hK.1 hW 0 rfl rfl 11 (by decide) (hts _ q1647) (fun _ h9 => h9) rfl rfl rfl (Nat.le_of_ble_eq_true rfl) dX12_goesOn_25 rfl (fun H locs hW => ?_)
    refine z_vret ((fl, fp, tt + 1) : (Nat) × (Nat) × (Nat)) hx hb hr hlocks hW rfl dX12_goesOn_28 ?_
    show FM kd pl (PO.bd x passR) fl fp (tt + 1) wk wp
    exact hFM.pass1 (by omega) hgo
  · have c_1 : tt = 400 := (nI_eq (a := tt) (b := 400) (by omega) (by omega)).mp c_1
    refine lv_aload_n hx hb dX12_goesOn_10 rfl (lv_at hl 0 rfl) ?_
    refine lv_iconst (v := 2) hx hb dX12_goesOn_11 (by decide) ?_
    refine z_callv (wc := wj [(mw Y ad_m (sA 16 (fun _ => nI wp) (sA 15 (fun _ => nI wk) (sA 14 (fun _ => nI fp) (sA 13 (fun _ => nI fl) (sA 11 (fun _ => nI tt) g_m))))) w_m)]) (wr := wj []) (va_runV (As := [.int 2]) (rest := []) ⟨hx, hb, hml, hown, hts⟩ (m_X12_fail l D Y ad_m (sA 16 (fun _ => nI wp) (sA 15 (fun _ => nI wk) (sA 14 (fun _ => nI fp) (sA 13 (fun _ => nI fl) (sA 11 (fun _ => nI tt) g_m))))) w_m kd pl vl nv x fl fp tt wk wp 2 s.heap.size (show TKR kd pl vl nv (g_m 5) (g_m 6) (g_m 7) (w_m 8) from by first | assumption | omega | grind) (show FM kd pl x fl fp tt wk wp from by first | assumption | omega | grind) (show 1 ≤ 2 ∧ 2 ≤ 2 from by first | assumption | omega | grind)) (cwV 1 hts (lw_V q1913 q1915 qs65 q133 q1916) rfl rfl rfl (by decide +kernel) ⟨Nat.le_of_ble_eq_true rfl, Nat.le_of_ble_eq_true rfl⟩) (zPreV hK hW hR (wj_split3 (B := [(mw Y ad_m (sA 16 (fun _ => nI wp) (sA 15 (fun _ => nI wk) (sA 14 (fun _ => nI fp) (sA 13 (fun _ => nI fl) (sA 11 (fun _ => nI tt) g_m))))) w_m)]) (R := []) (C := [(mw Y ad_m (sA 16 (fun _ => nI wp) (sA 15 (fun _ => nI wk) (sA 14 (fun _ => nI fp) (sA 13 (fun _ => nI fl) (sA 11 (fun _ => nI tt) g_m))))) w_m)]) (O := []) (X := []) (List.Perm.refl _)) (va_recv hK.1 hW.1 (ci := 11) (q0 := 0) rfl rfl)) rfl rfl hl.1 rfl (lv_room (Nat.le_of_ble_eq_true rfl)) dX12_goesOn_12 ⟨Nat.le_refl _, Nat.le_refl _⟩) hW hA (wj_split (B := [(mw Y ad_m (sA 16 (fun _ => nI wp) (sA 15 (fun _ => nI wk) (sA 14 (fun _ => nI fp) (sA 13 (fun _ => nI fl) (sA 11 (fun _ => nI tt) g_m))))) w_m)]) (C := [(mw Y ad_m (sA 16 (fun _ => nI wp) (sA 15 (fun _ => nI wk) (sA 14 (fun _ => nI fp) (sA 13 (fun _ => nI fl) (sA 11 (fun _ => nI tt) g_m))))) w_m)]) (R := []) (List.Perm.refl _)) (fun  u H locs hp_3 hW => ?_)
    obtain ⟨ufault_4, ufaultPlace_5⟩ := u
    have hp_3 : FM kd pl (PO.bd x (failR 2)) ufault_4 ufaultPlace_5 tt wk wp := hp_3
    have hW : zW D A s.heap H locs (wj [(mw Y ad_m (sA 16 (fun _ => nI wp) (sA 15 (fun _ => nI wk) (sA 14 (fun _ => nI ufaultPlace_5) (sA 13 (fun _ => nI ufault_4) (sA 11 (fun _ => nI tt) g_m))))) w_m)]) := hW.join
    refine lv_goto (tgt := 28) hx hb dX12_goesOn_15 (by decide) ?_
    refine z_vret ((ufault_4, ufaultPlace_5, tt) : (Nat) × (Nat) × (Nat)) hx hb hr hlocks hW rfl dX12_goesOn_28 ?_
    show FM kd pl (PO.bd x passR) ufault_4 ufaultPlace_5 tt wk wp
    rw [← hFM.pass4 (by omega)]; exact hp_3
set_option maxHeartbeats 1000000 in
set_option maxRecDepth 100000 in
theorem m_X12_must (l : Launch) (D : va_G) (Y : Nat → ClassId) (ad_m : Nat → Nat) (g_m : Nat → Nat → Int32) (w_m : Nat → Nat → Int64) (kd : Nat → Nat) (pl : Nat → Nat) (vl : Nat → Int32) (nv : Nat → Nat) (x : PO PS) (fl : Nat) (fp : Nat) (tt : Nat) (wk : Nat) (wp : Nat) (kk : Nat) (sz : Nat) (hTK : TKR kd pl vl nv (g_m 5) (g_m 6) (g_m 7) (w_m 8)) (hFM : FM kd pl x fl fp tt wk wp) (hkk : kk < 100 ∧ kk ≠ 0 ∧ kk ≠ 3) : Met l yX12_must (ws_ yX12_must cX12_must 2 none) ({ frames := 3, cells := 0, slots := 0, locals := 53 }) (zPc D Y [.ref (ad_m 0), .int (nI kk)] sz (wj []) (wj [(mw Y ad_m (sA 16 (fun _ => nI wp) (sA 15 (fun _ => nI wk) (sA 14 (fun _ => nI fp) (sA 13 (fun _ => nI fl) (sA 11 (fun _ => nI tt) g_m))))) w_m)])) (va_Qv (fun (u : (Nat) × (Nat) × (Nat)) => FM kd pl (PO.bd x (mustR kd kk)) u.1 u.2.1 u.2.2 wk wp) (zB D (fun (u : (Nat) × (Nat) × (Nat)) => (wj [(mw Y ad_m (sA 16 (fun _ => nI wp) (sA 15 (fun _ => nI wk) (sA 14 (fun _ => nI u.2.1) (sA 13 (fun _ => nI u.1) (sA 11 (fun _ => nI u.2.2) g_m))))) w_m)])) (va_A (wj [(mw Y ad_m (sA 16 (fun _ => nI wp) (sA 15 (fun _ => nI wk) (sA 14 (fun _ => nI fp) (sA 13 (fun _ => nI fl) (sA 11 (fun _ => nI tt) g_m))))) w_m)]) sz)) (va_A (wj [(mw Y ad_m (sA 16 (fun _ => nI wp) (sA 15 (fun _ => nI wk) (sA 14 (fun _ => nI fp) (sA 13 (fun _ => nI fl) (sA 11 (fun _ => nI tt) g_m))))) w_m)]) sz)) 0 0 (va_A (wj [(mw Y ad_m (sA 16 (fun _ => nI wp) (sA 15 (fun _ => nI wk) (sA 14 (fun _ => nI fp) (sA 13 (fun _ => nI fl) (sA 11 (fun _ => nI tt) g_m))))) w_m)]) sz) := by
  refine Met.ofW (cc := cX12_must) (maxL := 2) (ret := none) (by decide) rfl ?_
  intro p e s m args below meth c s₁ B hml hv
  obtain ⟨rfl, hsz, hW, hR, hK, hA⟩ := zEntry hv
  subst hsz
  have hx := B.exec
  have hb := B.bytes
  have hr := B.returns
  have hlocks := B.notSynchronized
  have hts : ∀ w ∈ lw_all, w.before _ s = true := fun w h => atoms_spec (ws := (ws_ yX12_must cX12_must 2 none)) B.pre w (List.mem_cons_of_mem _ h)
  have hown : s.vm.findClass RX12 = some m.cls := findClass_of_methodNamed B.named
  generalize hAe : va_A (wj [(mw Y ad_m (sA 16 (fun _ => nI wp) (sA 15 (fun _ => nI wk) (sA 14 (fun _ => nI fp) (sA 13 (fun _ => nI fl) (sA 11 (fun _ => nI tt) g_m))))) w_m)]) s.heap.size = A at hW hR hA ⊢
  have hl := lv_entry ([.ref (ad_m 0), .int (nI kk)]) (n := 2) (Nat.le_of_ble_eq_true rfl)
  rw [lg_entry_eq]
  generalize (lg_sl ([.ref (ad_m 0), .int (nI kk)]) ++ List.replicate (2 - (lg_sl ([.ref (ad_m 0), .int (nI kk)])).length) Slot.unset).toArray = ls at hl ⊢
  have hl : lv_has ls 2 [(0, .ref (ad_m 0)), (1, .int (nI kk))] := hl
  have hbnd := hFM.bnd
  have hkb := hTK.kb tt
  have hpb := hTK.pb tt
  refine lv_aload_n hx hb dX12_must_0 rfl (lv_at hl 0 rfl) ?_
  refine lv_iload_n hx hb dX12_must_1 rfl (lv_at hl 1 rfl) ?_
  refine z_calli (wc := wj [(mw Y ad_m (sA 16 (fun _ => nI wp) (sA 15 (fun _ => nI wk) (sA 14 (fun _ => nI fp) (sA 13 (fun _ => nI fl) (sA 11 (fun _ => nI tt) g_m))))) w_m)]) (wr := wj []) (va_runV (As := [.int (nI kk)]) (rest := []) ⟨hx, hb, hml, hown, hts⟩ (m_X12_isF l D Y ad_m (sA 16 (fun _ => nI wp) (sA 15 (fun _ => nI wk) (sA 14 (fun _ => nI fp) (sA 13 (fun _ => nI fl) (sA 11 (fun _ => nI tt) g_m))))) w_m kd pl vl nv fl tt kk s.heap.size (show TKR kd pl vl nv (g_m 5) (g_m 6) (g_m 7) (w_m 8) from by first | assumption | omega | grind) (show tt ≤ 400 from by first | assumption | omega | grind) (show fl = 0 → OKP kd tt from by exact fun z => FM.okp (by assumption) z) (show kk < 100 from by first | assumption | omega | grind) (show fl ≤ 2 from by first | assumption | omega | grind)) (cwV 1 hts (lw_V q1901 q1903 qs62 q133 q1904) rfl rfl rfl (by decide +kernel) ⟨Nat.le_of_ble_eq_true rfl, Nat.le_of_ble_eq_true rfl⟩) (zPreV hK hW hR (wj_split3 (B := [(mw Y ad_m (sA 16 (fun _ => nI wp) (sA 15 (fun _ => nI wk) (sA 14 (fun _ => nI fp) (sA 13 (fun _ => nI fl) (sA 11 (fun _ => nI tt) g_m))))) w_m)]) (R := []) (C := [(mw Y ad_m (sA 16 (fun _ => nI wp) (sA 15 (fun _ => nI wk) (sA 14 (fun _ => nI fp) (sA 13 (fun _ => nI fl) (sA 11 (fun _ => nI tt) g_m))))) w_m)]) (O := []) (X := []) (List.Perm.refl _)) (va_recv hK.1 hW.1 (ci := 11) (q0 := 0) rfl rfl)) rfl rfl hl.1 rfl (lv_room (Nat.le_of_ble_eq_true rfl)) dX12_must_2 ⟨Nat.le_refl _, Nat.le_refl _⟩) hW hA (wj_split (B := [(mw Y ad_m (sA 16 (fun _ => nI wp) (sA 15 (fun _ => nI wk) (sA 14 (fun _ => nI fp) (sA 13 (fun _ => nI fl) (sA 11 (fun _ => nI tt) g_m))))) w_m)]) (C := [(mw Y ad_m (sA 16 (fun _ => nI wp) (sA 15 (fun _ => nI wk) (sA 14 (fun _ => nI fp) (sA 13 (fun _ => nI fl) (sA 11 (fun _ => nI tt) g_m))))) w_m)]) (R := []) (List.Perm.refl _)) (fun r_1 u H locs hp_2 hW => ?_)
  have hp_2 : r_1 = zb (fl = 0 ∧ kd tt = kk) := hp_2
  have hW : zW D A s.heap H locs (wj [(mw Y ad_m (sA 16 (fun _ => nI wp) (sA 15 (fun _ => nI wk) (sA 14 (fun _ => nI fp) (sA 13 (fun _ => nI fl) (sA 11 (fun _ => nI tt) g_m))))) w_m)]) := hW.join
  refine lv_if_eq (tgt := 15) hx hb dX12_must_5 (by decide) (fun c_3 => ?_) (fun c_3 => ?_)
  · have c_3 : ¬ (fl = 0 ∧ kd tt = kk) := zb_eq hp_2 c_3
    refine lv_aload_n hx hb dX12_must_15 rfl (lv_at hl 0 rfl) ?_
    refine lv_iconst (v := 1) hx hb dX12_must_16 (by decide) ?_
    refine z_callv (wc := wj [(mw Y ad_m (sA 16 (fun _ => nI wp) (sA 15 (fun _ => nI wk) (sA 14 (fun _ => nI fp) (sA 13 (fun _ => nI fl) (sA 11 (fun _ => nI tt) g_m))))) w_m)]) (wr := wj []) (va_runV (As := [.int 1]) (rest := []) ⟨hx, hb, hml, hown, hts⟩ (m_X12_fail l D Y ad_m (sA 16 (fun _ => nI wp) (sA 15 (fun _ => nI wk) (sA 14 (fun _ => nI fp) (sA 13 (fun _ => nI fl) (sA 11 (fun _ => nI tt) g_m))))) w_m kd pl vl nv x fl fp tt wk wp 1 H.size (show TKR kd pl vl nv (g_m 5) (g_m 6) (g_m 7) (w_m 8) from by first | assumption | omega | grind) (show FM kd pl x fl fp tt wk wp from by first | assumption | omega | grind) (show 1 ≤ 1 ∧ 1 ≤ 2 from by first | assumption | omega | grind)) (cwV 1 hts (lw_V q1913 q1915 qs65 q133 q1916) rfl rfl rfl (by decide +kernel) ⟨Nat.le_of_ble_eq_true rfl, Nat.le_of_ble_eq_true rfl⟩) (zPreV hK hW hR (wj_split3 (B := [(mw Y ad_m (sA 16 (fun _ => nI wp) (sA 15 (fun _ => nI wk) (sA 14 (fun _ => nI fp) (sA 13 (fun _ => nI fl) (sA 11 (fun _ => nI tt) g_m))))) w_m)]) (R := []) (C := [(mw Y ad_m (sA 16 (fun _ => nI wp) (sA 15 (fun _ => nI wk) (sA 14 (fun _ => nI fp) (sA 13 (fun _ => nI fl) (sA 11 (fun _ => nI tt) g_m))))) w_m)]) (O := []) (X := []) (List.Perm.refl _)) (va_recv hK.1 hW.1 (ci := 11) (q0 := 0) rfl rfl)) rfl rfl hl.1 rfl (lv_room (Nat.le_of_ble_eq_true rfl)) dX12_must_17 ⟨Nat.le_refl _, Nat.le_refl _⟩) hW hA (wj_split (B := [(mw Y ad_m (sA 16 (fun _ => nI wp) (sA 15 (fun _ => nI wk) (sA 14 (fun _ => nI fp) (sA 13 (fun _ => nI fl) (sA 11 (fun _ => nI tt) g_m))))) w_m)]) (C := [(mw Y ad_m (sA 16 (fun _ => nI wp) (sA 15 (fun _ => nI wk) (sA 14 (fun _ => nI fp) (sA 13 (fun _ => nI fl) (sA 11 (fun _ => nI tt) g_m))))) w_m)]) (R := []) (List.Perm.refl _)) (fun  u H locs hp_5 hW => ?_)
    obtain ⟨ufault_6, ufaultPlace_7⟩ := u
    have hp_5 : FM kd pl (PO.bd x (failR 1)) ufault_6 ufaultPlace_7 tt wk wp := hp_5
    have hW : zW D A s.heap H locs (wj [(mw Y ad_m (sA 16 (fun _ => nI wp) (sA 15 (fun _ => nI wk) (sA 14 (fun _ => nI ufaultPlace_7) (sA 13 (fun _ => nI ufault_6) (sA 11 (fun _ => nI tt) g_m))))) w_m)]) := hW.join
    refine z_vret ((ufault_6, ufaultPlace_7, tt) : (Nat) × (Nat) × (Nat)) hx hb hr hlocks hW rfl dX12_must_20 ?_
    show FM kd pl (PO.bd x (mustR kd kk)) ufault_6 ufaultPlace_7 tt wk wp
    rw [← hFM.must0 c_3]; exact hp_5
  · have c_3 : fl = 0 ∧ kd tt = kk := zb_ne hp_2 c_3
    refine lv_aload_n hx hb dX12_must_8 rfl (lv_at hl 0 rfl) ?_
    refine z_callv (wc := wj [(mw Y ad_m (sA 16 (fun _ => nI wp) (sA 15 (fun _ => nI wk) (sA 14 (fun _ => nI fp) (sA 13 (fun _ => nI fl) (sA 11 (fun _ => nI tt) g_m))))) w_m)]) (wr := wj []) (va_runV (As := []) (rest := []) ⟨hx, hb, hml, hown, hts⟩ (m_X12_goesOn l D Y ad_m (sA 16 (fun _ => nI wp) (sA 15 (fun _ => nI wk) (sA 14 (fun _ => nI fp) (sA 13 (fun _ => nI fl) (sA 11 (fun _ => nI tt) g_m))))) w_m kd pl vl nv x fl fp tt wk wp H.size (show TKR kd pl vl nv (g_m 5) (g_m 6) (g_m 7) (w_m 8) from by first | assumption | omega | grind) (show FM kd pl x fl fp tt wk wp from by first | assumption | omega | grind) (show fl = 0 → kd tt ≠ 0 ∧ kd tt ≠ 3 from by first | assumption | omega | grind)) (cwV 0 hts (lw_V q1917 q1919 qs66 q133 q1920) rfl rfl rfl (by decide +kernel) ⟨Nat.le_of_ble_eq_true rfl, Nat.le_of_ble_eq_true rfl⟩) (zPreV hK hW hR (wj_split3 (B := [(mw Y ad_m (sA 16 (fun _ => nI wp) (sA 15 (fun _ => nI wk) (sA 14 (fun _ => nI fp) (sA 13 (fun _ => nI fl) (sA 11 (fun _ => nI tt) g_m))))) w_m)]) (R := []) (C := [(mw Y ad_m (sA 16 (fun _ => nI wp) (sA 15 (fun _ => nI wk) (sA 14 (fun _ => nI fp) (sA 13 (fun _ => nI fl) (sA 11 (fun _ => nI tt) g_m))))) w_m)]) (O := []) (X := []) (List.Perm.refl _)) (va_recv hK.1 hW.1 (ci := 11) (q0 := 0) rfl rfl)) rfl rfl hl.1 rfl (lv_room (Nat.le_of_ble_eq_true rfl)) dX12_must_9 ⟨Nat.le_refl _, Nat.le_refl _⟩) hW hA (wj_split (B := [(mw Y ad_m (sA 16 (fun _ => nI wp) (sA 15 (fun _ => nI wk) (sA 14 (fun _ => nI fp) (sA 13 (fun _ => nI fl) (sA 11 (fun _ => nI tt) g_m))))) w_m)]) (C := [(mw Y ad_m (sA 16 (fun _ => nI wp) (sA 15 (fun _ => nI wk) (sA 14 (fun _ => nI fp) (sA 13 (fun _ => nI fl) (sA 11 (fun _ => nI tt) g_m))))) w_m)]) (R := []) (List.Perm.refl _)) (fun  u H locs hp_9 hW => ?_)
    obtain ⟨ufault_10, ufaultPlace_11, ut_12⟩ := u
    have hp_9 : FM kd pl (PO.bd x passR) ufault_10 ufaultPlace_11 ut_12 wk wp := hp_9
    have hW : zW D A s.heap H locs (wj [(mw Y ad_m (sA 16 (fun _ => nI wp) (sA 15 (fun _ => nI wk) (sA 14 (fun _ => nI ufaultPlace_11) (sA 13 (fun _ => nI ufault_10) (sA 11 (fun _ => nI ut_12) g_m))))) w_m)]) := hW.join
    refine lv_goto (tgt := 20) hx hb dX12_must_12 (by decide) ?_
    refine z_vret ((ufault_10, ufaultPlace_11, ut_12) : (Nat) × (Nat) × (Nat)) hx hb hr hlocks hW rfl dX12_must_20 ?_
    show FM kd pl (PO.bd x (mustR kd kk)) ufault_10 ufaultPlace_11 ut_12 wk wp
    rw [← hFM.must1 c_3.2]; exact hp_9
set_option maxHeartbeats 1000000 in
set_option maxRecDepth 100000 in
theorem m_X12_roomFor (l : Launch) (D : va_G) (Y : Nat → ClassId) (ad_m : Nat → Nat) (g_m : Nat → Nat → Int32) (w_m : Nat → Nat → Int64) (kd : Nat → Nat) (pl : Nat → Nat) (vl : Nat → Int32) (nv : Nat → Nat) (x : PO PS) (fl : Nat) (fp : Nat) (tt : Nat) (wk : Nat) (wp : Nat) (ha : Nat) (mo : Nat) (sz : Nat) (hTK : TKR kd pl vl nv (g_m 5) (g_m 6) (g_m 7) (w_m 8)) (hFM : FM kd pl x fl fp tt wk wp) (hgo : fl = 0 → kd tt ≠ 0 ∧ kd tt ≠ 3) (hha : ha < 100 ∧ mo < 100) : Met l yX12_roomFor (ws_ yX12_roomFor cX12_roomFor 3 none) ({ frames := 3, cells := 0, slots := 0, locals := 53 }) (zPc D Y [.ref (ad_m 0), .int (nI ha), .int (nI mo)] sz (wj []) (wj [(mw Y ad_m (sA 16 (fun _ => nI wp) (sA 15 (fun _ => nI wk) (sA 14 (fun _ => nI fp) (sA 13 (fun _ => nI fl) (sA 11 (fun _ => nI tt) g_m))))) w_m)])) (va_Qv (fun (u : (Nat) × (Nat) × (Nat)) => FM kd pl (PO.bd x (roomR ha mo)) u.1 u.2.1 u.2.2 wk wp) (zB D (fun (u : (Nat) × (Nat) × (Nat)) => (wj [(mw Y ad_m (sA 16 (fun _ => nI wp) (sA 15 (fun _ => nI wk) (sA 14 (fun _ => nI u.2.1) (sA 13 (fun _ => nI u.1) (sA 11 (fun _ => nI u.2.2) g_m))))) w_m)])) (va_A (wj [(mw Y ad_m (sA 16 (fun _ => nI wp) (sA 15 (fun _ => nI wk) (sA 14 (fun _ => nI fp) (sA 13 (fun _ => nI fl) (sA 11 (fun _ => nI tt) g_m))))) w_m)]) sz)) (va_A (wj [(mw Y ad_m (sA 16 (fun _ => nI wp) (sA 15 (fun _ => nI wk) (sA 14 (fun _ => nI fp) (sA 13 (fun _ => nI fl) (sA 11 (fun _ => nI tt) g_m))))) w_m)]) sz)) 0 0 (va_A (wj [(mw Y ad_m (sA 16 (fun _ => nI wp) (sA 15 (fun _ => nI wk) (sA 14 (fun _ => nI fp) (sA 13 (fun _ => nI fl) (sA 11 (fun _ => nI tt) g_m))))) w_m)]) sz) := by
  refine Met.ofW (cc := cX12_roomFor) (maxL := 3) (ret := none) (by decide) rfl ?_
  intro p e s m args below meth c s₁ B hml hv
  obtain ⟨rfl, hsz, hW, hR, hK, hA⟩ := zEntry hv
  subst hsz
  have hx := B.exec
  have hb := B.bytes
  have hr := B.returns
  have hlocks := B.notSynchronized
  have hts : ∀ w ∈ lw_all, w.before _ s = true := fun w h => atoms_spec (ws := (ws_ yX12_roomFor cX12_roomFor 3 none)) B.pre w (List.mem_cons_of_mem _ h)
  have hown : s.vm.findClass RX12 = some m.cls := findClass_of_methodNamed B.named
  generalize hAe : va_A (wj [(mw Y ad_m (sA 16 (fun _ => nI wp) (sA 15 (fun _ => nI wk) (sA 14 (fun _ => nI fp) (sA 13 (fun _ => nI fl) (sA 11 (fun _ => nI tt) g_m))))) w_m)]) s.heap.size = A at hW hR hA ⊢
  have hl := lv_entry ([.ref (ad_m 0), .int (nI ha), .int (nI mo)]) (n := 3) (Nat.le_of_ble_eq_true rfl)
  rw [lg_entry_eq]
  generalize (lg_sl ([.ref (ad_m 0), .int (nI ha), .int (nI mo)]) ++ List.replicate (3 - (lg_sl ([.ref (ad_m 0), .int (nI ha), .int (nI mo)])).length) Slot.unset).toArray = ls at hl ⊢
  have hl : lv_has ls 3 [(0, .ref (ad_m 0)), (1, .int (nI ha)), (2, .int (nI mo))] := hl
  have hbnd := hFM.bnd
  have hkb := hTK.kb tt
  have hpb := hTK.pb tt
  refine lv_iload_n hx hb dX12_roomFor_0 rfl (lv_at hl 1 rfl) ?_
  refine lv_iload_n hx hb dX12_roomFor_1 rfl (lv_at hl 2 rfl) ?_
  refine lv_icmp_ne (tgt := 10) hx hb dX12_roomFor_2 (by decide) (fun c_1 => ?_) (fun c_1 => ?_)
  · have c_1 : ¬ (ha = mo) := fun hz_ => c_1 ((nI_eq (a := ha) (b := mo) (by omega) (by omega)).mpr hz_)
    refine lv_aload_n hx hb dX12_roomFor_10 rfl (lv_at hl 0 rfl) ?_
    refine va_get (v := .int (nI fl)) (C := RX12) (T := TX12) (N := 75) (ci := 11) hx hb hts in_X12 hown hK.1 hW.1 0 rfl rfl 13 (by decide) (hts _ q1649) (fun _ h9 => h9) rfl dX12_roomFor_11 ?_
    refine lv_if_ne (tgt := 21) hx hb dX12_roomFor_14 (by decide) (fun c_2 => ?_) (fun c_2 => ?_)
    · have c_2 : ¬ (fl = 0) := fun hz_ => c_2 ((nI_eq (a := fl) (b := 0) (by omega) (by omega)).mpr hz_)
      refine z_vret ((fl, fp, tt) : (Nat) × (Nat) × (Nat)) hx hb hr hlocks hW rfl dX12_roomFor_21 ?_
      show FM kd pl (PO.bd x (roomR ha mo)) fl fp tt wk wp
      exact hFM.idle (by omega) _
    · have c_2 : fl = 0 := (nI_eq (a := fl) (b := 0) (by omega) (by omega)).mp c_2
      refine lv_aload_n hx hb dX12_roomFor_17 rfl (lv_at hl 0 rfl) ?_
      refine z_callv (wc := wj [(mw Y ad_m (sA 16 (fun _ => nI wp) (sA 15 (fun _ => nI wk) (sA 14 (fun _ => nI fp) (sA 13 (fun _ => nI fl) (sA 11 (fun _ => nI tt) g_m))))) w_m)]) (wr := wj []) (va_runV (As := []) (rest := []) ⟨hx, hb, hml, hown, hts⟩ (m_X12_goesOn l D Y ad_m (sA 16 (fun _ => nI wp) (sA 15 (fun _ => nI wk) (sA 14 (fun _ => nI fp) (sA 13 (fun _ => nI fl) (sA 11 (fun _ => nI tt) g_m))))) w_m kd pl vl nv x fl fp tt wk wp s.heap.size (show TKR kd pl vl nv (g_m 5) (g_m 6) (g_m 7) (w_m 8) from by first | assumption | omega | grind) (show FM kd pl x fl fp tt wk wp from by first | assumption | omega | grind) (show fl = 0 → kd tt ≠ 0 ∧ kd tt ≠ 3 from by first | assumption | omega | grind)) (cwV 0 hts (lw_V q1917 q1919 qs66 q133 q1920) rfl rfl rfl (by decide +kernel) ⟨Nat.le_of_ble_eq_true rfl, Nat.le_of_ble_eq_true rfl⟩) (zPreV hK hW hR (wj_split3 (B := [(mw Y ad_m (sA 16 (fun _ => nI wp) (sA 15 (fun _ => nI wk) (sA 14 (fun _ => nI fp) (sA 13 (fun _ => nI fl) (sA 11 (fun _ => nI tt) g_m))))) w_m)]) (R := []) (C := [(mw Y ad_m (sA 16 (fun _ => nI wp) (sA 15 (fun _ => nI wk) (sA 14 (fun _ => nI fp) (sA 13 (fun _ => nI fl) (sA 11 (fun _ => nI tt) g_m))))) w_m)]) (O := []) (X := []) (List.Perm.refl _)) (va_recv hK.1 hW.1 (ci := 11) (q0 := 0) rfl rfl)) rfl rfl hl.1 rfl (lv_room (Nat.le_of_ble_eq_true rfl)) dX12_roomFor_18 ⟨Nat.le_refl _, Nat.le_refl _⟩) hW hA (wj_split (B := [(mw Y ad_m (sA 16 (fun _ => nI wp) (sA 15 (fun _ => nI wk) (sA 14 (fun _ => nI fp) (sA 13 (fun _ => nI fl) (sA 11 (fun _ => nI tt) g_m))))) w_m)]) (C := [(mw Y ad_m (sA 16 (fun _ => nI wp) (sA 15 (fun _ => nI wk) (sA 14 (fun _ => nI fp) (sA 13 (fun _ => nI fl) (sA 11 (fun _ => nI tt) g_m))))) w_m)]) (R := []) (List.Perm.refl _)) (fun  u H locs hp_4 hW => ?_)
      obtain ⟨ufault_5, ufaultPlace_6, ut_7⟩ := u
      have hp_4 : FM kd pl (PO.bd x passR) ufault_5 ufaultPlace_6 ut_7 wk wp := hp_4
      have hW : zW D A s.heap H locs (wj [(mw Y ad_m (sA 16 (fun _ => nI wp) (sA 15 (fun _ => nI wk) (sA 14 (fun _ => nI ufaultPlace_6) (sA 13 (fun _ => nI ufault_5) (sA 11 (fun _ => nI ut_7) g_m))))) w_m)]) := hW.join
      refine z_vret ((ufault_5, ufaultPlace_6, ut_7) : (Nat) × (Nat) × (Nat)) hx hb hr hlocks hW rfl dX12_roomFor_21 ?_
      show FM kd pl (PO.bd x (roomR ha mo)) ufault_5 ufaultPlace_6 ut_7 wk wp
      rw [← FM.room0 (by omega)]; exact hp_4
  · have c_1 : ha = mo := (nI_eq (a := ha) (b := mo) (by omega) (by omega)).mp c_1
    refine lv_aload_n hx hb dX12_roomFor_5 rfl (lv_at hl 0 rfl) ?_
    refine lv_iconst (v := 2) hx hb dX12_roomFor_6 (by decide) ?_
    refine z_callv (wc := wj [(mw Y ad_m (sA 16 (fun _ => nI wp) (sA 15 (fun _ => nI wk) (sA 14 (fun _ => nI fp) (sA 13 (fun _ => nI fl) (sA 11 (fun _ => nI tt) g_m))))) w_m)]) (wr := wj []) (va_runV (As := [.int 2]) (rest := []) ⟨hx, hb, hml, hown, hts⟩ (m_X12_fail l D Y ad_m (sA 16 (fun _ => nI wp) (sA 15 (fun _ => nI wk) (sA 14 (fun _ => nI fp) (sA 13 (fun _ => nI fl) (sA 11 (fun _ => nI tt) g_m))))) w_m kd pl vl nv x fl fp tt wk wp 2 s.heap.size (show TKR kd pl vl nv (g_m 5) (g_m 6) (g_m 7) (w_m 8) from by first | assumption | omega | grind) (show FM kd pl x fl fp tt wk wp from by first | assumption | omega | grind) (show 1 ≤ 2 ∧ 2 ≤ 2 from by first | assumption | omega | grind)) (cwV 1 hts (lw_V q1913 q1915 qs65 q133 q1916) rfl rfl rfl (by decide +kernel) ⟨Nat.le_of_ble_eq_true rfl, Nat.le_of_ble_eq_true rfl⟩) (zPreV hK hW hR (wj_split3 (B := [(mw Y ad_m (sA 16 (fun _ => nI wp) (sA 15 (fun _ => nI wk) (sA 14 (fun _ => nI fp) (sA 13 (fun _ => nI fl) (sA 11 (fun _ => nI tt) g_m))))) w_m)]) (R := []) (C := [(mw Y ad_m (sA 16 (fun _ => nI wp) (sA 15 (fun _ => nI wk) (sA 14 (fun _ => nI fp) (sA 13 (fun _ => nI fl) (sA 11 (fun _ => nI tt) g_m))))) w_m)]) (O := []) (X := []) (List.Perm.refl _)) (va_recv hK.1 hW.1 (ci := 11) (q0 := 0) rfl rfl)) rfl rfl hl.1 rfl (lv_room (Nat.le_of_ble_eq_true rfl)) dX12_roomFor_7 ⟨Nat.le_refl _, Nat.le_refl _⟩) hW hA (wj_split (B := [(mw Y ad_m (sA 16 (fun _ => nI wp) (sA 15 (fun _ => nI wk) (sA 14 (fun _ => nI fp) (sA 13 (fun _ => nI fl) (sA 11 (fun _ => nI tt) g_m))))) w_m)]) (C := [(mw Y ad_m (sA 16 (fun _ => nI wp) (sA 15 (fun _ => nI wk) (sA 14 (fun _ => nI fp) (sA 13 (fun _ => nI fl) (sA 11 (fun _ => nI tt) g_m))))) w_m)]) (R := []) (List.Perm.refl _)) (fun  u H locs hp_9 hW => ?_)
    obtain ⟨ufault_10, ufaultPlace_11⟩ := u
    have hp_9 : FM kd pl (PO.bd x (failR 2)) ufault_10 ufaultPlace_11 tt wk wp := hp_9
    have hW : zW D A s.heap H locs (wj [(mw Y ad_m (sA 16 (fun _ => nI wp) (sA 15 (fun _ => nI wk) (sA 14 (fun _ => nI ufaultPlace_11) (sA 13 (fun _ => nI ufault_10) (sA 11 (fun _ => nI tt) g_m))))) w_m)]) := hW.join
    have hbn2 := hp_9.bnd
    refine lv_aload_n hx hb dX12_roomFor_10 rfl (lv_at hl 0 rfl) ?_
    refine va_get (v := .int (nI ufault_10)) (C := RX12) (T := TX12) (N := 75) (ci := 11) hx hb hts in_X12 hown hK.1 hW.1 0 rfl rfl 13 (by decide) (hts _ q1649) (fun _ h9 => h9) rfl dX12_roomFor_11 ?_
    refine lv_if_ne (tgt := 21) hx hb dX12_roomFor_14 (by decide) (fun c_12 => ?_) (fun c_12 => ?_)
    · have c_12 : ¬ (ufault_10 = 0) := fun hz_ => c_12 ((nI_eq (a := ufault_10) (b := 0) (by omega) (by omega)).mpr hz_)
      refine z_vret ((ufault_10, ufaultPlace_11, tt) : (Nat) × (Nat) × (Nat)) hx hb hr hlocks hW rfl dX12_roomFor_21 ?_
      show FM kd pl (PO.bd x (roomR ha mo)) ufault_10 ufaultPlace_11 tt wk wp
      rw [← FM.room1 (by omega)]; exact hp_9
    · have c_12 : ufault_10 = 0 := (nI_eq (a := ufault_10) (b := 0) (by omega) (by omega)).mp c_12
      exact (by obtain ⟨s9, h9, -⟩ := hp_9.ok (by omega); exact (bd_fail_ne h9).elim)
set_option maxHeartbeats 1000000 in
set_option maxRecDepth 100000 in
theorem m_X12_wrong (l : Launch) (D : va_G) (Y : Nat → ClassId) (ad_m : Nat → Nat) (g_m : Nat → Nat → Int32) (w_m : Nat → Nat → Int64) (kd : Nat → Nat) (pl : Nat → Nat) (vl : Nat → Int32) (nv : Nat → Nat) (s_ : PS) (fl : Nat) (fp : Nat) (tt : Nat) (wk : Nat) (wp : Nat) (kk : Nat) (yy : Nat) (sz : Nat) (hTK : TKR kd pl vl nv (g_m 5) (g_m 6) (g_m 7) (w_m 8)) (hFM : FM kd pl (Except.ok s_) fl fp tt wk wp) (hk5 : kk ≤ 5) (hy : yy ≤ tt) : Met l yX12_wrong (ws_ yX12_wrong cX12_wrong 4 none) ({ frames := 1, cells := 0, slots := 0, locals := 12 }) (zPc D Y [.ref (ad_m 0), .int (nI kk), .int (nI yy)] sz (wj []) (wj [(mw Y ad_m (sA 16 (fun _ => nI wp) (sA 15 (fun _ => nI wk) (sA 14 (fun _ => nI fp) (sA 13 (fun _ => nI fl) (sA 11 (fun _ => nI tt) g_m))))) w_m)])) (va_Qv (fun (u : (Nat) × (Nat)) => FM kd pl (Except.ok (tellR kk yy s_)) fl fp tt u.1 u.2) (zB D (fun (u : (Nat) × (Nat)) => (wj [(mw Y ad_m (sA 16 (fun _ => nI u.2) (sA 15 (fun _ => nI u.1) (sA 14 (fun _ => nI fp) (sA 13 (fun _ => nI fl) (sA 11 (fun _ => nI tt) g_m))))) w_m)])) (va_A (wj [(mw Y ad_m (sA 16 (fun _ => nI wp) (sA 15 (fun _ => nI wk) (sA 14 (fun _ => nI fp) (sA 13 (fun _ => nI fl) (sA 11 (fun _ => nI tt) g_m))))) w_m)]) sz)) (va_A (wj [(mw Y ad_m (sA 16 (fun _ => nI wp) (sA 15 (fun _ => nI wk) (sA 14 (fun _ => nI fp) (sA 13 (fun _ => nI fl) (sA 11 (fun _ => nI tt) g_m))))) w_m)]) sz)) 0 0 (va_A (wj [(mw Y ad_m (sA 16 (fun _ => nI wp) (sA 15 (fun _ => nI wk) (sA 14 (fun _ => nI fp) (sA 13 (fun _ => nI fl) (sA 11 (fun _ => nI tt) g_m))))) w_m)]) sz) := by
  refine Met.ofW (cc := cX12_wrong) (maxL := 4) (ret := none) (by decide) rfl ?_
  intro p e s m args below meth c s₁ B hml hv
  obtain ⟨rfl, hsz, hW, hR, hK, hA⟩ := zEntry hv
  subst hsz
  have hx := B.exec
  have hb := B.bytes
  have hr := B.returns
  have hlocks := B.notSynchronized
  have hts : ∀ w ∈ lw_all, w.before _ s = true := fun w h => atoms_spec (ws := (ws_ yX12_wrong cX12_wrong 4 none)) B.pre w (List.mem_cons_of_mem _ h)
  have hown : s.vm.findClass RX12 = some m.cls := findClass_of_methodNamed B.named
  generalize hAe : va_A (wj [(mw Y ad_m (sA 16 (fun _ => nI wp) (sA 15 (fun _ => nI wk) (sA 14 (fun _ => nI fp) (sA 13 (fun _ => nI fl) (sA 11 (fun _ => nI tt) g_m))))) w_m)]) s.heap.size = A at hW hR hA ⊢
  have hl := lv_entry ([.ref (ad_m 0), .int (nI kk), .int (nI yy)]) (n := 4) (Nat.le_of_ble_eq_true rfl)
  rw [lg_entry_eq]
  generalize (lg_sl ([.ref (ad_m 0), .int (nI kk), .int (nI yy)]) ++ List.replicate (4 - (lg_sl ([.ref (ad_m 0), .int (nI kk), .int (nI yy)])).length) Slot.unset).toArray = ls at hl ⊢
  have hl : lv_has ls 4 [(0, .ref (ad_m 0)), (1, .int (nI kk)), (2, .int (nI yy))] := hl
  have hbnd := hFM.bnd
  have hkb := hTK.kb tt
  have hpb := hTK.pb tt
  have ho : OKP kd yy := OKP.le (hFM.okp hFM.sv.1) hy
  have hpy := hTK.pb yy
  have h0 := hFM.sv.1
  refine lv_aload_n hx hb dX12_wrong_0 rfl (lv_at hl 0 rfl) ?_
  refine va_get (v := .ref (ad_m 6)) (C := RX12) (T := TX12) (N := 75) (ci := 11) hx hb hts in_X12 hown hK.1 hW.1 0 rfl rfl 6 (by decide) (hts _ q1642) (fun _ h9 => h9) rfl dX12_wrong_1 ?_
  refine lv_iload_n hx hb dX12_wrong_4 rfl (lv_at hl 2 rfl) ?_
  refine z_iald (v := nI (pl yy)) (f := g_m 6) (j := yy) hx hb hK.1 hW.1 4 0 rfl rfl (vp_in_nI (n := yy) (by omega) (by decide)) (nI_clamp (n := yy) (by omega)) (hTK.p (j := yy) (by omega) (by first | assumption | exact hok (by omega) | exact hFM.okp (by omega))) dX12_wrong_5 ?_
  refine lv_istore_n (lv' := [(3, .int (nI (pl yy))), (0, .ref (ad_m 0)), (1, .int (nI kk)), (2, .int (nI yy))]) hx hb dX12_wrong_6 rfl hl (by decide) rfl (fun ls hl => ?_)
  refine lv_aload_n hx hb dX12_wrong_7 rfl (lv_at hl 1 rfl) ?_
  refine va_get (v := .int (nI fl)) (C := RX12) (T := TX12) (N := 75) (ci := 11) hx hb hts in_X12 hown hK.1 hW.1 0 rfl rfl 13 (by decide) (hts _ q1649) (fun _ h9 => h9) rfl dX12_wrong_8 ?_
  refine lv_if_gt (tgt := 45) hx hb dX12_wrong_11 (by decide) (fun c_1 => ?_) (fun c_1 => ?_)
  · have c_1 : 0 < fl := (nI_ltI (a := 0) (b := fl) (by omega) (by omega)).mp c_1
    omega
  · have c_1 : ¬ (0 < fl) := fun hz_ => c_1 ((nI_ltI (a := 0) (b := fl) (by omega) (by omega)).mpr hz_)
    refine lv_aload_n hx hb dX12_wrong_14 rfl (lv_at hl 1 rfl) ?_
    refine va_get (v := .int (nI wk)) (C := RX12) (T := TX12) (N := 75) (ci := 11) hx hb hts in_X12 hown hK.1 hW.1 0 rfl rfl 15 (by decide) (hts _ q1651) (fun _ h9 => h9) rfl dX12_wrong_15 ?_
    refine lv_if_eq (tgt := 46) hx hb dX12_wrong_18 (by decide) (fun c_2 => ?_) (fun c_2 => ?_)
    · have c_2 : wk = 0 := (nI_eq (a := wk) (b := 0) (by omega) (by omega)).mp c_2
      refine lv_aload_n hx hb dX12_wrong_46 rfl (lv_at hl 1 rfl) ?_
      refine lv_iload_n hx hb dX12_wrong_47 rfl (lv_at hl 2 rfl) ?_
      refine z_put (v := .int (nI kk)) (C := RX12) (T := TX12) (N := 75) (ci := 11) (wn := (wj [(mw Y ad_m (sA 16 (fun _ => nI wp) (sA 15 (fun _ => nI kk) (sA 14 (fun _ => nI fp) (sA 13 (fun _ => nI fl) (sA 11 (fun _ => nI tt) g_m))))) w_m)])) hx hb hts in_X12 tyX12 tyX12_ok nmX12 hown hK.1 hW 0 rfl rfl 15 (by decide) (hts _ q1651) (fun _ h9 => h9) rfl rfl rfl (Nat.le_of_ble_eq_true rfl) dX12_wrong_48 rfl (fun H locs hW => ?_)
      refine lv_aload_n hx hb dX12_wrong_51 rfl (lv_at hl 1 rfl) ?_
      refine lv_iload_n hx hb dX12_wrong_52 rfl (lv_at hl 0 rfl) ?_
      refine z_put (v := .int (nI (pl yy))) (C := RX12) (T := TX12) (N := 75) (ci := 11) (wn := (wj [(mw Y ad_m (sA 16 (fun _ => nI (pl yy)) (sA 15 (fun _ => nI kk) (sA 14 (fun _ => nI fp) (sA 13 (fun _ => nI fl) (sA 11 (fun _ => nI tt) g_m))))) w_m)])) hx hb hts in_X12 tyX12 tyX12_ok nmX12 hown hK.1 hW 0 rfl rfl 16 (by decide) (hts _ q1652) (fun _ h9 => h9) rfl rfl rfl (Nat.le_of_ble_eq_true rfl) dX12_wrong_53 rfl (fun H locs hW => ?_)
      refine z_vret ((kk, pl yy) : (Nat) × (Nat)) hx hb hr hlocks hW rfl dX12_wrong_56 ?_
      show FM kd pl (Except.ok (tellR kk yy s_)) fl fp tt kk (pl yy)
      exact hFM.tell1 hk5 hy (hTK.pb yy) (fun _ _ => hTK.lt) (by omega)
    · have c_2 : ¬ (wk = 0) := fun hz_ => c_2 ((nI_eq (a := wk) (b := 0) (by omega) (by omega)).mpr hz_)
      refine lv_iload_n hx hb dX12_wrong_21 rfl (lv_at hl 0 rfl) ?_
      refine lv_aload_n hx hb dX12_wrong_22 rfl (lv_at hl 1 rfl) ?_
      refine va_get (v := .int (nI wp)) (C := RX12) (T := TX12) (N := 75) (ci := 11) hx hb hts in_X12 hown hK.1 hW.1 0 rfl rfl 16 (by decide) (hts _ q1652) (fun _ h9 => h9) rfl dX12_wrong_23 ?_
      refine lv_icmp_gt (tgt := 45) hx hb dX12_wrong_26 (by decide) (fun c_3 => ?_) (fun c_3 => ?_)
      · have c_3 : wp < pl yy := (nI_ltI (a := wp) (b := pl yy) (by omega) (by omega)).mp c_3
        refine z_vret ((wk, wp) : (Nat) × (Nat)) hx hb hr hlocks hW rfl dX12_wrong_45 ?_
        show FM kd pl (Except.ok (tellR kk yy s_)) fl fp tt wk wp
        exact hFM.tell0 hy (fun _ _ => hTK.lt) (by omega) (by omega)
      · have c_3 : ¬ (wp < pl yy) := fun hz_ => c_3 ((nI_ltI (a := wp) (b := pl yy) (by omega) (by omega)).mpr hz_)
        refine lv_iload_n hx hb dX12_wrong_29 rfl (lv_at hl 0 rfl) ?_
        refine lv_aload_n hx hb dX12_wrong_30 rfl (lv_at hl 1 rfl) ?_
        refine va_get (v := .int (nI wp)) (C := RX12) (T := TX12) (N := 75) (ci := 11) hx hb hts in_X12 hown hK.1 hW.1 0 rfl rfl 16 (by decide) (hts _ q1652) (fun _ h9 => h9) rfl dX12_wrong_31 ?_
        refine lv_icmp_ne (tgt := 46) hx hb dX12_wrong_34 (by decide) (fun c_4 => ?_) (fun c_4 => ?_)
        · have c_4 : ¬ (pl yy = wp) := fun hz_ => c_4 ((nI_eq (a := pl yy) (b := wp) (by omega) (by omega)).mpr hz_)
          refine lv_aload_n hx hb dX12_wrong_46 rfl (lv_at hl 1 rfl) ?_
          refine lv_iload_n hx hb dX12_wrong_47 rfl (lv_at hl 2 rfl) ?_
          refine z_put (v := .int (nI kk)) (C := RX12) (T := TX12) (N := 75) (ci := 11) (wn := (wj [(mw Y ad_m (sA 16 (fun _ => nI wp) (sA 15 (fun _ => nI kk) (sA 14 (fun _ => nI fp) (sA 13 (fun _ => nI fl) (sA 11 (fun _ => nI tt) g_m))))) w_m)])) hx hb hts in_X12 tyX12 tyX12_ok nmX12 hown hK.1 hW 0 rfl rfl 15 (by decide) (hts _ q1651) (fun _ h9 => h9) rfl rfl rfl (Nat.le_of_ble_eq_true rfl) dX12_wrong_48 rfl (fun H locs hW => ?_)
          refine lv_aload_n hx hb dX12_wrong_51 rfl (lv_at hl 1 rfl) ?_
          refine lv_iload_n hx hb dX12_wrong_52 rfl (lv_at hl 0 rfl) ?_
          refine z_put (v := .int (nI (pl yy))) (C := RX12) (T := TX12) (N := 75) (ci := 11) (wn := (wj [(mw Y ad_m (sA 16 (fun _ => nI (pl yy)) (sA 15 (fun _ => nI kk) (sA 14 (fun _ => nI fp) (sA 13 (fun _ => nI fl) (sA 11 (fun _ => nI tt) g_m))))) w_m)])) hx hb hts in_X12 tyX12 tyX12_ok nmX12 hown hK.1 hW 0 rfl rfl 16 (by decide) (hts _ q1652) (fun _ h9 => h9) rfl rfl rfl (Nat.le_of_ble_eq_true rfl) dX12_wrong_53 rfl (fun H locs hW => ?_)
          refine z_vret ((kk, pl yy) : (Nat) × (Nat)) hx hb hr hlocks hW rfl dX12_wrong_56 ?_
          show FM kd pl (Except.ok (tellR kk yy s_)) fl fp tt kk (pl yy)
          exact hFM.tell1 hk5 hy (hTK.pb yy) (fun _ _ => hTK.lt) (by omega)
        · have c_4 : pl yy = wp := (nI_eq (a := pl yy) (b := wp) (by omega) (by omega)).mp c_4
          refine lv_iload_n hx hb dX12_wrong_37 rfl (lv_at hl 2 rfl) ?_
          refine lv_aload_n hx hb dX12_wrong_38 rfl (lv_at hl 1 rfl) ?_
          refine va_get (v := .int (nI wk)) (C := RX12) (T := TX12) (N := 75) (ci := 11) hx hb hts in_X12 hown hK.1 hW.1 0 rfl rfl 15 (by decide) (hts _ q1651) (fun _ h9 => h9) rfl dX12_wrong_39 ?_
          refine lv_icmp_lt (tgt := 46) hx hb dX12_wrong_42 (by decide) (fun c_5 => ?_) (fun c_5 => ?_)
          · have c_5 : kk < wk := (nI_ltI (a := kk) (b := wk) (by omega) (by omega)).mp c_5
            refine lv_aload_n hx hb dX12_wrong_46 rfl (lv_at hl 1 rfl) ?_
            refine lv_iload_n hx hb dX12_wrong_47 rfl (lv_at hl 2 rfl) ?_
            refine z_put (v := .int (nI kk)) (C := RX12) (T := TX12) (N := 75) (ci := 11) (wn := (wj [(mw Y ad_m (sA 16 (fun _ => nI wp) (sA 15 (fun _ => nI kk) (sA 14 (fun _ => nI fp) (sA 13 (fun _ => nI fl) (sA 11 (fun _ => nI tt) g_m))))) w_m)])) hx hb hts in_X12 tyX12 tyX12_ok nmX12 hown hK.1 hW 0 rfl rfl 15 (by decide) (hts _ q1651) (fun _ h9 => h9) rfl rfl rfl (Nat.le_of_ble_eq_true rfl) dX12_wrong_48 rfl (fun H locs hW => ?_)
            refine lv_aload_n hx hb dX12_wrong_51 rfl (lv_at hl 1 rfl) ?_
            refine lv_iload_n hx hb dX12_wrong_52 rfl (lv_at hl 0 rfl) ?_
            refine z_put (v := .int (nI (pl yy))) (C := RX12) (T := TX12) (N := 75) (ci := 11) (wn := (wj [(mw Y ad_m (sA 16 (fun _ => nI (pl yy)) (sA 15 (fun _ => nI kk) (sA 14 (fun _ => nI fp) (sA 13 (fun _ => nI fl) (sA 11 (fun _ => nI tt) g_m))))) w_m)])) hx hb hts in_X12 tyX12 tyX12_ok nmX12 hown hK.1 hW 0 rfl rfl 16 (by decide) (hts _ q1652) (fun _ h9 => h9) rfl rfl rfl (Nat.le_of_ble_eq_true rfl) dX12_wrong_53 rfl (fun H locs hW => ?_)
            refine z_vret ((kk, pl yy) : (Nat) × (Nat)) hx hb hr hlocks hW rfl dX12_wrong_56 ?_
            show FM kd pl (Except.ok (tellR kk yy s_)) fl fp tt kk (pl yy)
            exact hFM.tell1 hk5 hy (hTK.pb yy) (fun _ _ => hTK.lt) (by omega)
          · have c_5 : ¬ (kk < wk) := fun hz_ => c_5 ((nI_ltI (a := kk) (b := wk) (by omega) (by omega)).mpr hz_)
            refine z_vret ((wk, wp) : (Nat) × (Nat)) hx hb hr hlocks hW rfl dX12_wrong_45 ?_
            show FM kd pl (Except.ok (tellR kk yy s_)) fl fp tt wk wp
            exact hFM.tell0 hy (fun _ _ => hTK.lt) (by omega) (by omega)
set_option maxHeartbeats 1000000 in
set_option maxRecDepth 100000 in
theorem m_X12_bounded (l : Launch) (D : va_G) (Y : Nat → ClassId) (ad_m : Nat → Nat) (g_m : Nat → Nat → Int32) (w_m : Nat → Nat → Int64) (kd : Nat → Nat) (pl : Nat → Nat) (vl : Nat → Int32) (nv : Nat → Nat) (x : PO PS) (fl : Nat) (fp : Nat) (tt : Nat) (wk : Nat) (wp : Nat) (lo : Int32) (hi : Int32) (sz : Nat) (hTK : TKR kd pl vl nv (g_m 5) (g_m 6) (g_m 7) (w_m 8)) (hFM : FM kd pl x fl fp tt wk wp) : Met l yX12_bounded (ws_ yX12_bounded cX12_bounded 4 (some .int)) ({ frames := 3, cells := 0, slots := 0, locals := 53 }) (zPc D Y [.ref (ad_m 0), .int lo, .int hi] sz (wj []) (wj [(mw Y ad_m (sA 16 (fun _ => nI wp) (sA 15 (fun _ => nI wk) (sA 14 (fun _ => nI fp) (sA 13 (fun _ => nI fl) (sA 11 (fun _ => nI tt) g_m))))) w_m)])) (va_Qi (fun (r : Int32) (u : (Nat) × (Nat) × (Nat) × (Nat) × (Nat)) => (FM kd pl (PO.bd x (numX kd vl lo hi)) u.1 u.2.1 u.2.2.1 u.2.2.2.1 u.2.2.2.2) ∧ (∀ (s0 : PS) (q0 : Int32 × PS), x = Except.ok s0 → numR kd vl lo hi s0 = Except.ok q0 → r = q0.1)) (zB D (fun (u : (Nat) × (Nat) × (Nat) × (Nat) × (Nat)) => (wj [(mw Y ad_m (sA 16 (fun _ => nI u.2.2.2.2) (sA 15 (fun _ => nI u.2.2.2.1) (sA 14 (fun _ => nI u.2.1) (sA 13 (fun _ => nI u.1) (sA 11 (fun _ => nI u.2.2.1) g_m))))) w_m)])) (va_A (wj [(mw Y ad_m (sA 16 (fun _ => nI wp) (sA 15 (fun _ => nI wk) (sA 14 (fun _ => nI fp) (sA 13 (fun _ => nI fl) (sA 11 (fun _ => nI tt) g_m))))) w_m)]) sz)) (va_A (wj [(mw Y ad_m (sA 16 (fun _ => nI wp) (sA 15 (fun _ => nI wk) (sA 14 (fun _ => nI fp) (sA 13 (fun _ => nI fl) (sA 11 (fun _ => nI tt) g_m))))) w_m)]) sz)) 0 0 (va_A (wj [(mw Y ad_m (sA 16 (fun _ => nI wp) (sA 15 (fun _ => nI wk) (sA 14 (fun _ => nI fp) (sA 13 (fun _ => nI fl) (sA 11 (fun _ => nI tt) g_m))))) w_m)]) sz) := by
  refine Met.ofW (cc := cX12_bounded) (maxL := 4) (ret := (some .int)) (by decide) rfl ?_
  intro p e s m args below meth c s₁ B hml hv
  obtain ⟨rfl, hsz, hW, hR, hK, hA⟩ := zEntry hv
  subst hsz
  have hx := B.exec
  have hb := B.bytes
  have hr := B.returns
  have hlocks := B.notSynchronized
  have hts : ∀ w ∈ lw_all, w.before _ s = true := fun w h => atoms_spec (ws := (ws_ yX12_bounded cX12_bounded 4 (some .int))) B.pre w (List.mem_cons_of_mem _ h)
  have hown : s.vm.findClass RX12 = some m.cls := findClass_of_methodNamed B.named
  generalize hAe : va_A (wj [(mw Y ad_m (sA 16 (fun _ => nI wp) (sA 15 (fun _ => nI wk) (sA 14 (fun _ => nI fp) (sA 13 (fun _ => nI fl) (sA 11 (fun _ => nI tt) g_m))))) w_m)]) s.heap.size = A at hW hR hA ⊢
  have hl := lv_entry ([.ref (ad_m 0), .int lo, .int hi]) (n := 4) (Nat.le_of_ble_eq_true rfl)
  rw [lg_entry_eq]
  generalize (lg_sl ([.ref (ad_m 0), .int lo, .int hi]) ++ List.replicate (4 - (lg_sl ([.ref (ad_m 0), .int lo, .int hi])).length) Slot.unset).toArray = ls at hl ⊢
  have hl : lv_has ls 4 [(0, .ref (ad_m 0)), (1, .int lo), (2, .int hi)] := hl
  have hbnd := hFM.bnd
  have hkb := hTK.kb tt
  have hpb := hTK.pb tt
  refine lv_aload_n hx hb dX12_bounded_0 rfl (lv_at hl 0 rfl) ?_
  refine va_get (v := .int (nI fl)) (C := RX12) (T := TX12) (N := 75) (ci := 11) hx hb hts in_X12 hown hK.1 hW.1 0 rfl rfl 13 (by decide) (hts _ q1649) (fun _ h9 => h9) rfl dX12_bounded_1 ?_
  refine lv_if_gt (tgt := 15) hx hb dX12_bounded_4 (by decide) (fun c_1 => ?_) (fun c_1 => ?_)
  · have c_1 : 0 < fl := (nI_ltI (a := 0) (b := fl) (by omega) (by omega)).mp c_1
    refine lv_aload_n hx hb dX12_bounded_15 rfl (lv_at hl 0 rfl) ?_
    refine lv_iconst (v := 1) hx hb dX12_bounded_16 (by decide) ?_
    refine z_callv (wc := wj [(mw Y ad_m (sA 16 (fun _ => nI wp) (sA 15 (fun _ => nI wk) (sA 14 (fun _ => nI fp) (sA 13 (fun _ => nI fl) (sA 11 (fun _ => nI tt) g_m))))) w_m)]) (wr := wj []) (va_runV (As := [.int 1]) (rest := []) ⟨hx, hb, hml, hown, hts⟩ (m_X12_fail l D Y ad_m (sA 16 (fun _ => nI wp) (sA 15 (fun _ => nI wk) (sA 14 (fun _ => nI fp) (sA 13 (fun _ => nI fl) (sA 11 (fun _ => nI tt) g_m))))) w_m kd pl vl nv x fl fp tt wk wp 1 s.heap.size (show TKR kd pl vl nv (g_m 5) (g_m 6) (g_m 7) (w_m 8) from by first | assumption | omega | grind) (show FM kd pl x fl fp tt wk wp from by first | assumption | omega | grind) (show 1 ≤ 1 ∧ 1 ≤ 2 from by first | assumption | omega | grind)) (cwV 1 hts (lw_V q1913 q1915 qs65 q133 q1916) rfl rfl rfl (by decide +kernel) ⟨Nat.le_of_ble_eq_true rfl, Nat.le_of_ble_eq_true rfl⟩) (zPreV hK hW hR (wj_split3 (B := [(mw Y ad_m (sA 16 (fun _ => nI wp) (sA 15 (fun _ => nI wk) (sA 14 (fun _ => nI fp) (sA 13 (fun _ => nI fl) (sA 11 (fun _ => nI tt) g_m))))) w_m)]) (R := []) (C := [(mw Y ad_m (sA 16 (fun _ => nI wp) (sA 15 (fun _ => nI wk) (sA 14 (fun _ => nI fp) (sA 13 (fun _ => nI fl) (sA 11 (fun _ => nI tt) g_m))))) w_m)]) (O := []) (X := []) (List.Perm.refl _)) (va_recv hK.1 hW.1 (ci := 11) (q0 := 0) rfl rfl)) rfl rfl hl.1 rfl (lv_room (Nat.le_of_ble_eq_true rfl)) dX12_bounded_17 ⟨Nat.le_refl _, Nat.le_refl _⟩) hW hA (wj_split (B := [(mw Y ad_m (sA 16 (fun _ => nI wp) (sA 15 (fun _ => nI wk) (sA 14 (fun _ => nI fp) (sA 13 (fun _ => nI fl) (sA 11 (fun _ => nI tt) g_m))))) w_m)]) (C := [(mw Y ad_m (sA 16 (fun _ => nI wp) (sA 15 (fun _ => nI wk) (sA 14 (fun _ => nI fp) (sA 13 (fun _ => nI fl) (sA 11 (fun _ => nI tt) g_m))))) w_m)]) (R := []) (List.Perm.refl _)) (fun  u H locs hp_3 hW => ?_)
    obtain ⟨ufault_4, ufaultPlace_5⟩ := u
    have hp_3 : FM kd pl (PO.bd x (failR 1)) ufault_4 ufaultPlace_5 tt wk wp := hp_3
    have hW : zW D A s.heap H locs (wj [(mw Y ad_m (sA 16 (fun _ => nI wp) (sA 15 (fun _ => nI wk) (sA 14 (fun _ => nI ufaultPlace_5) (sA 13 (fun _ => nI ufault_4) (sA 11 (fun _ => nI tt) g_m))))) w_m)]) := hW.join
    refine lv_iload_n hx hb dX12_bounded_20 rfl (lv_at hl 1 rfl) ?_
    refine z_ireti ((ufault_4, ufaultPlace_5, tt, wk, wp) : (Nat) × (Nat) × (Nat) × (Nat) × (Nat)) hx hb hr hlocks rfl hW rfl dX12_bounded_21 ?_
    show (FM kd pl (PO.bd x (numX kd vl lo hi)) ufault_4 ufaultPlace_5 tt wk wp) ∧ (∀ (s0 : PS) (q0 : Int32 × PS), x = Except.ok s0 → numR kd vl lo hi s0 = Except.ok q0 → lo = q0.1)
    refine ⟨?_, ?_⟩
    · rw [← num_xn hFM (by omega)]; exact hp_3
    · intro s0 q0 e1 e2
      subst e1
      have a1 := hFM.sv
      have a2 := (num_v e2).1
      rw [← a1.2.1] at a2; omega
  · have c_1 : ¬ (0 < fl) := fun hz_ => c_1 ((nI_ltI (a := 0) (b := fl) (by omega) (by omega)).mpr hz_)
    refine lv_aload_n hx hb dX12_bounded_7 rfl (lv_at hl 0 rfl) ?_
    refine lv_iconst (v := 2) hx hb dX12_bounded_8 (by decide) ?_
    refine z_calli (wc := wj [(mw Y ad_m (sA 16 (fun _ => nI wp) (sA 15 (fun _ => nI wk) (sA 14 (fun _ => nI fp) (sA 13 (fun _ => nI fl) (sA 11 (fun _ => nI tt) g_m))))) w_m)]) (wr := wj []) (va_runV (As := [.int 2]) (rest := []) ⟨hx, hb, hml, hown, hts⟩ (m_X12_isF l D Y ad_m (sA 16 (fun _ => nI wp) (sA 15 (fun _ => nI wk) (sA 14 (fun _ => nI fp) (sA 13 (fun _ => nI fl) (sA 11 (fun _ => nI tt) g_m))))) w_m kd pl vl nv fl tt 2 s.heap.size (show TKR kd pl vl nv (g_m 5) (g_m 6) (g_m 7) (w_m 8) from by first | assumption | omega | grind) (show tt ≤ 400 from by first | assumption | omega | grind) (show fl = 0 → OKP kd tt from by exact fun z => FM.okp (by assumption) z) (show 2 < 100 from by first | assumption | omega | grind) (show fl ≤ 2 from by first | assumption | omega | grind)) (cwV 1 hts (lw_V q1901 q1903 qs62 q133 q1904) rfl rfl rfl (by decide +kernel) ⟨Nat.le_of_ble_eq_true rfl, Nat.le_of_ble_eq_true rfl⟩) (zPreV hK hW hR (wj_split3 (B := [(mw Y ad_m (sA 16 (fun _ => nI wp) (sA 15 (fun _ => nI wk) (sA 14 (fun _ => nI fp) (sA 13 (fun _ => nI fl) (sA 11 (fun _ => nI tt) g_m))))) w_m)]) (R := []) (C := [(mw Y ad_m (sA 16 (fun _ => nI wp) (sA 15 (fun _ => nI wk) (sA 14 (fun _ => nI fp) (sA 13 (fun _ => nI fl) (sA 11 (fun _ => nI tt) g_m))))) w_m)]) (O := []) (X := []) (List.Perm.refl _)) (va_recv hK.1 hW.1 (ci := 11) (q0 := 0) rfl rfl)) rfl rfl hl.1 rfl (lv_room (Nat.le_of_ble_eq_true rfl)) dX12_bounded_9 ⟨Nat.le_refl _, Nat.le_refl _⟩) hW hA (wj_split (B := [(mw Y ad_m (sA 16 (fun _ => nI wp) (sA 15 (fun _ => nI wk) (sA 14 (fun _ => nI fp) (sA 13 (fun _ => nI fl) (sA 11 (fun _ => nI tt) g_m))))) w_m)]) (C := [(mw Y ad_m (sA 16 (fun _ => nI wp) (sA 15 (fun _ => nI wk) (sA 14 (fun _ => nI fp) (sA 13 (fun _ => nI fl) (sA 11 (fun _ => nI tt) g_m))))) w_m)]) (R := []) (List.Perm.refl _)) (fun r_6 u H locs hp_7 hW => ?_)
    have hp_7 : r_6 = zb (fl = 0 ∧ kd tt = 2) := hp_7
    have hW : zW D A s.heap H locs (wj [(mw Y ad_m (sA 16 (fun _ => nI wp) (sA 15 (fun _ => nI wk) (sA 14 (fun _ => nI fp) (sA 13 (fun _ => nI fl) (sA 11 (fun _ => nI tt) g_m))))) w_m)]) := hW.join
    refine lv_if_ne (tgt := 22) hx hb dX12_bounded_12 (by decide) (fun c_8 => ?_) (fun c_8 => ?_)
    · have c_8 : fl = 0 ∧ kd tt = 2 := zb_ne hp_7 c_8
      have hk2 : kd tt = 2 := by omega
      obtain ⟨s0, hx0, a1, a2, a3, a4⟩ := hFM.ok (by omega)
      have hF0 : FM kd pl (Except.ok s0) fl fp tt wk wp := by rw [← hx0]; exact hFM
      refine lv_aload_n hx hb dX12_bounded_22 rfl (lv_at hl 0 rfl) ?_
      refine va_get (v := .ref (ad_m 7)) (C := RX12) (T := TX12) (N := 75) (ci := 11) hx hb hts in_X12 hown hK.1 hW.1 0 rfl rfl 7 (by decide) (hts _ q1643) (fun _ h9 => h9) rfl dX12_bounded_23 ?_
      refine lv_aload_n hx hb dX12_bounded_26 rfl (lv_at hl 0 rfl) ?_
      refine va_get (v := .int (nI tt)) (C := RX12) (T := TX12) (N := 75) (ci := 11) hx hb hts in_X12 hown hK.1 hW.1 0 rfl rfl 11 (by decide) (hts _ q1647) (fun _ h9 => h9) rfl dX12_bounded_27 ?_
      refine z_iald (v := vl tt) (f := g_m 7) (j := tt) hx hb hK.1 hW.1 5 0 rfl rfl (vp_in_nI (n := tt) (by omega) (by decide)) (nI_clamp (n := tt) (by omega)) (hTK.v (j := tt) (by omega) (by first | assumption | exact hok (by omega) | exact hFM.okp (by omega)) (by first | assumption | omega)) dX12_bounded_30 ?_
      refine lv_istore_n (lv' := [(3, .int (vl tt)), (0, .ref (ad_m 0)), (1, .int lo), (2, .int hi)]) hx hb dX12_bounded_31 rfl hl (by decide) rfl (fun ls hl => ?_)
      refine lv_iload_n hx hb dX12_bounded_32 rfl (lv_at hl 0 rfl) ?_
      refine lv_iload_n hx hb dX12_bounded_33 rfl (lv_at hl 2 rfl) ?_
      refine lv_icmp_lt (tgt := 42) hx hb dX12_bounded_34 (by decide) (fun c_9 => ?_) (fun c_9 => ?_)
      · have hc : vl tt < lo ∨ hi < vl tt := Or.inl c_9
        refine lv_aload_n hx hb dX12_bounded_42 rfl (lv_at hl 1 rfl) ?_
        refine lv_iconst (v := 5) hx hb dX12_bounded_43 (by decide) ?_
        refine lv_aload_n hx hb dX12_bounded_44 rfl (lv_at hl 1 rfl) ?_
        refine va_get (v := .int (nI tt)) (C := RX12) (T := TX12) (N := 75) (ci := 11) hx hb hts in_X12 hown hK.1 hW.1 0 rfl rfl 11 (by decide) (hts _ q1647) (fun _ h9 => h9) rfl dX12_bounded_45 ?_
        refine z_callv (wc := wj [(mw Y ad_m (sA 16 (fun _ => nI wp) (sA 15 (fun _ => nI wk) (sA 14 (fun _ => nI fp) (sA 13 (fun _ => nI fl) (sA 11 (fun _ => nI tt) g_m))))) w_m)]) (wr := wj []) (va_runV (As := [.int 5, .int (nI tt)]) (rest := []) ⟨hx, hb, hml, hown, hts⟩ (m_X12_wrong l D Y ad_m (sA 16 (fun _ => nI wp) (sA 15 (fun _ => nI wk) (sA 14 (fun _ => nI fp) (sA 13 (fun _ => nI fl) (sA 11 (fun _ => nI tt) g_m))))) w_m kd pl vl nv s0 fl fp tt wk wp 5 tt H.size (show TKR kd pl vl nv (g_m 5) (g_m 6) (g_m 7) (w_m 8) from by first | assumption | omega | grind) (show FM kd pl (Except.ok s0) fl fp tt wk wp from by first | assumption | omega | grind) (show 5 ≤ 5 from by first | assumption | omega | grind) (show tt ≤ tt from by first | assumption | omega | grind)) (cwV 2 hts (lw_V q1933 q1935 qs70 q133 q1936) rfl rfl rfl (by decide +kernel) ⟨Nat.le_of_ble_eq_true rfl, Nat.le_of_ble_eq_true rfl⟩) (zPreV hK hW hR (wj_split3 (B := [(mw Y ad_m (sA 16 (fun _ => nI wp) (sA 15 (fun _ => nI wk) (sA 14 (fun _ => nI fp) (sA 13 (fun _ => nI fl) (sA 11 (fun _ => nI tt) g_m))))) w_m)]) (R := []) (C := [(mw Y ad_m (sA 16 (fun _ => nI wp) (sA 15 (fun _ => nI wk) (sA 14 (fun _ => nI fp) (sA 13 (fun _ => nI fl) (sA 11 (fun _ => nI tt) g_m))))) w_m)]) (O := []) (X := []) (List.Perm.refl _)) (va_recv hK.1 hW.1 (ci := 11) (q0 := 0) rfl rfl)) rfl rfl hl.1 rfl (lv_room (Nat.le_of_ble_eq_true rfl)) dX12_bounded_48 ⟨Nat.le_refl _, Nat.le_refl _⟩) hW hA (wj_split (B := [(mw Y ad_m (sA 16 (fun _ => nI wp) (sA 15 (fun _ => nI wk) (sA 14 (fun _ => nI fp) (sA 13 (fun _ => nI fl) (sA 11 (fun _ => nI tt) g_m))))) w_m)]) (C := [(mw Y ad_m (sA 16 (fun _ => nI wp) (sA 15 (fun _ => nI wk) (sA 14 (fun _ => nI fp) (sA 13 (fun _ => nI fl) (sA 11 (fun _ => nI tt) g_m))))) w_m)]) (R := []) (List.Perm.refl _)) (fun  u H locs hp_11 hW => ?_)
        obtain ⟨uworst_12, uworstPlace_13⟩ := u
        have hp_11 : FM kd pl (Except.ok (tellR 5 tt s0)) fl fp tt uworst_12 uworstPlace_13 := hp_11
        have hW : zW D A s.heap H locs (wj [(mw Y ad_m (sA 16 (fun _ => nI uworstPlace_13) (sA 15 (fun _ => nI uworst_12) (sA 14 (fun _ => nI fp) (sA 13 (fun _ => nI fl) (sA 11 (fun _ => nI tt) g_m))))) w_m)]) := hW.join
        refine lv_aload_n hx hb dX12_bounded_51 rfl (lv_at hl 1 rfl) ?_
        refine z_callv (wc := wj [(mw Y ad_m (sA 16 (fun _ => nI uworstPlace_13) (sA 15 (fun _ => nI uworst_12) (sA 14 (fun _ => nI fp) (sA 13 (fun _ => nI fl) (sA 11 (fun _ => nI tt) g_m))))) w_m)]) (wr := wj []) (va_runV (As := []) (rest := []) ⟨hx, hb, hml, hown, hts⟩ (m_X12_goesOn l D Y ad_m (sA 16 (fun _ => nI uworstPlace_13) (sA 15 (fun _ => nI uworst_12) (sA 14 (fun _ => nI fp) (sA 13 (fun _ => nI fl) (sA 11 (fun _ => nI tt) g_m))))) w_m kd pl vl nv (Except.ok (tellR 5 tt s0)) fl fp tt uworst_12 uworstPlace_13 H.size (show TKR kd pl vl nv (g_m 5) (g_m 6) (g_m 7) (w_m 8) from by first | assumption | omega | grind) (show FM kd pl (Except.ok (tellR 5 tt s0)) fl fp tt uworst_12 uworstPlace_13 from by first | assumption | omega | grind) (show fl = 0 → kd tt ≠ 0 ∧ kd tt ≠ 3 from by intro _; omega)) (cwV 0 hts (lw_V q1917 q1919 qs66 q133 q1920) rfl rfl rfl (by decide +kernel) ⟨Nat.le_of_ble_eq_true rfl, Nat.le_of_ble_eq_true rfl⟩) (zPreV hK hW hR (wj_split3 (B := [(mw Y ad_m (sA 16 (fun _ => nI uworstPlace_13) (sA 15 (fun _ => nI uworst_12) (sA 14 (fun _ => nI fp) (sA 13 (fun _ => nI fl) (sA 11 (fun _ => nI tt) g_m))))) w_m)]) (R := []) (C := [(mw Y ad_m (sA 16 (fun _ => nI uworstPlace_13) (sA 15 (fun _ => nI uworst_12) (sA 14 (fun _ => nI fp) (sA 13 (fun _ => nI fl) (sA 11 (fun _ => nI tt) g_m))))) w_m)]) (O := []) (X := []) (List.Perm.refl _)) (va_recv hK.1 hW.1 (ci := 11) (q0 := 0) rfl rfl)) rfl rfl hl.1 rfl (lv_room (Nat.le_of_ble_eq_true rfl)) dX12_bounded_52 ⟨Nat.le_refl _, Nat.le_refl _⟩) hW hA (wj_split (B := [(mw Y ad_m (sA 16 (fun _ => nI uworstPlace_13) (sA 15 (fun _ => nI uworst_12) (sA 14 (fun _ => nI fp) (sA 13 (fun _ => nI fl) (sA 11 (fun _ => nI tt) g_m))))) w_m)]) (C := [(mw Y ad_m (sA 16 (fun _ => nI uworstPlace_13) (sA 15 (fun _ => nI uworst_12) (sA 14 (fun _ => nI fp) (sA 13 (fun _ => nI fl) (sA 11 (fun _ => nI tt) g_m))))) w_m)]) (R := []) (List.Perm.refl _)) (fun  u H locs hp_15 hW => ?_)
        obtain ⟨ufault_16, ufaultPlace_17, ut_18⟩ := u
        have hp_15 : FM kd pl (PO.bd (Except.ok (tellR 5 tt s0)) passR) ufault_16 ufaultPlace_17 ut_18 uworst_12 uworstPlace_13 := hp_15
        have hW : zW D A s.heap H locs (wj [(mw Y ad_m (sA 16 (fun _ => nI uworstPlace_13) (sA 15 (fun _ => nI uworst_12) (sA 14 (fun _ => nI ufaultPlace_17) (sA 13 (fun _ => nI ufault_16) (sA 11 (fun _ => nI ut_18) g_m))))) w_m)]) := hW.join
        refine lv_iload_n hx hb dX12_bounded_55 rfl (lv_at hl 0 rfl) ?_
        refine z_ireti ((ufault_16, ufaultPlace_17, ut_18, uworst_12, uworstPlace_13) : (Nat) × (Nat) × (Nat) × (Nat) × (Nat)) hx hb hr hlocks rfl hW rfl dX12_bounded_56 ?_
        show (FM kd pl (PO.bd x (numX kd vl lo hi)) ufault_16 ufaultPlace_17 ut_18 uworst_12 uworstPlace_13) ∧ (∀ (s0 : PS) (q0 : Int32 × PS), x = Except.ok s0 → numR kd vl lo hi s0 = Except.ok q0 → (vl tt) = q0.1)
        refine ⟨?_, ?_⟩
        · rw [hx0]
          show FM kd pl (numX kd vl lo hi s0) _ _ _ _ _
          rw [← num_x1 (by rw [← a1]; exact hk2) (by rw [← a1]; assumption), ← a1]; exact hp_15
        · intro s9 q9 e1 e2
          have e3 := (num_v e2).2
          rw [hx0] at e1
          cases e1
          rw [e3, ← a1]
      · refine lv_iload_n hx hb dX12_bounded_37 rfl (lv_at hl 0 rfl) ?_
        refine lv_iload_n hx hb dX12_bounded_38 rfl (lv_at hl 3 rfl) ?_
        refine lv_icmp_le (tgt := 51) hx hb dX12_bounded_39 (by decide) (fun c_19 => ?_) (fun c_19 => ?_)
        · have hnc : ¬ (vl tt < lo ∨ hi < vl tt) := by grind
          refine lv_aload_n hx hb dX12_bounded_51 rfl (lv_at hl 1 rfl) ?_
          refine z_callv (wc := wj [(mw Y ad_m (sA 16 (fun _ => nI wp) (sA 15 (fun _ => nI wk) (sA 14 (fun _ => nI fp) (sA 13 (fun _ => nI fl) (sA 11 (fun _ => nI tt) g_m))))) w_m)]) (wr := wj []) (va_runV (As := []) (rest := []) ⟨hx, hb, hml, hown, hts⟩ (m_X12_goesOn l D Y ad_m (sA 16 (fun _ => nI wp) (sA 15 (fun _ => nI wk) (sA 14 (fun _ => nI fp) (sA 13 (fun _ => nI fl) (sA 11 (fun _ => nI tt) g_m))))) w_m kd pl vl nv (Except.ok s0) fl fp tt wk wp H.size (show TKR kd pl vl nv (g_m 5) (g_m 6) (g_m 7) (w_m 8) from by first | assumption | omega | grind) (show FM kd pl (Except.ok s0) fl fp tt wk wp from by first | assumption | omega | grind) (show fl = 0 → kd tt ≠ 0 ∧ kd tt ≠ 3 from by intro _; omega)) (cwV 0 hts (lw_V q1917 q1919 qs66 q133 q1920) rfl rfl rfl (by decide +kernel) ⟨Nat.le_of_ble_eq_true rfl, Nat.le_of_ble_eq_true rfl⟩) (zPreV hK hW hR (wj_split3 (B := [(mw Y ad_m (sA 16 (fun _ => nI wp) (sA 15 (fun _ => nI wk) (sA 14 (fun _ => nI fp) (sA 13 (fun _ => nI fl) (sA 11 (fun _ => nI tt) g_m))))) w_m)]) (R := []) (C := [(mw Y ad_m (sA 16 (fun _ => nI wp) (sA 15 (fun _ => nI wk) (sA 14 (fun _ => nI fp) (sA 13 (fun _ => nI fl) (sA 11 (fun _ => nI tt) g_m))))) w_m)]) (O := []) (X := []) (List.Perm.refl _)) (va_recv hK.1 hW.1 (ci := 11) (q0 := 0) rfl rfl)) rfl rfl hl.1 rfl (lv_room (Nat.le_of_ble_eq_true rfl)) dX12_bounded_52 ⟨Nat.le_refl _, Nat.le_refl _⟩) hW hA (wj_split (B := [(mw Y ad_m (sA 16 (fun _ => nI wp) (sA 15 (fun _ => nI wk) (sA 14 (fun _ => nI fp) (sA 13 (fun _ => nI fl) (sA 11 (fun _ => nI tt) g_m))))) w_m)]) (C := [(mw Y ad_m (sA 16 (fun _ => nI wp) (sA 15 (fun _ => nI wk) (sA 14 (fun _ => nI fp) (sA 13 (fun _ => nI fl) (sA 11 (fun _ => nI tt) g_m))))) w_m)]) (R := []) (List.Perm.refl _)) (fun  u H locs hp_21 hW => ?_)
          obtain ⟨ufault_22, ufaultPlace_23, ut_24⟩ := u
          have hp_21 : FM kd pl (PO.bd (Except.ok s0) passR) ufault_22 ufaultPlace_23 ut_24 wk wp := hp_21
          have hW : zW D A s.heap H locs (wj [(mw Y ad_m (sA 16 (fun _ => nI wp) (sA 15 (fun _ => nI wk) (sA 14 (fun _ => nI ufaultPlace_23) (sA 13 (fun _ => nI ufault_22) (sA 11 (fun _ => nI ut_24) g_m))))) w_m)]) := hW.join
          refine lv_iload_n hx hb dX12_bounded_55 rfl (lv_at hl 0 rfl) ?_
          refine z_ireti ((ufault_22, ufaultPlace_23, ut_24, wk, wp) : (Nat) × (Nat) × (Nat) × (Nat) × (Nat)) hx hb hr hlocks rfl hW rfl dX12_bounded_56 ?_
          show (FM kd pl (PO.bd x (numX kd vl lo hi)) ufault_22 ufaultPlace_23 ut_24 wk wp) ∧ (∀ (s0 : PS) (q0 : Int32 × PS), x = Except.ok s0 → numR kd vl lo hi s0 = Except.ok q0 → (vl tt) = q0.1)
          refine ⟨?_, ?_⟩
          · rw [hx0]
            show FM kd pl (numX kd vl lo hi s0) _ _ _ _ _
            rw [← num_x0 (by rw [← a1]; exact hk2) (by rw [← a1]; assumption)]; exact hp_21
          · intro s9 q9 e1 e2
            have e3 := (num_v e2).2
            rw [hx0] at e1
            cases e1
            rw [e3, ← a1]
        · have hc : vl tt < lo ∨ hi < vl tt := Or.inr (Int32.not_le.mp c_19)
          refine lv_aload_n hx hb dX12_bounded_42 rfl (lv_at hl 1 rfl) ?_
          refine lv_iconst (v := 5) hx hb dX12_bounded_43 (by decide) ?_
          refine lv_aload_n hx hb dX12_bounded_44 rfl (lv_at hl 1 rfl) ?_
          refine va_get (v := .int (nI tt)) (C := RX12) (T := TX12) (N := 75) (ci := 11) hx hb hts in_X12 hown hK.1 hW.1 0 rfl rfl 11 (by decide) (hts _ q1647) (fun _ h9 => h9) rfl dX12_bounded_45 ?_
          refine z_callv (wc := wj [(mw Y ad_m (sA 16 (fun _ => nI wp) (sA 15 (fun _ => nI wk) (sA 14 (fun _ => nI fp) (sA 13 (fun _ => nI fl) (sA 11 (fun _ => nI tt) g_m))))) w_m)]) (wr := wj []) (va_runV (As := [.int 5, .int (nI tt)]) (rest := []) ⟨hx, hb, hml, hown, hts⟩ (m_X12_wrong l D Y ad_m (sA 16 (fun _ => nI wp) (sA 15 (fun _ => nI wk) (sA 14 (fun _ => nI fp) (sA 13 (fun _ => nI fl) (sA 11 (fun _ => nI tt) g_m))))) w_m kd pl vl nv s0 fl fp tt wk wp 5 tt H.size (show TKR kd pl vl nv (g_m 5) (g_m 6) (g_m 7) (w_m 8) from by first | assumption | omega | grind) (show FM kd pl (Except.ok s0) fl fp tt wk wp from by first | assumption | omega | grind) (show 5 ≤ 5 from by first | assumption | omega | grind) (show tt ≤ tt from by first | assumption | omega | grind)) (cwV 2 hts (lw_V q1933 q1935 qs70 q133 q1936) rfl rfl rfl (by decide +kernel) ⟨Nat.le_of_ble_eq_true rfl, Nat.le_of_ble_eq_true rfl⟩) (zPreV hK hW hR (wj_split3 (B := [(mw Y ad_m (sA 16 (fun _ => nI wp) (sA 15 (fun _ => nI wk) (sA 14 (fun _ => nI fp) (sA 13 (fun _ => nI fl) (sA 11 (fun _ => nI tt) g_m))))) w_m)]) (R := []) (C := [(mw Y ad_m (sA 16 (fun _ => nI wp) (sA 15 (fun _ => nI wk) (sA 14 (fun _ => nI fp) (sA 13 (fun _ => nI fl) (sA 11 (fun _ => nI tt) g_m))))) w_m)]) (O := []) (X := []) (List.Perm.refl _)) (va_recv hK.1 hW.1 (ci := 11) (q0 := 0) rfl rfl)) rfl rfl hl.1 rfl (lv_room (Nat.le_of_ble_eq_true rfl)) dX12_bounded_48 ⟨Nat.le_refl _, Nat.le_refl _⟩) hW hA (wj_split (B := [(mw Y ad_m (sA 16 (fun _ => nI wp) (sA 15 (fun _ => nI wk) (sA 14 (fun _ => nI fp) (sA 13 (fun _ => nI fl) (sA 11 (fun _ => nI tt) g_m))))) w_m)]) (C := [(mw Y ad_m (sA 16 (fun _ => nI wp) (sA 15 (fun _ => nI wk) (sA 14 (fun _ => nI fp) (sA 13 (fun _ => nI fl) (sA 11 (fun _ => nI tt) g_m))))) w_m)]) (R := []) (List.Perm.refl _)) (fun  u H locs hp_26 hW => ?_)
          obtain ⟨uworst_27, uworstPlace_28⟩ := u
          have hp_26 : FM kd pl (Except.ok (tellR 5 tt s0)) fl fp tt uworst_27 uworstPlace_28 := hp_26
          have hW : zW D A s.heap H locs (wj [(mw Y ad_m (sA 16 (fun _ => nI uworstPlace_28) (sA 15 (fun _ => nI uworst_27) (sA 14 (fun _ => nI fp) (sA 13 (fun _ => nI fl) (sA 11 (fun _ => nI tt) g_m))))) w_m)]) := hW.join
          refine lv_aload_n hx hb dX12_bounded_51 rfl (lv_at hl 1 rfl) ?_
          refine z_callv (wc := wj [(mw Y ad_m (sA 16 (fun _ => nI uworstPlace_28) (sA 15 (fun _ => nI uworst_27) (sA 14 (fun _ => nI fp) (sA 13 (fun _ => nI fl) (sA 11 (fun _ => nI tt) g_m))))) w_m)]) (wr := wj []) (va_runV (As := []) (rest := []) ⟨hx, hb, hml, hown, hts⟩ (m_X12_goesOn l D Y ad_m (sA 16 (fun _ => nI uworstPlace_28) (sA 15 (fun _ => nI uworst_27) (sA 14 (fun _ => nI fp) (sA 13 (fun _ => nI fl) (sA 11 (fun _ => nI tt) g_m))))) w_m kd pl vl nv (Except.ok (tellR 5 tt s0)) fl fp tt uworst_27 uworstPlace_28 H.size (show TKR kd pl vl nv (g_m 5) (g_m 6) (g_m 7) (w_m 8) from by first | assumption | omega | grind) (show FM kd pl (Except.ok (tellR 5 tt s0)) fl fp tt uworst_27 uworstPlace_28 from by first | assumption | omega | grind) (show fl = 0 → kd tt ≠ 0 ∧ kd tt ≠ 3 from by intro _; omega)) (cwV 0 hts (lw_V q1917 q1919 qs66 q133 q1920) rfl rfl rfl (by decide +kernel) ⟨Nat.le_of_ble_eq_true rfl, Nat.le_of_ble_eq_true rfl⟩) (zPreV hK hW hR (wj_split3 (B := [(mw Y ad_m (sA 16 (fun _ => nI uworstPlace_28) (sA 15 (fun _ => nI uworst_27) (sA 14 (fun _ => nI fp) (sA 13 (fun _ => nI fl) (sA 11 (fun _ => nI tt) g_m))))) w_m)]) (R := []) (C := [(mw Y ad_m (sA 16 (fun _ => nI uworstPlace_28) (sA 15 (fun _ => nI uworst_27) (sA 14 (fun _ => nI fp) (sA 13 (fun _ => nI fl) (sA 11 (fun _ => nI tt) g_m))))) w_m)]) (O := []) (X := []) (List.Perm.refl _)) (va_recv hK.1 hW.1 (ci := 11) (q0 := 0) rfl rfl)) rfl rfl hl.1 rfl (lv_room (Nat.le_of_ble_eq_true rfl)) dX12_bounded_52 ⟨Nat.le_refl _, Nat.le_refl _⟩) hW hA (wj_split (B := [(mw Y ad_m (sA 16 (fun _ => nI uworstPlace_28) (sA 15 (fun _ => nI uworst_27) (sA 14 (fun _ => nI fp) (sA 13 (fun _ => nI fl) (sA 11 (fun _ => nI tt) g_m))))) w_m)]) (C := [(mw Y ad_m (sA 16 (fun _ => nI uworstPlace_28) (sA 15 (fun _ => nI uworst_27) (sA 14 (fun _ => nI fp) (sA 13 (fun _ => nI fl) (sA 11 (fun _ => nI tt) g_m))))) w_m)]) (R := []) (List.Perm.refl _)) (fun  u H locs hp_30 hW => ?_)
          obtain ⟨ufault_31, ufaultPlace_32, ut_33⟩ := u
          have hp_30 : FM kd pl (PO.bd (Except.ok (tellR 5 tt s0)) passR) ufault_31 ufaultPlace_32 ut_33 uworst_27 uworstPlace_28 := hp_30
          have hW : zW D A s.heap H locs (wj [(mw Y ad_m (sA 16 (fun _ => nI uworstPlace_28) (sA 15 (fun _ => nI uworst_27) (sA 14 (fun _ => nI ufaultPlace_32) (sA 13 (fun _ => nI ufault_31) (sA 11 (fun _ => nI ut_33) g_m))))) w_m)]) := hW.join
          refine lv_iload_n hx hb dX12_bounded_55 rfl (lv_at hl 0 rfl) ?_
          refine z_ireti ((ufault_31, ufaultPlace_32, ut_33, uworst_27, uworstPlace_28) : (Nat) × (Nat) × (Nat) × (Nat) × (Nat)) hx hb hr hlocks rfl hW rfl dX12_bounded_56 ?_
          show (FM kd pl (PO.bd x (numX kd vl lo hi)) ufault_31 ufaultPlace_32 ut_33 uworst_27 uworstPlace_28) ∧ (∀ (s0 : PS) (q0 : Int32 × PS), x = Except.ok s0 → numR kd vl lo hi s0 = Except.ok q0 → (vl tt) = q0.1)
          refine ⟨?_, ?_⟩
          · rw [hx0]
            show FM kd pl (numX kd vl lo hi s0) _ _ _ _ _
            rw [← num_x1 (by rw [← a1]; exact hk2) (by rw [← a1]; assumption), ← a1]; exact hp_30
          · intro s9 q9 e1 e2
            have e3 := (num_v e2).2
            rw [hx0] at e1
            cases e1
            rw [e3, ← a1]
    · have c_8 : ¬ (fl = 0 ∧ kd tt = 2) := zb_eq hp_7 c_8
      refine lv_aload_n hx hb dX12_bounded_15 rfl (lv_at hl 0 rfl) ?_
      refine lv_iconst (v := 1) hx hb dX12_bounded_16 (by decide) ?_
      refine z_callv (wc := wj [(mw Y ad_m (sA 16 (fun _ => nI wp) (sA 15 (fun _ => nI wk) (sA 14 (fun _ => nI fp) (sA 13 (fun _ => nI fl) (sA 11 (fun _ => nI tt) g_m))))) w_m)]) (wr := wj []) (va_runV (As := [.int 1]) (rest := []) ⟨hx, hb, hml, hown, hts⟩ (m_X12_fail l D Y ad_m (sA 16 (fun _ => nI wp) (sA 15 (fun _ => nI wk) (sA 14 (fun _ => nI fp) (sA 13 (fun _ => nI fl) (sA 11 (fun _ => nI tt) g_m))))) w_m kd pl vl nv x fl fp tt wk wp 1 H.size (show TKR kd pl vl nv (g_m 5) (g_m 6) (g_m 7) (w_m 8) from by first | assumption | omega | grind) (show FM kd pl x fl fp tt wk wp from by first | assumption | omega | grind) (show 1 ≤ 1 ∧ 1 ≤ 2 from by first | assumption | omega | grind)) (cwV 1 hts (lw_V q1913 q1915 qs65 q133 q1916) rfl rfl rfl (by decide +kernel) ⟨Nat.le_of_ble_eq_true rfl, Nat.le_of_ble_eq_true rfl⟩) (zPreV hK hW hR (wj_split3 (B := [(mw Y ad_m (sA 16 (fun _ => nI wp) (sA 15 (fun _ => nI wk) (sA 14 (fun _ => nI fp) (sA 13 (fun _ => nI fl) (sA 11 (fun _ => nI tt) g_m))))) w_m)]) (R := []) (C := [(mw Y ad_m (sA 16 (fun _ => nI wp) (sA 15 (fun _ => nI wk) (sA 14 (fun _ => nI fp) (sA 13 (fun _ => nI fl) (sA 11 (fun _ => nI tt) g_m))))) w_m)]) (O := []) (X := []) (List.Perm.refl _)) (va_recv hK.1 hW.1 (ci := 11) (q0 := 0) rfl rfl)) rfl rfl hl.1 rfl (lv_room (Nat.le_of_ble_eq_true rfl)) dX12_bounded_17 ⟨Nat.le_refl _, Nat.le_refl _⟩) hW hA (wj_split (B := [(mw Y ad_m (sA 16 (fun _ => nI wp) (sA 15 (fun _ => nI wk) (sA 14 (fun _ => nI fp) (sA 13 (fun _ => nI fl) (sA 11 (fun _ => nI tt) g_m))))) w_m)]) (C := [(mw Y ad_m (sA 16 (fun _ => nI wp) (sA 15 (fun _ => nI wk) (sA 14 (fun _ => nI fp) (sA 13 (fun _ => nI fl) (sA 11 (fun _ => nI tt) g_m))))) w_m)]) (R := []) (List.Perm.refl _)) (fun  u H locs hp_35 hW => ?_)
      obtain ⟨ufault_36, ufaultPlace_37⟩ := u
      have hp_35 : FM kd pl (PO.bd x (failR 1)) ufault_36 ufaultPlace_37 tt wk wp := hp_35
      have hW : zW D A s.heap H locs (wj [(mw Y ad_m (sA 16 (fun _ => nI wp) (sA 15 (fun _ => nI wk) (sA 14 (fun _ => nI ufaultPlace_37) (sA 13 (fun _ => nI ufault_36) (sA 11 (fun _ => nI tt) g_m))))) w_m)]) := hW.join
      refine lv_iload_n hx hb dX12_bounded_20 rfl (lv_at hl 1 rfl) ?_
      refine z_ireti ((ufault_36, ufaultPlace_37, tt, wk, wp) : (Nat) × (Nat) × (Nat) × (Nat) × (Nat)) hx hb hr hlocks rfl hW rfl dX12_bounded_21 ?_
      show (FM kd pl (PO.bd x (numX kd vl lo hi)) ufault_36 ufaultPlace_37 tt wk wp) ∧ (∀ (s0 : PS) (q0 : Int32 × PS), x = Except.ok s0 → numR kd vl lo hi s0 = Except.ok q0 → lo = q0.1)
      refine ⟨?_, ?_⟩
      · rw [← num_xn hFM (by omega)]; exact hp_35
      · intro s0 q0 e1 e2
        subst e1
        have a1 := hFM.sv
        have a2 := (num_v e2).1
        rw [← a1.2.1] at a2; omega
set_option maxHeartbeats 1000000 in
set_option maxRecDepth 100000 in
theorem m_X12_named (l : Launch) (D : va_G) (Y : Nat → ClassId) (ad_m : Nat → Nat) (g_m : Nat → Nat → Int32) (w_m : Nat → Nat → Int64) (kd : Nat → Nat) (pl : Nat → Nat) (vl : Nat → Int32) (nv : Nat → Nat) (x : PO PS) (fl : Nat) (fp : Nat) (tt : Nat) (wk : Nat) (wp : Nat) (nn : Nat) (nmF : Nat → List Nat) (S_ : Nat → Nat) (A_ : Nat → Nat) (sz : Nat) (hTK : TKR kd pl vl nv (g_m 5) (g_m 6) (g_m 7) (w_m 8)) (hFM : FM kd pl x fl fp tt wk wp) (hNR : NR nmF nn (g_m 22) (g_m 23) (w_m 21) S_ A_) (hNm : ∀ s0, x = Except.ok s0 → s0.nm = nmF) : Met l yX12_named (ws_ yX12_named cX12_named 3 (some .int)) ({ frames := 4, cells := 0, slots := 0, locals := 74 }) (zPc D Y [.ref (ad_m 0)] sz (wj []) (wj [(mw Y ad_m (sA 20 (fun _ => nI nn) (sA 16 (fun _ => nI wp) (sA 15 (fun _ => nI wk) (sA 14 (fun _ => nI fp) (sA 13 (fun _ => nI fl) (sA 11 (fun _ => nI tt) g_m)))))) w_m)])) (va_Qi (fun (r : Int32) (u : (Nat) × (Nat) × (Nat) × (Nat) × (Nat)) => (FM kd pl (PO.bd x (nameX kd nv)) u.1 u.2.1 u.2.2.1 u.2.2.2.1 u.2.2.2.2) ∧ (r = nI tt)) (zB D (fun (u : (Nat) × (Nat) × (Nat) × (Nat) × (Nat)) => (wj [(mw Y ad_m (sA 20 (fun _ => nI nn) (sA 16 (fun _ => nI u.2.2.2.2) (sA 15 (fun _ => nI u.2.2.2.1) (sA 14 (fun _ => nI u.2.1) (sA 13 (fun _ => nI u.1) (sA 11 (fun _ => nI u.2.2.1) g_m)))))) w_m)])) (va_A (wj [(mw Y ad_m (sA 20 (fun _ => nI nn) (sA 16 (fun _ => nI wp) (sA 15 (fun _ => nI wk) (sA 14 (fun _ => nI fp) (sA 13 (fun _ => nI fl) (sA 11 (fun _ => nI tt) g_m)))))) w_m)]) sz)) (va_A (wj [(mw Y ad_m (sA 20 (fun _ => nI nn) (sA 16 (fun _ => nI wp) (sA 15 (fun _ => nI wk) (sA 14 (fun _ => nI fp) (sA 13 (fun _ => nI fl) (sA 11 (fun _ => nI tt) g_m)))))) w_m)]) sz)) 0 0 (va_A (wj [(mw Y ad_m (sA 20 (fun _ => nI nn) (sA 16 (fun _ => nI wp) (sA 15 (fun _ => nI wk) (sA 14 (fun _ => nI fp) (sA 13 (fun _ => nI fl) (sA 11 (fun _ => nI tt) g_m)))))) w_m)]) sz) := by
  refine Met.ofW (cc := cX12_named) (maxL := 3) (ret := (some .int)) (by decide) rfl ?_
  intro p e s m args below meth c s₁ B hml hv
  obtain ⟨rfl, hsz, hW, hR, hK, hA⟩ := zEntry hv
  subst hsz
  have hx := B.exec
  have hb := B.bytes
  have hr := B.returns
  have hlocks := B.notSynchronized
  have hts : ∀ w ∈ lw_all, w.before _ s = true := fun w h => atoms_spec (ws := (ws_ yX12_named cX12_named 3 (some .int))) B.pre w (List.mem_cons_of_mem _ h)
  have hown : s.vm.findClass RX12 = some m.cls := findClass_of_methodNamed B.named
  generalize hAe : va_A (wj [(mw Y ad_m (sA 20 (fun _ => nI nn) (sA 16 (fun _ => nI wp) (sA 15 (fun _ => nI wk) (sA 14 (fun _ => nI fp) (sA 13 (fun _ => nI fl) (sA 11 (fun _ => nI tt) g_m)))))) w_m)]) s.heap.size = A at hW hR hA ⊢
  have hl := lv_entry ([.ref (ad_m 0)]) (n := 3) (Nat.le_of_ble_eq_true rfl)
  rw [lg_entry_eq]
  generalize (lg_sl ([.ref (ad_m 0)]) ++ List.replicate (3 - (lg_sl ([.ref (ad_m 0)])).length) Slot.unset).toArray = ls at hl ⊢
  have hl : lv_has ls 3 [(0, .ref (ad_m 0))] := hl
  have hbnd := hFM.bnd
  have hkb := hTK.kb tt
  have hpb := hTK.pb tt
  have hn20 := hNR.n20
  refine lv_aload_n hx hb dX12_named_0 rfl (lv_at hl 0 rfl) ?_
  refine va_get (v := .int (nI tt)) (C := RX12) (T := TX12) (N := 75) (ci := 11) hx hb hts in_X12 hown hK.1 hW.1 0 rfl rfl 11 (by decide) (hts _ q1647) (fun _ h9 => h9) rfl dX12_named_1 ?_
  refine lv_istore_n (lv' := [(1, .int (nI tt)), (0, .ref (ad_m 0))]) hx hb dX12_named_4 rfl hl (by decide) rfl (fun ls hl => ?_)
  refine lv_aload_n hx hb dX12_named_5 rfl (lv_at hl 1 rfl) ?_
  refine lv_iconst (v := 1) hx hb dX12_named_6 (by decide) ?_
  refine z_callv (wc := wj [(mw Y ad_m (sA 20 (fun _ => nI nn) (sA 16 (fun _ => nI wp) (sA 15 (fun _ => nI wk) (sA 14 (fun _ => nI fp) (sA 13 (fun _ => nI fl) (sA 11 (fun _ => nI tt) g_m)))))) w_m)]) (wr := wj []) (va_runV (As := [.int 1]) (rest := []) ⟨hx, hb, hml, hown, hts⟩ (m_X12_must l D Y ad_m (sA 20 (fun _ => nI nn) (sA 16 (fun _ => nI wp) (sA 15 (fun _ => nI wk) (sA 14 (fun _ => nI fp) (sA 13 (fun _ => nI fl) (sA 11 (fun _ => nI tt) g_m)))))) w_m kd pl vl nv x fl fp tt wk wp 1 s.heap.size (show TKR kd pl vl nv (g_m 5) (g_m 6) (g_m 7) (w_m 8) from by first | assumption | omega | grind) (show FM kd pl x fl fp tt wk wp from by first | assumption | omega | grind) (show 1 < 100 ∧ 1 ≠ 0 ∧ 1 ≠ 3 from by first | assumption | omega | grind)) (cwV 1 hts (lw_V q1929 q1931 qs69 q133 q1932) rfl rfl rfl (by decide +kernel) ⟨Nat.le_of_ble_eq_true rfl, Nat.le_of_ble_eq_true rfl⟩) (zPreV hK hW hR (wj_split3 (B := [(mw Y ad_m (sA 20 (fun _ => nI nn) (sA 16 (fun _ => nI wp) (sA 15 (fun _ => nI wk) (sA 14 (fun _ => nI fp) (sA 13 (fun _ => nI fl) (sA 11 (fun _ => nI tt) g_m)))))) w_m)]) (R := []) (C := [(mw Y ad_m (sA 20 (fun _ => nI nn) (sA 16 (fun _ => nI wp) (sA 15 (fun _ => nI wk) (sA 14 (fun _ => nI fp) (sA 13 (fun _ => nI fl) (sA 11 (fun _ => nI tt) g_m)))))) w_m)]) (O := []) (X := []) (List.Perm.refl _)) (va_recv hK.1 hW.1 (ci := 11) (q0 := 0) rfl rfl)) rfl rfl hl.1 rfl (lv_room (Nat.le_of_ble_eq_true rfl)) dX12_named_7 ⟨Nat.le_refl _, Nat.le_refl _⟩) hW hA (wj_split (B := [(mw Y ad_m (sA 20 (fun _ => nI nn) (sA 16 (fun _ => nI wp) (sA 15 (fun _ => nI wk) (sA 14 (fun _ => nI fp) (sA 13 (fun _ => nI fl) (sA 11 (fun _ => nI tt) g_m)))))) w_m)]) (C := [(mw Y ad_m (sA 20 (fun _ => nI nn) (sA 16 (fun _ => nI wp) (sA 15 (fun _ => nI wk) (sA 14 (fun _ => nI fp) (sA 13 (fun _ => nI fl) (sA 11 (fun _ => nI tt) g_m)))))) w_m)]) (R := []) (List.Perm.refl _)) (fun  u H locs hp_2 hW => ?_)
  obtain ⟨ufault_3, ufaultPlace_4, ut_5⟩ := u
  have hp_2 : FM kd pl (PO.bd x (mustR kd 1)) ufault_3 ufaultPlace_4 ut_5 wk wp := hp_2
  have hW : zW D A s.heap H locs (wj [(mw Y ad_m (sA 20 (fun _ => nI nn) (sA 16 (fun _ => nI wp) (sA 15 (fun _ => nI wk) (sA 14 (fun _ => nI ufaultPlace_4) (sA 13 (fun _ => nI ufault_3) (sA 11 (fun _ => nI ut_5) g_m)))))) w_m)]) := hW.join
  have hbn2 := hp_2.bnd
  refine lv_iconst (v := 0) hx hb dX12_named_10 (by decide) ?_
  refine lv_istore_n (lv' := [(2, .int 0), (1, .int (nI tt)), (0, .ref (ad_m 0))]) hx hb dX12_named_11 rfl hl (by decide) rfl (fun ls hl => ?_)
  have loop_12 : ∀ (n : Nat) (k : Nat) (w1 : Nat) (p1 : Nat), nn - k < n → (k ≤ nn) → (FM kd pl (x.bd (nameK kd nv nmF S_ A_ k)) ufault_3 ufaultPlace_4 ut_5 w1 p1) → ∀ (H : Heap) (locs : List Loc), zW D A s.heap H locs (wj [(mw Y ad_m (sA 20 (fun _ => nI nn) (sA 16 (fun _ => nI p1) (sA 15 (fun _ => nI w1) (sA 14 (fun _ => nI ufaultPlace_4) (sA 13 (fun _ => nI ufault_3) (sA 11 (fun _ => nI ut_5) g_m)))))) w_m)]) → ∀ (ls : Array Slot), lv_has ls 3 [(2, .int (nI k)), (1, .int (nI tt)), (0, .ref (ad_m 0))] → W p l e (headSpec (ws_ yX12_named cX12_named 3 (some .int)) ({ frames := 4, cells := 0, slots := 0, locals := 74 })).room s m ([.ref (ad_m 0)] : List Value).toArray below meth c H locs 0 0 (MQ below (va_Qi (fun (r : Int32) (u : (Nat) × (Nat) × (Nat) × (Nat) × (Nat)) => (FM kd pl (PO.bd x (nameX kd nv)) u.1 u.2.1 u.2.2.1 u.2.2.2.1 u.2.2.2.2) ∧ (r = nI tt)) (zB D (fun (u : (Nat) × (Nat) × (Nat) × (Nat) × (Nat)) => (wj [(mw Y ad_m (sA 20 (fun _ => nI nn) (sA 16 (fun _ => nI u.2.2.2.2) (sA 15 (fun _ => nI u.2.2.2.1) (sA 14 (fun _ => nI u.2.1) (sA 13 (fun _ => nI u.1) (sA 11 (fun _ => nI u.2.2.1) g_m)))))) w_m)])) A) A) ([.ref (ad_m 0)] : List Value).toArray s 0 0 A) (F0 m 12 ls []) := by
    intro n
    induction n with
    | zero =>
      intro k w1 p1 hmz
      exact absurd hmz (Nat.not_lt_zero _)
    | succ n ih =>
      intro k w1 p1 hm_12 hkn hL H locs hW ls hl
      have ih_12 := ih
      clear ih
      refine lv_iload_n hx hb dX12_named_12 rfl (lv_at hl 0 rfl) ?_
      refine lv_aload_n hx hb dX12_named_13 rfl (lv_at hl 2 rfl) ?_
      refine va_get (v := .int (nI nn)) (C := RX12) (T := TX12) (N := 75) (ci := 11) hx hb hts in_X12 hown hK.1 hW.1 0 rfl rfl 20 (by decide) (hts _ q1656) (fun _ h9 => h9) rfl dX12_named_14 ?_
      refine lv_icmp_ge (tgt := 55) hx hb dX12_named_17 (by decide) (fun c_6 => ?_) (fun c_6 => ?_)
      · have c_6 : nn ≤ k := (nI_leI (a := nn) (b := k) (by omega) (by omega)).mp c_6
        refine lv_iload_n hx hb dX12_named_55 rfl (lv_at hl 1 rfl) ?_
        refine z_ireti ((ufault_3, ufaultPlace_4, ut_5, w1, p1) : (Nat) × (Nat) × (Nat) × (Nat) × (Nat)) hx hb hr hlocks rfl hW rfl dX12_named_56 ?_
        show (FM kd pl (PO.bd x (nameX kd nv)) ufault_3 ufaultPlace_4 ut_5 w1 p1) ∧ ((nI tt) = nI tt)
        refine ⟨?_, ?_⟩
        · have ek : k = nn := by omega
          subst ek
          rw [← show x.bd (nameK kd nv nmF S_ A_ k) = x.bd (nameX kd nv) from bd_congr (fun s h => nameK_n hNR (hNm s h))]; exact hL
        · rfl
      · have c_6 : ¬ (nn ≤ k) := fun hz_ => c_6 ((nI_leI (a := nn) (b := k) (by omega) (by omega)).mpr hz_)
        refine lv_aload_n hx hb dX12_named_20 rfl (lv_at hl 2 rfl) ?_
        refine va_get (v := .int (nI ufault_3)) (C := RX12) (T := TX12) (N := 75) (ci := 11) hx hb hts in_X12 hown hK.1 hW.1 0 rfl rfl 13 (by decide) (hts _ q1649) (fun _ h9 => h9) rfl dX12_named_21 ?_
        refine lv_if_ne (tgt := 55) hx hb dX12_named_24 (by decide) (fun c_7 => ?_) (fun c_7 => ?_)
        · have c_7 : ¬ (ufault_3 = 0) := fun hz_ => c_7 ((nI_eq (a := ufault_3) (b := 0) (by omega) (by omega)).mpr hz_)
          refine lv_iload_n hx hb dX12_named_55 rfl (lv_at hl 1 rfl) ?_
          refine z_ireti ((ufault_3, ufaultPlace_4, ut_5, w1, p1) : (Nat) × (Nat) × (Nat) × (Nat) × (Nat)) hx hb hr hlocks rfl hW rfl dX12_named_56 ?_
          show (FM kd pl (PO.bd x (nameX kd nv)) ufault_3 ufaultPlace_4 ut_5 w1 p1) ∧ ((nI tt) = nI tt)
          refine ⟨?_, ?_⟩
          · obtain ⟨e, h1, h2, h3, h4⟩ := hL.er (by omega)
            rw [nameK_err h1]; rw [h1] at hL; exact hL
          · rfl
        · have c_7 : ufault_3 = 0 := (nI_eq (a := ufault_3) (b := 0) (by omega) (by omega)).mp c_7
          obtain ⟨s1, hs1, b1, b2, b3, b4⟩ := hL.ok (by omega)
          obtain ⟨s0, hx0, hs0⟩ := bd_good hs1
          have hng := nameK_good hs0
          have hF0 : FM kd pl (Except.ok s0) fl fp tt wk wp := by rw [← hx0]; exact hFM
          obtain ⟨a0, a1, a2, a3, a4⟩ := hF0.sv
          have hk1 : kd tt = 1 := by rw [a1]; exact hng.1
          have hL1 : FM kd pl (Except.ok s1) ufault_3 ufaultPlace_4 ut_5 w1 p1 := by rw [← hs1]; exact hL
          have ev : w_m 21 k = w_m 8 tt ↔ nmAt nmF S_ A_ k = nv tt := by rw [hNR.o (by omega), hTK.n (by omega) a3 hk1]; exact l_inj (hNR.ob (by omega)) (hTK.nb (by omega) a3 hk1)
          refine lv_aload_n hx hb dX12_named_27 rfl (lv_at hl 2 rfl) ?_
          refine va_get (v := .ref (ad_m 21)) (C := RX12) (T := TX12) (N := 75) (ci := 11) hx hb hts in_X12 hown hK.1 hW.1 0 rfl rfl 21 (by decide) (hts _ q1657) (fun _ h9 => h9) rfl dX12_named_28 ?_
          refine lv_iload_n hx hb dX12_named_31 rfl (lv_at hl 0 rfl) ?_
          refine z_lald (v := (w_m 21) k) (f := w_m 21) (j := k) hx hb hK.1 hW.1 8 4 rfl rfl (vp_in_nI (n := k) (by omega) (by decide)) (nI_clamp (n := k) (by omega)) rfl dX12_named_32 ?_
          refine lv_aload_n hx hb dX12_named_33 rfl (lv_at hl 2 rfl) ?_
          refine va_get (v := .ref (ad_m 8)) (C := RX12) (T := TX12) (N := 75) (ci := 11) hx hb hts in_X12 hown hK.1 hW.1 0 rfl rfl 8 (by decide) (hts _ q1644) (fun _ h9 => h9) rfl dX12_named_34 ?_
          refine lv_iload_n hx hb dX12_named_37 rfl (lv_at hl 1 rfl) ?_
          refine z_lald (v := (w_m 8) tt) (f := w_m 8) (j := tt) hx hb hK.1 hW.1 6 4 rfl rfl (vp_in_nI (n := tt) (by omega) (by decide)) (nI_clamp (n := tt) (by omega)) rfl dX12_named_38 ?_
          refine z_lcmp hx hb dX12_named_39 (fun lc_8 hlc_8 => ?_)
          refine lv_if_ne (tgt := 49) hx hb dX12_named_40 (by decide) (fun c_9 => ?_) (fun c_9 => ?_)
          · have hv : ¬ nmAt nmF S_ A_ k = nv tt := fun z => c_9 (hlc_8.mpr (ev.mpr z))
            refine lv_iinc (v := nI (k + 1)) (lv' := [(2, .int (nI (k + 1))), (1, .int (nI tt)), (0, .ref (ad_m 0))]) hx hb dX12_named_49 hl (k := 0) rfl (nI_add k 1) (by decide) rfl (fun ls hl => ?_)
            refine lv_goto (tgt := 12) hx hb dX12_named_52 (by decide) ?_
            exact ih_12 (k + 1) w1 p1 (by omega) (by omega) (by rw [hx0]; show FM kd pl (nameK kd nv nmF S_ A_ (k + 1) s0) _ _ _ _ _; rw [nameK_no (by rw [← a1]; exact hv), hs0]; exact hL1) _ _ hW _ (lv_sub hl [0, 1, 2] rfl)
          · have hv : nmAt nmF S_ A_ k = nv tt := ev.mp (hlc_8.mp c_9)
            refine lv_aload_n hx hb dX12_named_43 rfl (lv_at hl 2 rfl) ?_
            refine lv_iconst (v := 3) hx hb dX12_named_44 (by decide) ?_
            refine lv_iload_n hx hb dX12_named_45 rfl (lv_at hl 1 rfl) ?_
            refine z_callv (wc := wj [(mw Y ad_m (sA 20 (fun _ => nI nn) (sA 16 (fun _ => nI p1) (sA 15 (fun _ => nI w1) (sA 14 (fun _ => nI ufaultPlace_4) (sA 13 (fun _ => nI ufault_3) (sA 11 (fun _ => nI ut_5) g_m)))))) w_m)]) (wr := wj []) (va_runV (As := [.int 3, .int (nI tt)]) (rest := []) ⟨hx, hb, hml, hown, hts⟩ (m_X12_wrong l D Y ad_m (sA 20 (fun _ => nI nn) (sA 16 (fun _ => nI p1) (sA 15 (fun _ => nI w1) (sA 14 (fun _ => nI ufaultPlace_4) (sA 13 (fun _ => nI ufault_3) (sA 11 (fun _ => nI ut_5) g_m)))))) w_m kd pl vl nv s1 ufault_3 ufaultPlace_4 ut_5 w1 p1 3 tt H.size (show TKR kd pl vl nv (g_m 5) (g_m 6) (g_m 7) (w_m 8) from by first | assumption | omega | grind) (show FM kd pl (Except.ok s1) ufault_3 ufaultPlace_4 ut_5 w1 p1 from by exact hL1) (show 3 ≤ 5 from by first | assumption | omega | grind) (show tt ≤ ut_5 from by have := hng.2; omega)) (cwV 2 hts (lw_V q1933 q1935 qs70 q133 q1936) rfl rfl rfl (by decide +kernel) ⟨Nat.le_of_ble_eq_true rfl, Nat.le_of_ble_eq_true rfl⟩) (zPreV hK hW hR (wj_split3 (B := [(mw Y ad_m (sA 20 (fun _ => nI nn) (sA 16 (fun _ => nI p1) (sA 15 (fun _ => nI w1) (sA 14 (fun _ => nI ufaultPlace_4) (sA 13 (fun _ => nI ufault_3) (sA 11 (fun _ => nI ut_5) g_m)))))) w_m)]) (R := []) (C := [(mw Y ad_m (sA 20 (fun _ => nI nn) (sA 16 (fun _ => nI p1) (sA 15 (fun _ => nI w1) (sA 14 (fun _ => nI ufaultPlace_4) (sA 13 (fun _ => nI ufault_3) (sA 11 (fun _ => nI ut_5) g_m)))))) w_m)]) (O := []) (X := []) (List.Perm.refl _)) (va_recv hK.1 hW.1 (ci := 11) (q0 := 0) rfl rfl)) rfl rfl hl.1 rfl (lv_room (Nat.le_of_ble_eq_true rfl)) dX12_named_46 ⟨Nat.le_refl _, Nat.le_refl _⟩) hW hA (wj_split (B := [(mw Y ad_m (sA 20 (fun _ => nI nn) (sA 16 (fun _ => nI p1) (sA 15 (fun _ => nI w1) (sA 14 (fun _ => nI ufaultPlace_4) (sA 13 (fun _ => nI ufault_3) (sA 11 (fun _ => nI ut_5) g_m)))))) w_m)]) (C := [(mw Y ad_m (sA 20 (fun _ => nI nn) (sA 16 (fun _ => nI p1) (sA 15 (fun _ => nI w1) (sA 14 (fun _ => nI ufaultPlace_4) (sA 13 (fun _ => nI ufault_3) (sA 11 (fun _ => nI ut_5) g_m)))))) w_m)]) (R := []) (List.Perm.refl _)) (fun  u H locs hp_11 hW => ?_)
            obtain ⟨uworst_12, uworstPlace_13⟩ := u
            have hp_11 : FM kd pl (Except.ok (tellR 3 tt s1)) ufault_3 ufaultPlace_4 ut_5 uworst_12 uworstPlace_13 := hp_11
            have hW : zW D A s.heap H locs (wj [(mw Y ad_m (sA 20 (fun _ => nI nn) (sA 16 (fun _ => nI uworstPlace_13) (sA 15 (fun _ => nI uworst_12) (sA 14 (fun _ => nI ufaultPlace_4) (sA 13 (fun _ => nI ufault_3) (sA 11 (fun _ => nI ut_5) g_m)))))) w_m)]) := hW.join
            refine lv_iinc (v := nI (k + 1)) (lv' := [(2, .int (nI (k + 1))), (1, .int (nI tt)), (0, .ref (ad_m 0))]) hx hb dX12_named_49 hl (k := 0) rfl (nI_add k 1) (by decide) rfl (fun ls hl => ?_)
            refine lv_goto (tgt := 12) hx hb dX12_named_52 (by decide) ?_
            exact ih_12 (k + 1) uworst_12 uworstPlace_13 (by omega) (by omega) (by rw [hx0]; show FM kd pl (nameK kd nv nmF S_ A_ (k + 1) s0) _ _ _ _ _; rw [nameK_yes hs0 (by rw [← a1]; exact hv), ← a1]; exact hp_11) _ _ hW _ (lv_sub hl [0, 1, 2] rfl)
  exact loop_12 _ 0 wk wp (Nat.lt_succ_self _) (by omega) (by rw [show x.bd (nameK kd nv nmF S_ A_ 0) = x.bd (mustR kd 1) from bd_congr (fun s _ => nameK_0 kd nv nmF S_ A_ s)]; exact hp_2) _ _ hW _ (lv_sub hl [0, 1, 2] rfl)
set_option maxHeartbeats 1000000 in
set_option maxRecDepth 100000 in
theorem m_X12_known (l : Launch) (D : va_G) (Y : Nat → ClassId) (ad_m : Nat → Nat) (g_m : Nat → Nat → Int32) (w_m : Nat → Nat → Int64) (kd : Nat → Nat) (pl : Nat → Nat) (vl : Nat → Int32) (nv : Nat → Nat) (x : PO PS) (fl : Nat) (fp : Nat) (tt : Nat) (wk : Nat) (wp : Nat) (jj : Nat) (nn : Nat) (nmF : Nat → List Nat) (S_ : Nat → Nat) (A_ : Nat → Nat) (sz : Nat) (hTK : TKR kd pl vl nv (g_m 5) (g_m 6) (g_m 7) (w_m 8)) (hFM : FM kd pl x fl fp tt wk wp) (hNR : NR nmF nn (g_m 22) (g_m 23) (w_m 21) S_ A_) (hNm : ∀ s0, x = Except.ok s0 → s0.nm = nmF) (hjj : jj < 3) : Met l yX12_known (ws_ yX12_known cX12_known 4 (some .int)) ({ frames := 4, cells := 0, slots := 0, locals := 74 }) (zPc D Y [.ref (ad_m 0), .int (nI jj)] sz (wj []) (wj [(mw Y ad_m (sA 20 (fun _ => nI nn) (sA 16 (fun _ => nI wp) (sA 15 (fun _ => nI wk) (sA 14 (fun _ => nI fp) (sA 13 (fun _ => nI fl) (sA 11 (fun _ => nI tt) g_m)))))) w_m)])) (va_Qi (fun (r : Int32) (u : (Nat) × (Nat) × (Nat) × (Nat) × (Nat)) => (FM kd pl (PO.bd x (knownX kd nv jj)) u.1 u.2.1 u.2.2.1 u.2.2.2.1 u.2.2.2.2) ∧ ((∀ (s0 : PS) (q0 : Int32 × PS), x = Except.ok s0 → knownR kd nv jj s0 = Except.ok q0 → r = q0.1) ∧ (¬ u.1 = 0 → r = -1))) (zB D (fun (u : (Nat) × (Nat) × (Nat) × (Nat) × (Nat)) => (wj [(mw Y ad_m (sA 20 (fun _ => nI nn) (sA 16 (fun _ => nI u.2.2.2.2) (sA 15 (fun _ => nI u.2.2.2.1) (sA 14 (fun _ => nI u.2.1) (sA 13 (fun _ => nI u.1) (sA 11 (fun _ => nI u.2.2.1) g_m)))))) w_m)])) (va_A (wj [(mw Y ad_m (sA 20 (fun _ => nI nn) (sA 16 (fun _ => nI wp) (sA 15 (fun _ => nI wk) (sA 14 (fun _ => nI fp) (sA 13 (fun _ => nI fl) (sA 11 (fun _ => nI tt) g_m)))))) w_m)]) sz)) (va_A (wj [(mw Y ad_m (sA 20 (fun _ => nI nn) (sA 16 (fun _ => nI wp) (sA 15 (fun _ => nI wk) (sA 14 (fun _ => nI fp) (sA 13 (fun _ => nI fl) (sA 11 (fun _ => nI tt) g_m)))))) w_m)]) sz)) 0 0 (va_A (wj [(mw Y ad_m (sA 20 (fun _ => nI nn) (sA 16 (fun _ => nI wp) (sA 15 (fun _ => nI wk) (sA 14 (fun _ => nI fp) (sA 13 (fun _ => nI fl) (sA 11 (fun _ => nI tt) g_m)))))) w_m)]) sz) := by
  refine Met.ofW (cc := cX12_known) (maxL := 4) (ret := (some .int)) (by decide) rfl ?_
  intro p e s m args below meth c s₁ B hml hv
  obtain ⟨rfl, hsz, hW, hR, hK, hA⟩ := zEntry hv
  subst hsz
  have hx := B.exec
  have hb := B.bytes
  have hr := B.returns
  have hlocks := B.notSynchronized
  have hts : ∀ w ∈ lw_all, w.before _ s = true := fun w h => atoms_spec (ws := (ws_ yX12_known cX12_known 4 (some .int))) B.pre w (List.mem_cons_of_mem _ h)
  have hown : s.vm.findClass RX12 = some m.cls := findClass_of_methodNamed B.named
  generalize hAe : va_A (wj [(mw Y ad_m (sA 20 (fun _ => nI nn) (sA 16 (fun _ => nI wp) (sA 15 (fun _ => nI wk) (sA 14 (fun _ => nI fp) (sA 13 (fun _ => nI fl) (sA 11 (fun _ => nI tt) g_m)))))) w_m)]) s.heap.size = A at hW hR hA ⊢
  have hl := lv_entry ([.ref (ad_m 0), .int (nI jj)]) (n := 4) (Nat.le_of_ble_eq_true rfl)
  rw [lg_entry_eq]
  generalize (lg_sl ([.ref (ad_m 0), .int (nI jj)]) ++ List.replicate (4 - (lg_sl ([.ref (ad_m 0), .int (nI jj)])).length) Slot.unset).toArray = ls at hl ⊢
  have hl : lv_has ls 4 [(0, .ref (ad_m 0)), (1, .int (nI jj))] := hl
  have hbnd := hFM.bnd
  have hkb := hTK.kb tt
  have hpb := hTK.pb tt
  have hn20 := hNR.n20
  refine lv_aload_n hx hb dX12_known_0 rfl (lv_at hl 0 rfl) ?_
  refine va_get (v := .int (nI tt)) (C := RX12) (T := TX12) (N := 75) (ci := 11) hx hb hts in_X12 hown hK.1 hW.1 0 rfl rfl 11 (by decide) (hts _ q1647) (fun _ h9 => h9) rfl dX12_known_1 ?_
  refine lv_istore_n (lv' := [(2, .int (nI tt)), (0, .ref (ad_m 0)), (1, .int (nI jj))]) hx hb dX12_known_4 rfl hl (by decide) rfl (fun ls hl => ?_)
  refine lv_aload_n hx hb dX12_known_5 rfl (lv_at hl 1 rfl) ?_
  refine lv_iconst (v := 1) hx hb dX12_known_6 (by decide) ?_
  refine z_callv (wc := wj [(mw Y ad_m (sA 20 (fun _ => nI nn) (sA 16 (fun _ => nI wp) (sA 15 (fun _ => nI wk) (sA 14 (fun _ => nI fp) (sA 13 (fun _ => nI fl) (sA 11 (fun _ => nI tt) g_m)))))) w_m)]) (wr := wj []) (va_runV (As := [.int 1]) (rest := []) ⟨hx, hb, hml, hown, hts⟩ (m_X12_must l D Y ad_m (sA 20 (fun _ => nI nn) (sA 16 (fun _ => nI wp) (sA 15 (fun _ => nI wk) (sA 14 (fun _ => nI fp) (sA 13 (fun _ => nI fl) (sA 11 (fun _ => nI tt) g_m)))))) w_m kd pl vl nv x fl fp tt wk wp 1 s.heap.size (show TKR kd pl vl nv (g_m 5) (g_m 6) (g_m 7) (w_m 8) from by first | assumption | omega | grind) (show FM kd pl x fl fp tt wk wp from by first | assumption | omega | grind) (show 1 < 100 ∧ 1 ≠ 0 ∧ 1 ≠ 3 from by first | assumption | omega | grind)) (cwV 1 hts (lw_V q1929 q1931 qs69 q133 q1932) rfl rfl rfl (by decide +kernel) ⟨Nat.le_of_ble_eq_true rfl, Nat.le_of_ble_eq_true rfl⟩) (zPreV hK hW hR (wj_split3 (B := [(mw Y ad_m (sA 20 (fun _ => nI nn) (sA 16 (fun _ => nI wp) (sA 15 (fun _ => nI wk) (sA 14 (fun _ => nI fp) (sA 13 (fun _ => nI fl) (sA 11 (fun _ => nI tt) g_m)))))) w_m)]) (R := []) (C := [(mw Y ad_m (sA 20 (fun _ => nI nn) (sA 16 (fun _ => nI wp) (sA 15 (fun _ => nI wk) (sA 14 (fun _ => nI fp) (sA 13 (fun _ => nI fl) (sA 11 (fun _ => nI tt) g_m)))))) w_m)]) (O := []) (X := []) (List.Perm.refl _)) (va_recv hK.1 hW.1 (ci := 11) (q0 := 0) rfl rfl)) rfl rfl hl.1 rfl (lv_room (Nat.le_of_ble_eq_true rfl)) dX12_known_7 ⟨Nat.le_refl _, Nat.le_refl _⟩) hW hA (wj_split (B := [(mw Y ad_m (sA 20 (fun _ => nI nn) (sA 16 (fun _ => nI wp) (sA 15 (fun _ => nI wk) (sA 14 (fun _ => nI fp) (sA 13 (fun _ => nI fl) (sA 11 (fun _ => nI tt) g_m)))))) w_m)]) (C := [(mw Y ad_m (sA 20 (fun _ => nI nn) (sA 16 (fun _ => nI wp) (sA 15 (fun _ => nI wk) (sA 14 (fun _ => nI fp) (sA 13 (fun _ => nI fl) (sA 11 (fun _ => nI tt) g_m)))))) w_m)]) (R := []) (List.Perm.refl _)) (fun  u H locs hp_2 hW => ?_)
  obtain ⟨ufault_3, ufaultPlace_4, ut_5⟩ := u
  have hp_2 : FM kd pl (PO.bd x (mustR kd 1)) ufault_3 ufaultPlace_4 ut_5 wk wp := hp_2
  have hW : zW D A s.heap H locs (wj [(mw Y ad_m (sA 20 (fun _ => nI nn) (sA 16 (fun _ => nI wp) (sA 15 (fun _ => nI wk) (sA 14 (fun _ => nI ufaultPlace_4) (sA 13 (fun _ => nI ufault_3) (sA 11 (fun _ => nI ut_5) g_m)))))) w_m)]) := hW.join
  have hbn2 := hp_2.bnd
  refine lv_aload_n hx hb dX12_known_10 rfl (lv_at hl 1 rfl) ?_
  refine va_get (v := .int (nI ufault_3)) (C := RX12) (T := TX12) (N := 75) (ci := 11) hx hb hts in_X12 hown hK.1 hW.1 0 rfl rfl 13 (by decide) (hts _ q1649) (fun _ h9 => h9) rfl dX12_known_11 ?_
  refine lv_if_le (tgt := 19) hx hb dX12_known_14 (by decide) (fun c_6 => ?_) (fun c_6 => ?_)
  · have c_6 : ufault_3 ≤ 0 := (nI_leI (a := ufault_3) (b := 0) (by omega) (by omega)).mp c_6
    obtain ⟨s1, hs1, b1, b2, b3, b4⟩ := hp_2.ok (by omega)
    obtain ⟨s0, hx0, hs0⟩ := bd_good hs1
    obtain ⟨hk0, -, hgo1⟩ := must_good hs0
    have hF0 : FM kd pl (Except.ok s0) fl fp tt wk wp := by rw [← hx0]; exact hFM
    obtain ⟨a0, a1, a2, a3, a4⟩ := hF0.sv
    have hk1 : kd tt = 1 := by rw [a1]; exact hk0
    have hL1 : FM kd pl (Except.ok s1) ufault_3 ufaultPlace_4 ut_5 wk wp := by rw [← hs1]; exact hp_2
    have enm := hNm s0 hx0
    have eat : s1.at_ = tt + 1 := by rw [hgo1, a1]; rfl
    refine lv_iconst (v := 0) hx hb dX12_known_19 (by decide) ?_
    refine lv_istore_n (lv' := [(3, .int 0), (2, .int (nI tt)), (0, .ref (ad_m 0)), (1, .int (nI jj))]) hx hb dX12_known_20 rfl hl (by decide) rfl (fun ls hl => ?_)
    have loop_21 : ∀ (n : Nat) (k : Nat), nn - k < n → (k ≤ nn) → (∀ i, i < k → ¬ (nmAt nmF S_ A_ i = nv tt ∧ S_ i = jj)) → ∀ (H : Heap) (locs : List Loc), zW D A s.heap H locs (wj [(mw Y ad_m (sA 20 (fun _ => nI nn) (sA 16 (fun _ => nI wp) (sA 15 (fun _ => nI wk) (sA 14 (fun _ => nI ufaultPlace_4) (sA 13 (fun _ => nI ufault_3) (sA 11 (fun _ => nI ut_5) g_m)))))) w_m)]) → ∀ (ls : Array Slot), lv_has ls 4 [(3, .int (nI k)), (2, .int (nI tt)), (0, .ref (ad_m 0)), (1, .int (nI jj))] → W p l e (headSpec (ws_ yX12_known cX12_known 4 (some .int)) ({ frames := 4, cells := 0, slots := 0, locals := 74 })).room s m ([.ref (ad_m 0), .int (nI jj)] : List Value).toArray below meth c H locs 0 0 (MQ below (va_Qi (fun (r : Int32) (u : (Nat) × (Nat) × (Nat) × (Nat) × (Nat)) => (FM kd pl (PO.bd x (knownX kd nv jj)) u.1 u.2.1 u.2.2.1 u.2.2.2.1 u.2.2.2.2) ∧ ((∀ (s0 : PS) (q0 : Int32 × PS), x = Except.ok s0 → knownR kd nv jj s0 = Except.ok q0 → r = q0.1) ∧ (¬ u.1 = 0 → r = -1))) (zB D (fun (u : (Nat) × (Nat) × (Nat) × (Nat) × (Nat)) => (wj [(mw Y ad_m (sA 20 (fun _ => nI nn) (sA 16 (fun _ => nI u.2.2.2.2) (sA 15 (fun _ => nI u.2.2.2.1) (sA 14 (fun _ => nI u.2.1) (sA 13 (fun _ => nI u.1) (sA 11 (fun _ => nI u.2.2.1) g_m)))))) w_m)])) A) A) ([.ref (ad_m 0), .int (nI jj)] : List Value).toArray s 0 0 A) (F0 m 21 ls []) := by
      intro n
      induction n with
      | zero =>
        intro k hmz
        exact absurd hmz (Nat.not_lt_zero _)
      | succ n ih =>
        intro k hm_21 hkn hno H locs hW ls hl
        have ih_21 := ih
        clear ih
        refine lv_iload_n hx hb dX12_known_21 rfl (lv_at hl 0 rfl) ?_
        refine lv_aload_n hx hb dX12_known_22 rfl (lv_at hl 2 rfl) ?_
        refine va_get (v := .int (nI nn)) (C := RX12) (T := TX12) (N := 75) (ci := 11) hx hb hts in_X12 hown hK.1 hW.1 0 rfl rfl 20 (by decide) (hts _ q1656) (fun _ h9 => h9) rfl dX12_known_23 ?_
        refine lv_icmp_ge (tgt := 68) hx hb dX12_known_26 (by decide) (fun c_7 => ?_) (fun c_7 => ?_)
        · have c_7 : nn ≤ k := (nI_leI (a := nn) (b := k) (by omega) (by omega)).mp c_7
          refine lv_aload_n hx hb dX12_known_68 rfl (lv_at hl 2 rfl) ?_
          refine lv_iconst (v := 4) hx hb dX12_known_69 (by decide) ?_
          refine lv_iload_n hx hb dX12_known_70 rfl (lv_at hl 1 rfl) ?_
          refine z_callv (wc := wj [(mw Y ad_m (sA 20 (fun _ => nI nn) (sA 16 (fun _ => nI wp) (sA 15 (fun _ => nI wk) (sA 14 (fun _ => nI ufaultPlace_4) (sA 13 (fun _ => nI ufault_3) (sA 11 (fun _ => nI ut_5) g_m)))))) w_m)]) (wr := wj []) (va_runV (As := [.int 4, .int (nI tt)]) (rest := []) ⟨hx, hb, hml, hown, hts⟩ (m_X12_wrong l D Y ad_m (sA 20 (fun _ => nI nn) (sA 16 (fun _ => nI wp) (sA 15 (fun _ => nI wk) (sA 14 (fun _ => nI ufaultPlace_4) (sA 13 (fun _ => nI ufault_3) (sA 11 (fun _ => nI ut_5) g_m)))))) w_m kd pl vl nv s1 ufault_3 ufaultPlace_4 ut_5 wk wp 4 tt H.size (show TKR kd pl vl nv (g_m 5) (g_m 6) (g_m 7) (w_m 8) from by first | assumption | omega | grind) (show FM kd pl (Except.ok s1) ufault_3 ufaultPlace_4 ut_5 wk wp from by exact hL1) (show 4 ≤ 5 from by first | assumption | omega | grind) (show tt ≤ ut_5 from by omega)) (cwV 2 hts (lw_V q1933 q1935 qs70 q133 q1936) rfl rfl rfl (by decide +kernel) ⟨Nat.le_of_ble_eq_true rfl, Nat.le_of_ble_eq_true rfl⟩) (zPreV hK hW hR (wj_split3 (B := [(mw Y ad_m (sA 20 (fun _ => nI nn) (sA 16 (fun _ => nI wp) (sA 15 (fun _ => nI wk) (sA 14 (fun _ => nI ufaultPlace_4) (sA 13 (fun _ => nI ufault_3) (sA 11 (fun _ => nI ut_5) g_m)))))) w_m)]) (R := []) (C := [(mw Y ad_m (sA 20 (fun _ => nI nn) (sA 16 (fun _ => nI wp) (sA 15 (fun _ => nI wk) (sA 14 (fun _ => nI ufaultPlace_4) (sA 13 (fun _ => nI ufault_3) (sA 11 (fun _ => nI ut_5) g_m)))))) w_m)]) (O := []) (X := []) (List.Perm.refl _)) (va_recv hK.1 hW.1 (ci := 11) (q0 := 0) rfl rfl)) rfl rfl hl.1 rfl (lv_room (Nat.le_of_ble_eq_true rfl)) dX12_known_71 ⟨Nat.le_refl _, Nat.le_refl _⟩) hW hA (wj_split (B := [(mw Y ad_m (sA 20 (fun _ => nI nn) (sA 16 (fun _ => nI wp) (sA 15 (fun _ => nI wk) (sA 14 (fun _ => nI ufaultPlace_4) (sA 13 (fun _ => nI ufault_3) (sA 11 (fun _ => nI ut_5) g_m)))))) w_m)]) (C := [(mw Y ad_m (sA 20 (fun _ => nI nn) (sA 16 (fun _ => nI wp) (sA 15 (fun _ => nI wk) (sA 14 (fun _ => nI ufaultPlace_4) (sA 13 (fun _ => nI ufault_3) (sA 11 (fun _ => nI ut_5) g_m)))))) w_m)]) (R := []) (List.Perm.refl _)) (fun  u H locs hp_9 hW => ?_)
          obtain ⟨uworst_10, uworstPlace_11⟩ := u
          have hp_9 : FM kd pl (Except.ok (tellR 4 tt s1)) ufault_3 ufaultPlace_4 ut_5 uworst_10 uworstPlace_11 := hp_9
          have hW : zW D A s.heap H locs (wj [(mw Y ad_m (sA 20 (fun _ => nI nn) (sA 16 (fun _ => nI uworstPlace_11) (sA 15 (fun _ => nI uworst_10) (sA 14 (fun _ => nI ufaultPlace_4) (sA 13 (fun _ => nI ufault_3) (sA 11 (fun _ => nI ut_5) g_m)))))) w_m)]) := hW.join
          refine lv_iconst (v := (-1)) hx hb dX12_known_74 (by decide) ?_
          refine z_ireti ((ufault_3, ufaultPlace_4, ut_5, uworst_10, uworstPlace_11) : (Nat) × (Nat) × (Nat) × (Nat) × (Nat)) hx hb hr hlocks rfl hW rfl dX12_known_75 ?_
          show (FM kd pl (PO.bd x (knownX kd nv jj)) ufault_3 ufaultPlace_4 ut_5 uworst_10 uworstPlace_11) ∧ ((∀ (s0 : PS) (q0 : Int32 × PS), x = Except.ok s0 → knownR kd nv jj s0 = Except.ok q0 → (-1) = q0.1) ∧ (¬ ufault_3 = 0 → (-1) = -1))
          have hkr := known_miss (nv := nv) (j := jj) hs0 (by rw [enm, ← a1]; exact hNR.miss hjj (fun i hi => hno i (by omega)))
          refine ⟨?_, ?_⟩
          · rw [hx0]
            show FM kd pl (knownX kd nv jj s0) _ _ _ _ _
            unfold knownX
            rw [hkr]
            rw [← a1]; exact hp_9
          · refine ⟨?_, fun z => absurd hL1.sv.1 z⟩
            intro s9 q9 e1 e2
            rw [hx0] at e1
            cases e1
            rw [hkr] at e2
            cases e2
            rfl
        · have c_7 : ¬ (nn ≤ k) := fun hz_ => c_7 ((nI_leI (a := nn) (b := k) (by omega) (by omega)).mpr hz_)
          have ev : w_m 21 k = w_m 8 tt ↔ nmAt nmF S_ A_ k = nv tt := by rw [hNR.o (by omega), hTK.n (by omega) a3 hk1]; exact l_inj (hNR.ob (by omega)) (hTK.nb (by omega) a3 hk1)
          have hs3 := hNR.s3 (show k < nn by omega)
          refine lv_aload_n hx hb dX12_known_29 rfl (lv_at hl 2 rfl) ?_
          refine va_get (v := .ref (ad_m 21)) (C := RX12) (T := TX12) (N := 75) (ci := 11) hx hb hts in_X12 hown hK.1 hW.1 0 rfl rfl 21 (by decide) (hts _ q1657) (fun _ h9 => h9) rfl dX12_known_30 ?_
          refine lv_iload_n hx hb dX12_known_33 rfl (lv_at hl 0 rfl) ?_
          refine z_lald (v := (w_m 21) k) (f := w_m 21) (j := k) hx hb hK.1 hW.1 8 4 rfl rfl (vp_in_nI (n := k) (by omega) (by decide)) (nI_clamp (n := k) (by omega)) rfl dX12_known_34 ?_
          refine lv_aload_n hx hb dX12_known_35 rfl (lv_at hl 2 rfl) ?_
          refine va_get (v := .ref (ad_m 8)) (C := RX12) (T := TX12) (N := 75) (ci := 11) hx hb hts in_X12 hown hK.1 hW.1 0 rfl rfl 8 (by decide) (hts _ q1644) (fun _ h9 => h9) rfl dX12_known_36 ?_
          refine lv_iload_n hx hb dX12_known_39 rfl (lv_at hl 1 rfl) ?_
          refine z_lald (v := (w_m 8) tt) (f := w_m 8) (j := tt) hx hb hK.1 hW.1 6 4 rfl rfl (vp_in_nI (n := tt) (by omega) (by decide)) (nI_clamp (n := tt) (by omega)) rfl dX12_known_40 ?_
          refine z_lcmp hx hb dX12_known_41 (fun lc_12 hlc_12 => ?_)
          refine lv_if_ne (tgt := 62) hx hb dX12_known_42 (by decide) (fun c_13 => ?_) (fun c_13 => ?_)
          · have hv : ¬ (nmAt nmF S_ A_ k = nv tt ∧ S_ k = jj) := fun z => c_13 (hlc_12.mpr (ev.mpr z.1))
            refine lv_iinc (v := nI (k + 1)) (lv' := [(3, .int (nI (k + 1))), (2, .int (nI tt)), (0, .ref (ad_m 0)), (1, .int (nI jj))]) hx hb dX12_known_62 hl (k := 0) rfl (nI_add k 1) (by decide) rfl (fun ls hl => ?_)
            refine lv_goto (tgt := 21) hx hb dX12_known_65 (by decide) ?_
            exact ih_21 (k + 1) (by omega) (by omega) (by
                intro i hi q; by_cases c : i = k
                · rw [c] at q; exact hv q
                · exact hno i (by omega) q) _ _ hW _ (lv_sub hl [0, 1, 2, 3] rfl)
          · have hv1 : nmAt nmF S_ A_ k = nv tt := ev.mp (hlc_12.mp c_13)
            refine lv_aload_n hx hb dX12_known_45 rfl (lv_at hl 2 rfl) ?_
            refine va_get (v := .ref (ad_m 22)) (C := RX12) (T := TX12) (N := 75) (ci := 11) hx hb hts in_X12 hown hK.1 hW.1 0 rfl rfl 22 (by decide) (hts _ q1658) (fun _ h9 => h9) rfl dX12_known_46 ?_
            refine lv_iload_n hx hb dX12_known_49 rfl (lv_at hl 0 rfl) ?_
            refine z_iald (v := nI (S_ k)) (f := g_m 22) (j := k) hx hb hK.1 hW.1 9 0 rfl rfl (vp_in_nI (n := k) (by omega) (by decide)) (nI_clamp (n := k) (by omega)) (hNR.s (i := k) (by omega)) dX12_known_50 ?_
            refine lv_iload_n hx hb dX12_known_51 rfl (lv_at hl 3 rfl) ?_
            refine lv_icmp_ne (tgt := 62) hx hb dX12_known_52 (by decide) (fun c_14 => ?_) (fun c_14 => ?_)
            · have c_14 : ¬ (S_ k = jj) := fun hz_ => c_14 ((nI_eq (a := S_ k) (b := jj) (by omega) (by omega)).mpr hz_)
              have hv : ¬ (nmAt nmF S_ A_ k = nv tt ∧ S_ k = jj) := fun z => by omega
              refine lv_iinc (v := nI (k + 1)) (lv' := [(3, .int (nI (k + 1))), (2, .int (nI tt)), (0, .ref (ad_m 0)), (1, .int (nI jj))]) hx hb dX12_known_62 hl (k := 0) rfl (nI_add k 1) (by decide) rfl (fun ls hl => ?_)
              refine lv_goto (tgt := 21) hx hb dX12_known_65 (by decide) ?_
              exact ih_21 (k + 1) (by omega) (by omega) (by
                  intro i hi q; by_cases c : i = k
                  · rw [c] at q; exact hv q
                  · exact hno i (by omega) q) _ _ hW _ (lv_sub hl [0, 1, 2, 3] rfl)
            · have c_14 : S_ k = jj := (nI_eq (a := S_ k) (b := jj) (by omega) (by omega)).mp c_14
              have hal := hNR.al (show k < nn by omega)
              refine lv_aload_n hx hb dX12_known_55 rfl (lv_at hl 2 rfl) ?_
              refine va_get (v := .ref (ad_m 23)) (C := RX12) (T := TX12) (N := 75) (ci := 11) hx hb hts in_X12 hown hK.1 hW.1 0 rfl rfl 23 (by decide) (hts _ q1659) (fun _ h9 => h9) rfl dX12_known_56 ?_
              refine lv_iload_n hx hb dX12_known_59 rfl (lv_at hl 0 rfl) ?_
              refine z_iald (v := nI (A_ k)) (f := g_m 23) (j := k) hx hb hK.1 hW.1 10 0 rfl rfl (vp_in_nI (n := k) (by omega) (by decide)) (nI_clamp (n := k) (by omega)) (hNR.a (i := k) (by omega)) dX12_known_60 ?_
              refine z_ireti ((ufault_3, ufaultPlace_4, ut_5, wk, wp) : (Nat) × (Nat) × (Nat) × (Nat) × (Nat)) hx hb hr hlocks rfl hW rfl dX12_known_61 ?_
              show (FM kd pl (PO.bd x (knownX kd nv jj)) ufault_3 ufaultPlace_4 ut_5 wk wp) ∧ ((∀ (s0 : PS) (q0 : Int32 × PS), x = Except.ok s0 → knownR kd nv jj s0 = Except.ok q0 → (nI (A_ k)) = q0.1) ∧ (¬ ufault_3 = 0 → (nI (A_ k)) = -1))
              have hkr := known_hit (nv := nv) (j := jj) hs0 (by rw [enm, ← a1]; exact hNR.hit (k := k) (by omega) (by omega) hv1 hno)
              refine ⟨?_, ?_⟩
              · rw [hx0]
                show FM kd pl (knownX kd nv jj s0) _ _ _ _ _
                unfold knownX
                rw [hkr]
                exact hL1
              · refine ⟨?_, fun z => absurd hL1.sv.1 z⟩
                intro s9 q9 e1 e2
                rw [hx0] at e1
                cases e1
                rw [hkr] at e2
                cases e2
                rfl
    exact loop_21 _ 0 (Nat.lt_succ_self _) (by omega) (by intro i hi; omega) _ _ hW _ (lv_sub hl [0, 1, 2, 3] rfl)
  · have c_6 : ¬ (ufault_3 ≤ 0) := fun hz_ => c_6 ((nI_leI (a := ufault_3) (b := 0) (by omega) (by omega)).mpr hz_)
    refine lv_iconst (v := (-1)) hx hb dX12_known_17 (by decide) ?_
    refine z_ireti ((ufault_3, ufaultPlace_4, ut_5, wk, wp) : (Nat) × (Nat) × (Nat) × (Nat) × (Nat)) hx hb hr hlocks rfl hW rfl dX12_known_18 ?_
    show (FM kd pl (PO.bd x (knownX kd nv jj)) ufault_3 ufaultPlace_4 ut_5 wk wp) ∧ ((∀ (s0 : PS) (q0 : Int32 × PS), x = Except.ok s0 → knownR kd nv jj s0 = Except.ok q0 → (-1) = q0.1) ∧ (¬ ufault_3 = 0 → (-1) = -1))
    refine ⟨?_, ?_⟩
    · obtain ⟨e, h1, h2, h3, h4⟩ := hp_2.er (by omega)
      rw [known_err h1, ← h1]; exact hp_2
    · refine ⟨?_, fun _ => rfl⟩
      intro s9 q9 e1 e2
      obtain ⟨e, h1, -⟩ := hp_2.er (by omega)
      rw [e1] at h1
      exact (known_err2 h1 e2).elim
set_option maxHeartbeats 1000000 in
set_option maxRecDepth 100000 in
theorem m_X12_notes (l : Launch) (D : va_G) (Y : Nat → ClassId) (ad_m : Nat → Nat) (g_m : Nat → Nat → Int32) (w_m : Nat → Nat → Int64) (tk : Nat) (so : Nat) (aa : Nat) (nn : Nat) (sz : Nat) (htk : tk ≤ 400) (hnn : nn < 20) : Met l yX12_notes (ws_ yX12_notes cX12_notes 4 none) ({ frames := 1, cells := 0, slots := 0, locals := 12 }) (zPc D Y [.ref (ad_m 0), .int (nI tk), .int (nI so), .int (nI aa)] sz (wj []) (wj [(mw Y ad_m (sA 20 (fun _ => nI nn) g_m) w_m)])) (va_Qv (fun (u : (Nat → Int64) × (Nat → Int32) × (Nat → Int32) × (Nat)) => u.1 = vp_updL (w_m 21) nn ((w_m 8) tk) ∧ u.2.1 = upd (g_m 22) nn (nI so) ∧ u.2.2.1 = upd (g_m 23) nn (nI aa) ∧ u.2.2.2 = nn + 1) (zB D (fun (u : (Nat → Int64) × (Nat → Int32) × (Nat → Int32) × (Nat)) => (wj [(mw Y ad_m (sA 23 u.2.2.1 (sA 22 u.2.1 (sA 20 (fun _ => nI u.2.2.2) g_m))) (sA 21 u.1 w_m))])) (va_A (wj [(mw Y ad_m (sA 20 (fun _ => nI nn) g_m) w_m)]) sz)) (va_A (wj [(mw Y ad_m (sA 20 (fun _ => nI nn) g_m) w_m)]) sz)) 0 0 (va_A (wj [(mw Y ad_m (sA 20 (fun _ => nI nn) g_m) w_m)]) sz) := by
  refine Met.ofW (cc := cX12_notes) (maxL := 4) (ret := none) (by decide) rfl ?_
  intro p e s m args below meth c s₁ B hml hv
  obtain ⟨rfl, hsz, hW, hR, hK, hA⟩ := zEntry hv
  subst hsz
  have hx := B.exec
  have hb := B.bytes
  have hr := B.returns
  have hlocks := B.notSynchronized
  have hts : ∀ w ∈ lw_all, w.before _ s = true := fun w h => atoms_spec (ws := (ws_ yX12_notes cX12_notes 4 none)) B.pre w (List.mem_cons_of_mem _ h)
  have hown : s.vm.findClass RX12 = some m.cls := findClass_of_methodNamed B.named
  generalize hAe : va_A (wj [(mw Y ad_m (sA 20 (fun _ => nI nn) g_m) w_m)]) s.heap.size = A at hW hR hA ⊢
  have hl := lv_entry ([.ref (ad_m 0), .int (nI tk), .int (nI so), .int (nI aa)]) (n := 4) (Nat.le_of_ble_eq_true rfl)
  rw [lg_entry_eq]
  generalize (lg_sl ([.ref (ad_m 0), .int (nI tk), .int (nI so), .int (nI aa)]) ++ List.replicate (4 - (lg_sl ([.ref (ad_m 0), .int (nI tk), .int (nI so), .int (nI aa)])).length) Slot.unset).toArray = ls at hl ⊢
  have hl : lv_has ls 4 [(0, .ref (ad_m 0)), (1, .int (nI tk)), (2, .int (nI so)), (3, .int (nI aa))] := hl
  refine lv_aload_n hx hb dX12_notes_0 rfl (lv_at hl 0 rfl) ?_
  refine va_get (v := .ref (ad_m 21)) (C := RX12) (T := TX12) (N := 75) (ci := 11) hx hb hts in_X12 hown hK.1 hW.1 0 rfl rfl 21 (by decide) (hts _ q1657) (fun _ h9 => h9) rfl dX12_notes_1 ?_
  refine lv_aload_n hx hb dX12_notes_4 rfl (lv_at hl 0 rfl) ?_
  refine va_get (v := .int (nI nn)) (C := RX12) (T := TX12) (N := 75) (ci := 11) hx hb hts in_X12 hown hK.1 hW.1 0 rfl rfl 20 (by decide) (hts _ q1656) (fun _ h9 => h9) rfl dX12_notes_5 ?_
  refine lv_aload_n hx hb dX12_notes_8 rfl (lv_at hl 0 rfl) ?_
  refine va_get (v := .ref (ad_m 8)) (C := RX12) (T := TX12) (N := 75) (ci := 11) hx hb hts in_X12 hown hK.1 hW.1 0 rfl rfl 8 (by decide) (hts _ q1644) (fun _ h9 => h9) rfl dX12_notes_9 ?_
  refine lv_iload_n hx hb dX12_notes_12 rfl (lv_at hl 1 rfl) ?_
  refine z_lald (v := (w_m 8) tk) (f := w_m 8) (j := tk) hx hb hK.1 hW.1 6 4 rfl rfl (vp_in_nI (n := tk) (by omega) (by decide)) (nI_clamp (n := tk) (by omega)) rfl dX12_notes_13 ?_
  refine z_last (x := (w_m 8) tk) (f := w_m 21) (j := nn) (wn := (wj [(mw Y ad_m (sA 20 (fun _ => nI nn) g_m) (sA 21 (vp_updL (w_m 21) nn ((w_m 8) tk)) w_m))])) hx hb hK.1 hW 8 4 rfl rfl (vp_in_nI (n := nn) (by omega) (by decide)) (nI_clamp (n := nn) (by omega)) dX12_notes_14 rfl (fun H locs hW => ?_)
  refine lv_aload_n hx hb dX12_notes_15 rfl (lv_at hl 0 rfl) ?_
  refine va_get (v := .ref (ad_m 22)) (C := RX12) (T := TX12) (N := 75) (ci := 11) hx hb hts in_X12 hown hK.1 hW.1 0 rfl rfl 22 (by decide) (hts _ q1658) (fun _ h9 => h9) rfl dX12_notes_16 ?_
  refine lv_aload_n hx hb dX12_notes_19 rfl (lv_at hl 0 rfl) ?_
  refine va_get (v := .int (nI nn)) (C := RX12) (T := TX12) (N := 75) (ci := 11) hx hb hts in_X12 hown hK.1 hW.1 0 rfl rfl 20 (by decide) (hts _ q1656) (fun _ h9 => h9) rfl dX12_notes_20 ?_
  refine lv_iload_n hx hb dX12_notes_23 rfl (lv_at hl 2 rfl) ?_
  refine z_iast (x := nI so) (f := g_m 22) (j := nn) (wn := (wj [(mw Y ad_m (sA 22 (upd (g_m 22) nn (nI so)) (sA 20 (fun _ => nI nn) g_m)) (sA 21 (vp_updL (w_m 21) nn ((w_m 8) tk)) w_m))])) hx hb hK.1 hW 9 0 rfl rfl (vp_in_nI (n := nn) (by omega) (by decide)) (nI_clamp (n := nn) (by omega)) dX12_notes_24 rfl (fun H locs hW => ?_)
  refine lv_aload_n hx hb dX12_notes_25 rfl (lv_at hl 0 rfl) ?_
  refine va_get (v := .ref (ad_m 23)) (C := RX12) (T := TX12) (N := 75) (ci := 11) hx hb hts in_X12 hown hK.1 hW.1 0 rfl rfl 23 (by decide) (hts _ q1659) (fun _ h9 => h9) rfl dX12_notes_26 ?_
  refine lv_aload_n hx hb dX12_notes_29 rfl (lv_at hl 0 rfl) ?_
  refine va_get (v := .int (nI nn)) (C := RX12) (T := TX12) (N := 75) (ci := 11) hx hb hts in_X12 hown hK.1 hW.1 0 rfl rfl 20 (by decide) (hts _ q1656) (fun _ h9 => h9) rfl dX12_notes_30 ?_
  refine lv_iload_n hx hb dX12_notes_33 rfl (lv_at hl 3 rfl) ?_
  refine z_iast (x := nI aa) (f := g_m 23) (j := nn) (wn := (wj [(mw Y ad_m (sA 23 (upd (g_m 23) nn (nI aa)) (sA 22 (upd (g_m 22) nn (nI so)) (sA 20 (fun _ => nI nn) g_m))) (sA 21 (vp_updL (w_m 21) nn ((w_m 8) tk)) w_m))])) hx hb hK.1 hW 10 0 rfl rfl (vp_in_nI (n := nn) (by omega) (by decide)) (nI_clamp (n := nn) (by omega)) dX12_notes_34 rfl (fun H locs hW => ?_)
  refine lv_aload_n hx hb dX12_notes_35 rfl (lv_at hl 0 rfl) ?_
  refine lv_dup hx hb dX12_notes_36 rfl ?_
  refine va_get (v := .int (nI nn)) (C := RX12) (T := TX12) (N := 75) (ci := 11) hx hb hts in_X12 hown hK.1 hW.1 0 rfl rfl 20 (by decide) (hts _ q1656) (fun _ h9 => h9) rfl dX12_notes_37 ?_
  refine lv_iconst (v := 1) hx hb dX12_notes_40 (by decide) ?_
  refine lv_iadd hx hb dX12_notes_41 ?_
  refine lv_topi (nm_r (e' := nI (nn + 1)) (nI_add nn 1) ?_)
  refine z_put (v := .int (nI (nn + 1))) (C := RX12) (T := TX12) (N := 75) (ci := 11) (wn := (wj [(mw Y ad_m (sA 23 (upd (g_m 23) nn (nI aa)) (sA 22 (upd (g_m 22) nn (nI so)) (sA 20 (fun _ => nI (nn + 1)) g_m))) (sA 21 (vp_updL (w_m 21) nn ((w_m 8) tk)) w_m))])) hx hb hts in_X12 tyX12 tyX12_ok nmX12 hown hK.1 hW 0 rfl rfl 20 (by decide) (hts _ q1656) (fun _ h9 => h9) rfl rfl rfl (Nat.le_of_ble_eq_true rfl) dX12_notes_42 rfl (fun H locs hW => ?_)
  refine z_vret ((vp_updL (w_m 21) nn ((w_m 8) tk), upd (g_m 22) nn (nI so), upd (g_m 23) nn (nI aa), nn + 1) : (Nat → Int64) × (Nat → Int32) × (Nat → Int32) × (Nat)) hx hb hr hlocks hW rfl dX12_notes_45 ?_
  show (vp_updL (w_m 21) nn ((w_m 8) tk)) = vp_updL (w_m 21) nn ((w_m 8) tk) ∧ (upd (g_m 22) nn (nI so)) = upd (g_m 22) nn (nI so) ∧ (upd (g_m 23) nn (nI aa)) = upd (g_m 23) nn (nI aa) ∧ (nn + 1) = nn + 1
  exact ⟨rfl, rfl, rfl, rfl⟩
