/-! the model: what stands, read and written over the worked row -/
set_option maxRecDepth 100000
set_option maxHeartbeats 4000000 in
set_option maxRecDepth 100000 in
theorem m_X12_inHeap (l : Launch) (D : va_G) (Y : Nat → ClassId) (ad_m : Nat → Nat) (g_m : Nat → Nat → Int32) (w_m : Nat → Nat → Int64) (lv : Nat) (cn : Nat → Nat) (t : tab) (lw : Nat → Option LAW) (σ : tab) (sz : Nat) (hlv : lv < 2) (hTW : TW cn t lw) (hTM : TM lv cn t lw g_m) (hRS : RS cn σ (g_m 60) (g_m 62) (g_m 61 0)) : Met l yX12_inHeap (ws_ yX12_inHeap cX12_inHeap 3 (some .int)) ({ frames := 1, cells := 0, slots := 0, locals := 12 }) (zPc D Y [.ref (ad_m 0)] sz (wj []) (wj [(mw Y ad_m (sA 18 (fun _ => nI lv) g_m) w_m)])) (va_Qi (fun (r : Int32) (u : Unit) => r = inHeapP σ) (zB D (fun (u : Unit) => (wj [(mw Y ad_m (sA 18 (fun _ => nI lv) g_m) w_m)])) (va_A (wj [(mw Y ad_m (sA 18 (fun _ => nI lv) g_m) w_m)]) sz)) (va_A (wj [(mw Y ad_m (sA 18 (fun _ => nI lv) g_m) w_m)]) sz)) 0 0 (va_A (wj [(mw Y ad_m (sA 18 (fun _ => nI lv) g_m) w_m)]) sz) := by
  refine Met.ofW (cc := cX12_inHeap) (maxL := 3) (ret := (some .int)) (by decide) rfl ?_
  intro p e s m args below meth c s₁ B hml hv
  obtain ⟨rfl, hsz, hW, hR, hK, hA⟩ := zEntry hv
  subst hsz
  have hx := B.exec
  have hb := B.bytes
  have hr := B.returns
  have hlocks := B.notSynchronized
  have hts : ∀ w ∈ lw_all, w.before _ s = true := fun w h => atoms_spec (ws := (ws_ yX12_inHeap cX12_inHeap 3 (some .int))) B.pre w (List.mem_cons_of_mem _ h)
  have hown : s.vm.findClass RX12 = some m.cls := findClass_of_methodNamed B.named
  generalize hAe : va_A (wj [(mw Y ad_m (sA 18 (fun _ => nI lv) g_m) w_m)]) s.heap.size = A at hW hR hA ⊢
  have hl := lv_entry ([.ref (ad_m 0)]) (n := 3) (Nat.le_of_ble_eq_true rfl)
  rw [lg_entry_eq]
  generalize (lg_sl ([.ref (ad_m 0)]) ++ List.replicate (3 - (lg_sl ([.ref (ad_m 0)])).length) Slot.unset).toArray = ls at hl ⊢
  have hl : lv_has ls 3 [(0, .ref (ad_m 0))] := hl
  have hLT := hRS.2.2
  have hk8 := hTW.n2
  have hk6 := hTW.n1
  have hk60 := hTW.n0
  have hk5 := hTW.n3
  refine lv_iconst (v := 0) hx hb dX12_inHeap_0 (by decide) ?_
  refine lv_istore_n (lv' := [(1, .int 0), (0, .ref (ad_m 0))]) hx hb dX12_inHeap_1 rfl hl (by decide) rfl (fun ls hl => ?_)
  refine lv_iconst (v := 0) hx hb dX12_inHeap_2 (by decide) ?_
  refine lv_istore_n (lv' := [(2, .int 0), (1, .int 0), (0, .ref (ad_m 0))]) hx hb dX12_inHeap_3 rfl hl (by decide) rfl (fun ls hl => ?_)
  refine lv_iload_n hx hb dX12_inHeap_4 rfl (lv_at hl 0 rfl) ?_
  refine lv_bipush (v := 6) hx hb dX12_inHeap_5 (by decide) ?_
  refine lv_icmp_ge (tgt := 25) hx hb dX12_inHeap_7 (by decide) (fun c_1 => by first | exact absurd c_1 (by decide) | exact absurd (by decide) c_1) (fun c_1 => ?_)
  refine lv_iload_n hx hb dX12_inHeap_10 rfl (lv_at hl 1 rfl) ?_
  refine lv_aload_n hx hb dX12_inHeap_11 rfl (lv_at hl 2 rfl) ?_
  refine va_get (v := .ref (ad_m 60)) (C := RX12) (T := TX12) (N := 75) (ci := 11) hx hb hts in_X12 hown hK.1 hW.1 0 rfl rfl 60 (by decide) (hts _ q1696) (fun _ h9 => h9) rfl dX12_inHeap_12 ?_
  refine lv_iload_n hx hb dX12_inHeap_15 rfl (lv_at hl 0 rfl) ?_
  refine z_iald (v := σ 0 0) (f := g_m 60) (j := 0) hx hb hK.1 hW.1 43 0 rfl rfl (vp_in_nI (n := 0) (by omega) (by decide)) (by decide) (MR.heap hRS.1 (g := 0) (by omega)) dX12_inHeap_16 ?_
  refine lv_iadd hx hb dX12_inHeap_17 ?_
  refine lv_istore_n (lv' := [(1, .int (0 + (σ 0 0))), (2, .int 0), (0, .ref (ad_m 0))]) hx hb dX12_inHeap_18 rfl hl (by decide) rfl (fun ls hl => ?_)
  refine lv_iinc (v := 1) (lv' := [(2, .int 1), (1, .int (0 + (σ 0 0))), (0, .ref (ad_m 0))]) hx hb dX12_inHeap_19 hl (k := 1) rfl (by decide) (by decide) rfl (fun ls hl => ?_)
  refine lv_goto (tgt := 4) hx hb dX12_inHeap_22 (by decide) ?_
  refine lv_iload_n hx hb dX12_inHeap_4 rfl (lv_at hl 0 rfl) ?_
  refine lv_bipush (v := 6) hx hb dX12_inHeap_5 (by decide) ?_
  refine lv_icmp_ge (tgt := 25) hx hb dX12_inHeap_7 (by decide) (fun c_2 => by first | exact absurd c_2 (by decide) | exact absurd (by decide) c_2) (fun c_2 => ?_)
  refine lv_iload_n hx hb dX12_inHeap_10 rfl (lv_at hl 1 rfl) ?_
  refine lv_aload_n hx hb dX12_inHeap_11 rfl (lv_at hl 2 rfl) ?_
  refine va_get (v := .ref (ad_m 60)) (C := RX12) (T := TX12) (N := 75) (ci := 11) hx hb hts in_X12 hown hK.1 hW.1 0 rfl rfl 60 (by decide) (hts _ q1696) (fun _ h9 => h9) rfl dX12_inHeap_12 ?_
  refine lv_iload_n hx hb dX12_inHeap_15 rfl (lv_at hl 0 rfl) ?_
  refine z_iald (v := σ 0 1) (f := g_m 60) (j := 1) hx hb hK.1 hW.1 43 0 rfl rfl (vp_in_nI (n := 1) (by omega) (by decide)) (by decide) (MR.heap hRS.1 (g := 1) (by omega)) dX12_inHeap_16 ?_
  refine lv_iadd hx hb dX12_inHeap_17 ?_
  refine lv_istore_n (lv' := [(1, .int ((0 + (σ 0 0)) + (σ 0 1))), (2, .int 1), (0, .ref (ad_m 0))]) hx hb dX12_inHeap_18 rfl hl (by decide) rfl (fun ls hl => ?_)
  refine lv_iinc (v := 2) (lv' := [(2, .int 2), (1, .int ((0 + (σ 0 0)) + (σ 0 1))), (0, .ref (ad_m 0))]) hx hb dX12_inHeap_19 hl (k := 1) rfl (by decide) (by decide) rfl (fun ls hl => ?_)
  refine lv_goto (tgt := 4) hx hb dX12_inHeap_22 (by decide) ?_
  refine lv_iload_n hx hb dX12_inHeap_4 rfl (lv_at hl 0 rfl) ?_
  refine lv_bipush (v := 6) hx hb dX12_inHeap_5 (by decide) ?_
  refine lv_icmp_ge (tgt := 25) hx hb dX12_inHeap_7 (by decide) (fun c_3 => by first | exact absurd c_3 (by decide) | exact absurd (by decide) c_3) (fun c_3 => ?_)
  refine lv_iload_n hx hb dX12_inHeap_10 rfl (lv_at hl 1 rfl) ?_
  refine lv_aload_n hx hb dX12_inHeap_11 rfl (lv_at hl 2 rfl) ?_
  refine va_get (v := .ref (ad_m 60)) (C := RX12) (T := TX12) (N := 75) (ci := 11) hx hb hts in_X12 hown hK.1 hW.1 0 rfl rfl 60 (by decide) (hts _ q1696) (fun _ h9 => h9) rfl dX12_inHeap_12 ?_
  refine lv_iload_n hx hb dX12_inHeap_15 rfl (lv_at hl 0 rfl) ?_
  refine z_iald (v := σ 0 2) (f := g_m 60) (j := 2) hx hb hK.1 hW.1 43 0 rfl rfl (vp_in_nI (n := 2) (by omega) (by decide)) (by decide) (MR.heap hRS.1 (g := 2) (by omega)) dX12_inHeap_16 ?_
  refine lv_iadd hx hb dX12_inHeap_17 ?_
  refine lv_istore_n (lv' := [(1, .int (((0 + (σ 0 0)) + (σ 0 1)) + (σ 0 2))), (2, .int 2), (0, .ref (ad_m 0))]) hx hb dX12_inHeap_18 rfl hl (by decide) rfl (fun ls hl => ?_)
  refine lv_iinc (v := 3) (lv' := [(2, .int 3), (1, .int (((0 + (σ 0 0)) + (σ 0 1)) + (σ 0 2))), (0, .ref (ad_m 0))]) hx hb dX12_inHeap_19 hl (k := 1) rfl (by decide) (by decide) rfl (fun ls hl => ?_)
  refine lv_goto (tgt := 4) hx hb dX12_inHeap_22 (by decide) ?_
  refine lv_iload_n hx hb dX12_inHeap_4 rfl (lv_at hl 0 rfl) ?_
  refine lv_bipush (v := 6) hx hb dX12_inHeap_5 (by decide) ?_
  refine lv_icmp_ge (tgt := 25) hx hb dX12_inHeap_7 (by decide) (fun c_4 => by first | exact absurd c_4 (by decide) | exact absurd (by decide) c_4) (fun c_4 => ?_)
  refine lv_iload_n hx hb dX12_inHeap_10 rfl (lv_at hl 1 rfl) ?_
  refine lv_aload_n hx hb dX12_inHeap_11 rfl (lv_at hl 2 rfl) ?_
  refine va_get (v := .ref (ad_m 60)) (C := RX12) (T := TX12) (N := 75) (ci := 11) hx hb hts in_X12 hown hK.1 hW.1 0 rfl rfl 60 (by decide) (hts _ q1696) (fun _ h9 => h9) rfl dX12_inHeap_12 ?_
  refine lv_iload_n hx hb dX12_inHeap_15 rfl (lv_at hl 0 rfl) ?_
  refine z_iald (v := σ 0 3) (f := g_m 60) (j := 3) hx hb hK.1 hW.1 43 0 rfl rfl (vp_in_nI (n := 3) (by omega) (by decide)) (by decide) (MR.heap hRS.1 (g := 3) (by omega)) dX12_inHeap_16 ?_
  refine lv_iadd hx hb dX12_inHeap_17 ?_
  refine lv_istore_n (lv' := [(1, .int ((((0 + (σ 0 0)) + (σ 0 1)) + (σ 0 2)) + (σ 0 3))), (2, .int 3), (0, .ref (ad_m 0))]) hx hb dX12_inHeap_18 rfl hl (by decide) rfl (fun ls hl => ?_)
  refine lv_iinc (v := 4) (lv' := [(2, .int 4), (1, .int ((((0 + (σ 0 0)) + (σ 0 1)) + (σ 0 2)) + (σ 0 3))), (0, .ref (ad_m 0))]) hx hb dX12_inHeap_19 hl (k := 1) rfl (by decide) (by decide) rfl (fun ls hl => ?_)
  refine lv_goto (tgt := 4) hx hb dX12_inHeap_22 (by decide) ?_
  refine lv_iload_n hx hb dX12_inHeap_4 rfl (lv_at hl 0 rfl) ?_
  refine lv_bipush (v := 6) hx hb dX12_inHeap_5 (by decide) ?_
  refine lv_icmp_ge (tgt := 25) hx hb dX12_inHeap_7 (by decide) (fun c_5 => by first | exact absurd c_5 (by decide) | exact absurd (by decide) c_5) (fun c_5 => ?_)
  refine lv_iload_n hx hb dX12_inHeap_10 rfl (lv_at hl 1 rfl) ?_
  refine lv_aload_n hx hb dX12_inHeap_11 rfl (lv_at hl 2 rfl) ?_
  refine va_get (v := .ref (ad_m 60)) (C := RX12) (T := TX12) (N := 75) (ci := 11) hx hb hts in_X12 hown hK.1 hW.1 0 rfl rfl 60 (by decide) (hts _ q1696) (fun _ h9 => h9) rfl dX12_inHeap_12 ?_
  refine lv_iload_n hx hb dX12_inHeap_15 rfl (lv_at hl 0 rfl) ?_
  refine z_iald (v := σ 0 4) (f := g_m 60) (j := 4) hx hb hK.1 hW.1 43 0 rfl rfl (vp_in_nI (n := 4) (by omega) (by decide)) (by decide) (MR.heap hRS.1 (g := 4) (by omega)) dX12_inHeap_16 ?_
  refine lv_iadd hx hb dX12_inHeap_17 ?_
  refine lv_istore_n (lv' := [(1, .int (((((0 + (σ 0 0)) + (σ 0 1)) + (σ 0 2)) + (σ 0 3)) + (σ 0 4))), (2, .int 4), (0, .ref (ad_m 0))]) hx hb dX12_inHeap_18 rfl hl (by decide) rfl (fun ls hl => ?_)
  refine lv_iinc (v := 5) (lv' := [(2, .int 5), (1, .int (((((0 + (σ 0 0)) + (σ 0 1)) + (σ 0 2)) + (σ 0 3)) + (σ 0 4))), (0, .ref (ad_m 0))]) hx hb dX12_inHeap_19 hl (k := 1) rfl (by decide) (by decide) rfl (fun ls hl => ?_)
  refine lv_goto (tgt := 4) hx hb dX12_inHeap_22 (by decide) ?_
  refine lv_iload_n hx hb dX12_inHeap_4 rfl (lv_at hl 0 rfl) ?_
  refine lv_bipush (v := 6) hx hb dX12_inHeap_5 (by decide) ?_
  refine lv_icmp_ge (tgt := 25) hx hb dX12_inHeap_7 (by decide) (fun c_6 => by first | exact absurd c_6 (by decide) | exact absurd (by decide) c_6) (fun c_6 => ?_)
  refine lv_iload_n hx hb dX12_inHeap_10 rfl (lv_at hl 1 rfl) ?_
  refine lv_aload_n hx hb dX12_inHeap_11 rfl (lv_at hl 2 rfl) ?_
  refine va_get (v := .ref (ad_m 60)) (C := RX12) (T := TX12) (N := 75) (ci := 11) hx hb hts in_X12 hown hK.1 hW.1 0 rfl rfl 60 (by decide) (hts _ q1696) (fun _ h9 => h9) rfl dX12_inHeap_12 ?_
  refine lv_iload_n hx hb dX12_inHeap_15 rfl (lv_at hl 0 rfl) ?_
  refine z_iald (v := σ 0 5) (f := g_m 60) (j := 5) hx hb hK.1 hW.1 43 0 rfl rfl (vp_in_nI (n := 5) (by omega) (by decide)) (by decide) (MR.heap hRS.1 (g := 5) (by omega)) dX12_inHeap_16 ?_
  refine lv_iadd hx hb dX12_inHeap_17 ?_
  refine lv_istore_n (lv' := [(1, .int ((((((0 + (σ 0 0)) + (σ 0 1)) + (σ 0 2)) + (σ 0 3)) + (σ 0 4)) + (σ 0 5))), (2, .int 5), (0, .ref (ad_m 0))]) hx hb dX12_inHeap_18 rfl hl (by decide) rfl (fun ls hl => ?_)
  refine lv_iinc (v := 6) (lv' := [(2, .int 6), (1, .int ((((((0 + (σ 0 0)) + (σ 0 1)) + (σ 0 2)) + (σ 0 3)) + (σ 0 4)) + (σ 0 5))), (0, .ref (ad_m 0))]) hx hb dX12_inHeap_19 hl (k := 1) rfl (by decide) (by decide) rfl (fun ls hl => ?_)
  refine lv_goto (tgt := 4) hx hb dX12_inHeap_22 (by decide) ?_
  refine lv_iload_n hx hb dX12_inHeap_4 rfl (lv_at hl 0 rfl) ?_
  refine lv_bipush (v := 6) hx hb dX12_inHeap_5 (by decide) ?_
  refine lv_icmp_ge (tgt := 25) hx hb dX12_inHeap_7 (by decide) (fun c_7 => ?_) (fun c_7 => by first | exact absurd c_7 (by decide) | exact absurd (by decide) c_7)
  refine lv_iload_n hx hb dX12_inHeap_25 rfl (lv_at hl 1 rfl) ?_
  refine z_ireti (() : Unit) hx hb hr hlocks rfl hW rfl dX12_inHeap_26 ?_
  show ((((((0 + (σ 0 0)) + (σ 0 1)) + (σ 0 2)) + (σ 0 3)) + (σ 0 4)) + (σ 0 5)) = inHeapP σ
  rfl
set_option maxHeartbeats 4000000 in
set_option maxRecDepth 100000 in
theorem m_X12_worthOf (l : Launch) (D : va_G) (Y : Nat → ClassId) (ad_m : Nat → Nat) (g_m : Nat → Nat → Int32) (w_m : Nat → Nat → Int64) (lv : Nat) (cn : Nat → Nat) (t : tab) (lw : Nat → Option LAW) (σ : tab) (h : Nat) (sz : Nat) (hlv : lv < 2) (hTW : TW cn t lw) (hTM : TM lv cn t lw g_m) (hRS : RS cn σ (g_m 60) (g_m 62) (g_m 61 0)) (hh : h < cn 1) : Met l yX12_worthOf (ws_ yX12_worthOf cX12_worthOf 5 (some .int)) ({ frames := 1, cells := 0, slots := 0, locals := 12 }) (zPc D Y [.ref (ad_m 0), .int (nI h)] sz (wj []) (wj [(mw Y ad_m (sA 18 (fun _ => nI lv) g_m) w_m)])) (va_Qi (fun (r : Int32) (u : Unit) => r = worthP t σ h) (zB D (fun (u : Unit) => (wj [(mw Y ad_m (sA 18 (fun _ => nI lv) g_m) w_m)])) (va_A (wj [(mw Y ad_m (sA 18 (fun _ => nI lv) g_m) w_m)]) sz)) (va_A (wj [(mw Y ad_m (sA 18 (fun _ => nI lv) g_m) w_m)]) sz)) 0 0 (va_A (wj [(mw Y ad_m (sA 18 (fun _ => nI lv) g_m) w_m)]) sz) := by
  refine Met.ofW (cc := cX12_worthOf) (maxL := 5) (ret := (some .int)) (by decide) rfl ?_
  intro p e s m args below meth c s₁ B hml hv
  obtain ⟨rfl, hsz, hW, hR, hK, hA⟩ := zEntry hv
  subst hsz
  have hx := B.exec
  have hb := B.bytes
  have hr := B.returns
  have hlocks := B.notSynchronized
  have hts : ∀ w ∈ lw_all, w.before _ s = true := fun w h => atoms_spec (ws := (ws_ yX12_worthOf cX12_worthOf 5 (some .int))) B.pre w (List.mem_cons_of_mem _ h)
  have hown : s.vm.findClass RX12 = some m.cls := findClass_of_methodNamed B.named
  generalize hAe : va_A (wj [(mw Y ad_m (sA 18 (fun _ => nI lv) g_m) w_m)]) s.heap.size = A at hW hR hA ⊢
  have hl := lv_entry ([.ref (ad_m 0), .int (nI h)]) (n := 5) (Nat.le_of_ble_eq_true rfl)
  rw [lg_entry_eq]
  generalize (lg_sl ([.ref (ad_m 0), .int (nI h)]) ++ List.replicate (5 - (lg_sl ([.ref (ad_m 0), .int (nI h)])).length) Slot.unset).toArray = ls at hl ⊢
  have hl : lv_has ls 5 [(0, .ref (ad_m 0)), (1, .int (nI h))] := hl
  have hLT := hRS.2.2
  have hk8 := hTW.n2
  have hk6 := hTW.n1
  have hk60 := hTW.n0
  have hk5 := hTW.n3
  obtain ⟨gr, hgr, egr⟩ := vp_in_of (hTW.h3 hh) (by omega)
  refine lv_aload_n hx hb dX12_worthOf_0 rfl (lv_at hl 0 rfl) ?_
  refine va_get (v := .ref (ad_m 60)) (C := RX12) (T := TX12) (N := 75) (ci := 11) hx hb hts in_X12 hown hK.1 hW.1 0 rfl rfl 60 (by decide) (hts _ q1696) (fun _ h9 => h9) rfl dX12_worthOf_1 ?_
  refine lv_bipush (v := 6) hx hb dX12_worthOf_4 (by decide) ?_
  refine lv_bipush (v := 6) hx hb dX12_worthOf_6 (by decide) ?_
  refine lv_iload_n hx hb dX12_worthOf_8 rfl (lv_at hl 1 rfl) ?_
  refine lv_imul hx hb dX12_worthOf_9 ?_
  refine lv_topi (nm_r (e' := nI (6 * h)) (pk_mul 6 h) ?_)
  refine lv_iadd hx hb dX12_worthOf_10 ?_
  refine lv_topi (nm_r (e' := nI (6 + 6 * h)) (nI_add 6 (6 * h)) ?_)
  refine lv_aload_n hx hb dX12_worthOf_11 rfl (lv_at hl 0 rfl) ?_
  refine va_get (v := .ref (ad_m 29)) (C := RX12) (T := TX12) (N := 75) (ci := 11) hx hb hts in_X12 hown hK.1 hW.1 0 rfl rfl 29 (by decide) (hts _ q1665) (fun _ h9 => h9) rfl dX12_worthOf_12 ?_
  refine lv_bipush (v := 6) hx hb dX12_worthOf_15 (by decide) ?_
  refine lv_aload_n hx hb dX12_worthOf_17 rfl (lv_at hl 0 rfl) ?_
  refine va_get (v := .int (nI lv)) (C := RX12) (T := TX12) (N := 75) (ci := 11) hx hb hts in_X12 hown hK.1 hW.1 0 rfl rfl 18 (by decide) (hts _ q1654) (fun _ h9 => h9) rfl dX12_worthOf_18 ?_
  refine lv_imul hx hb dX12_worthOf_21 ?_
  refine lv_topi (nm_r (e' := nI (6 * lv)) (pk_mul 6 lv) ?_)
  refine lv_iload_n hx hb dX12_worthOf_22 rfl (lv_at hl 1 rfl) ?_
  refine lv_iadd hx hb dX12_worthOf_23 ?_
  refine lv_topi (nm_r (e' := nI (6 * lv + h)) (nI_add (6 * lv) h) ?_)
  refine z_iald (v := nI gr) (f := g_m 29) (j := 6 * lv + h) hx hb hK.1 hW.1 16 0 rfl rfl (vp_in_nI (n := 6 * lv + h) (by omega) (by decide)) (nI_clamp (n := 6 * lv + h) (by omega)) (Eq.trans (TM.c29 hTM (j := h) (by omega)) egr) dX12_worthOf_24 ?_
  refine lv_iadd hx hb dX12_worthOf_25 ?_
  refine lv_topi (nm_r (e' := nI (6 + 6 * h + gr)) (nI_add (6 + 6 * h) gr) ?_)
  refine z_iald (v := σ (30 + h) gr) (f := g_m 60) (j := 6 + 6 * h + gr) hx hb hK.1 hW.1 43 0 rfl rfl (vp_in_nI (n := 6 + 6 * h + gr) (by omega) (by decide)) (nI_clamp (n := 6 + 6 * h + gr) (by omega)) (MR.hole hRS.1 (a := h) (g := gr) (by omega) (by omega)) dX12_worthOf_26 ?_
  refine lv_istore_n (lv' := [(2, .int (σ (30 + h) gr)), (0, .ref (ad_m 0)), (1, .int (nI h))]) hx hb dX12_worthOf_27 rfl hl (by decide) rfl (fun ls hl => ?_)
  refine lv_iconst (v := 0) hx hb dX12_worthOf_28 (by decide) ?_
  refine lv_istore_n (lv' := [(3, .int 0), (2, .int (σ (30 + h) gr)), (0, .ref (ad_m 0)), (1, .int (nI h))]) hx hb dX12_worthOf_29 rfl hl (by decide) rfl (fun ls hl => ?_)
  refine lv_iconst (v := 0) hx hb dX12_worthOf_30 (by decide) ?_
  refine lv_istore (lv' := [(4, .int 0), (3, .int 0), (2, .int (σ (30 + h) gr)), (0, .ref (ad_m 0)), (1, .int (nI h))]) hx hb dX12_worthOf_31 hl (by decide) rfl (fun ls hl => ?_)
  refine lv_iload hx hb dX12_worthOf_33 (lv_at hl 0 rfl) ?_
  refine lv_bipush (v := 6) hx hb dX12_worthOf_35 (by decide) ?_
  refine lv_icmp_ge (tgt := 64) hx hb dX12_worthOf_37 (by decide) (fun c_1 => by first | exact absurd c_1 (by decide) | exact absurd (by decide) c_1) (fun c_1 => ?_)
  refine lv_iload_n hx hb dX12_worthOf_40 rfl (lv_at hl 1 rfl) ?_
  refine lv_aload_n hx hb dX12_worthOf_41 rfl (lv_at hl 3 rfl) ?_
  refine va_get (v := .ref (ad_m 60)) (C := RX12) (T := TX12) (N := 75) (ci := 11) hx hb hts in_X12 hown hK.1 hW.1 0 rfl rfl 60 (by decide) (hts _ q1696) (fun _ h9 => h9) rfl dX12_worthOf_42 ?_
  refine lv_bipush (v := 6) hx hb dX12_worthOf_45 (by decide) ?_
  refine lv_bipush (v := 6) hx hb dX12_worthOf_47 (by decide) ?_
  refine lv_iload_n hx hb dX12_worthOf_49 rfl (lv_at hl 4 rfl) ?_
  refine lv_imul hx hb dX12_worthOf_50 ?_
  refine lv_topi (nm_r (e' := nI (6 * h)) (pk_mul 6 h) ?_)
  refine lv_iadd hx hb dX12_worthOf_51 ?_
  refine lv_topi (nm_r (e' := nI (6 + 6 * h)) (nI_add 6 (6 * h)) ?_)
  refine lv_iload hx hb dX12_worthOf_52 (lv_at hl 0 rfl) ?_
  refine lv_iadd hx hb dX12_worthOf_54 ?_
  refine lv_topi (nm_r (e' := nI (6 + 6 * h + 0)) (nI_add (6 + 6 * h) 0) ?_)
  refine z_iald (v := σ (30 + h) 0) (f := g_m 60) (j := 6 + 6 * h + 0) hx hb hK.1 hW.1 43 0 rfl rfl (vp_in_nI (n := 6 + 6 * h + 0) (by omega) (by decide)) (nI_clamp (n := 6 + 6 * h + 0) (by omega)) (MR.hole hRS.1 (a := h) (g := 0) (by omega) (by omega)) dX12_worthOf_55 ?_
  refine lv_iadd hx hb dX12_worthOf_56 ?_
  refine lv_istore_n (lv' := [(3, .int (0 + (σ (30 + h) 0))), (4, .int 0), (2, .int (σ (30 + h) gr)), (0, .ref (ad_m 0)), (1, .int (nI h))]) hx hb dX12_worthOf_57 rfl hl (by decide) rfl (fun ls hl => ?_)
  refine lv_iinc (v := 1) (lv' := [(4, .int 1), (3, .int (0 + (σ (30 + h) 0))), (2, .int (σ (30 + h) gr)), (0, .ref (ad_m 0)), (1, .int (nI h))]) hx hb dX12_worthOf_58 hl (k := 1) rfl (by decide) (by decide) rfl (fun ls hl => ?_)
  refine lv_goto (tgt := 33) hx hb dX12_worthOf_61 (by decide) ?_
  refine lv_iload hx hb dX12_worthOf_33 (lv_at hl 0 rfl) ?_
  refine lv_bipush (v := 6) hx hb dX12_worthOf_35 (by decide) ?_
  refine lv_icmp_ge (tgt := 64) hx hb dX12_worthOf_37 (by decide) (fun c_2 => by first | exact absurd c_2 (by decide) | exact absurd (by decide) c_2) (fun c_2 => ?_)
  refine lv_iload_n hx hb dX12_worthOf_40 rfl (lv_at hl 1 rfl) ?_
  refine lv_aload_n hx hb dX12_worthOf_41 rfl (lv_at hl 3 rfl) ?_
  refine va_get (v := .ref (ad_m 60)) (C := RX12) (T := TX12) (N := 75) (ci := 11) hx hb hts in_X12 hown hK.1 hW.1 0 rfl rfl 60 (by decide) (hts _ q1696) (fun _ h9 => h9) rfl dX12_worthOf_42 ?_
  refine lv_bipush (v := 6) hx hb dX12_worthOf_45 (by decide) ?_
  refine lv_bipush (v := 6) hx hb dX12_worthOf_47 (by decide) ?_
  refine lv_iload_n hx hb dX12_worthOf_49 rfl (lv_at hl 4 rfl) ?_
  refine lv_imul hx hb dX12_worthOf_50 ?_
  refine lv_topi (nm_r (e' := nI (6 * h)) (pk_mul 6 h) ?_)
  refine lv_iadd hx hb dX12_worthOf_51 ?_
  refine lv_topi (nm_r (e' := nI (6 + 6 * h)) (nI_add 6 (6 * h)) ?_)
  refine lv_iload hx hb dX12_worthOf_52 (lv_at hl 0 rfl) ?_
  refine lv_iadd hx hb dX12_worthOf_54 ?_
  refine lv_topi (nm_r (e' := nI (6 + 6 * h + 1)) (nI_add (6 + 6 * h) 1) ?_)
  refine z_iald (v := σ (30 + h) 1) (f := g_m 60) (j := 6 + 6 * h + 1) hx hb hK.1 hW.1 43 0 rfl rfl (vp_in_nI (n := 6 + 6 * h + 1) (by omega) (by decide)) (nI_clamp (n := 6 + 6 * h + 1) (by omega)) (MR.hole hRS.1 (a := h) (g := 1) (by omega) (by omega)) dX12_worthOf_55 ?_
  refine lv_iadd hx hb dX12_worthOf_56 ?_
  refine lv_istore_n (lv' := [(3, .int ((0 + (σ (30 + h) 0)) + (σ (30 + h) 1))), (4, .int 1), (2, .int (σ (30 + h) gr)), (0, .ref (ad_m 0)), (1, .int (nI h))]) hx hb dX12_worthOf_57 rfl hl (by decide) rfl (fun ls hl => ?_)
  refine lv_iinc (v := 2) (lv' := [(4, .int 2), (3, .int ((0 + (σ (30 + h) 0)) + (σ (30 + h) 1))), (2, .int (σ (30 + h) gr)), (0, .ref (ad_m 0)), (1, .int (nI h))]) hx hb dX12_worthOf_58 hl (k := 1) rfl (by decide) (by decide) rfl (fun ls hl => ?_)
  refine lv_goto (tgt := 33) hx hb dX12_worthOf_61 (by decide) ?_
  refine lv_iload hx hb dX12_worthOf_33 (lv_at hl 0 rfl) ?_
  refine lv_bipush (v := 6) hx hb dX12_worthOf_35 (by decide) ?_
  refine lv_icmp_ge (tgt := 64) hx hb dX12_worthOf_37 (by decide) (fun c_3 => by first | exact absurd c_3 (by decide) | exact absurd (by decide) c_3) (fun c_3 => ?_)
  refine lv_iload_n hx hb dX12_worthOf_40 rfl (lv_at hl 1 rfl) ?_
  refine lv_aload_n hx hb dX12_worthOf_41 rfl (lv_at hl 3 rfl) ?_
  refine va_get (v := .ref (ad_m 60)) (C := RX12) (T := TX12) (N := 75) (ci := 11) hx hb hts in_X12 hown hK.1 hW.1 0 rfl rfl 60 (by decide) (hts _ q1696) (fun _ h9 => h9) rfl dX12_worthOf_42 ?_
  refine lv_bipush (v := 6) hx hb dX12_worthOf_45 (by decide) ?_
  refine lv_bipush (v := 6) hx hb dX12_worthOf_47 (by decide) ?_
  refine lv_iload_n hx hb dX12_worthOf_49 rfl (lv_at hl 4 rfl) ?_
  refine lv_imul hx hb dX12_worthOf_50 ?_
  refine lv_topi (nm_r (e' := nI (6 * h)) (pk_mul 6 h) ?_)
  refine lv_iadd hx hb dX12_worthOf_51 ?_
  refine lv_topi (nm_r (e' := nI (6 + 6 * h)) (nI_add 6 (6 * h)) ?_)
  refine lv_iload hx hb dX12_worthOf_52 (lv_at hl 0 rfl) ?_
  refine lv_iadd hx hb dX12_worthOf_54 ?_
  refine lv_topi (nm_r (e' := nI (6 + 6 * h + 2)) (nI_add (6 + 6 * h) 2) ?_)
  refine z_iald (v := σ (30 + h) 2) (f := g_m 60) (j := 6 + 6 * h + 2) hx hb hK.1 hW.1 43 0 rfl rfl (vp_in_nI (n := 6 + 6 * h + 2) (by omega) (by decide)) (nI_clamp (n := 6 + 6 * h + 2) (by omega)) (MR.hole hRS.1 (a := h) (g := 2) (by omega) (by omega)) dX12_worthOf_55 ?_
  refine lv_iadd hx hb dX12_worthOf_56 ?_
  refine lv_istore_n (lv' := [(3, .int (((0 + (σ (30 + h) 0)) + (σ (30 + h) 1)) + (σ (30 + h) 2))), (4, .int 2), (2, .int (σ (30 + h) gr)), (0, .ref (ad_m 0)), (1, .int (nI h))]) hx hb dX12_worthOf_57 rfl hl (by decide) rfl (fun ls hl => ?_)
  refine lv_iinc (v := 3) (lv' := [(4, .int 3), (3, .int (((0 + (σ (30 + h) 0)) + (σ (30 + h) 1)) + (σ (30 + h) 2))), (2, .int (σ (30 + h) gr)), (0, .ref (ad_m 0)), (1, .int (nI h))]) hx hb dX12_worthOf_58 hl (k := 1) rfl (by decide) (by decide) rfl (fun ls hl => ?_)
  refine lv_goto (tgt := 33) hx hb dX12_worthOf_61 (by decide) ?_
  refine lv_iload hx hb dX12_worthOf_33 (lv_at hl 0 rfl) ?_
  refine lv_bipush (v := 6) hx hb dX12_worthOf_35 (by decide) ?_
  refine lv_icmp_ge (tgt := 64) hx hb dX12_worthOf_37 (by decide) (fun c_4 => by first | exact absurd c_4 (by decide) | exact absurd (by decide) c_4) (fun c_4 => ?_)
  refine lv_iload_n hx hb dX12_worthOf_40 rfl (lv_at hl 1 rfl) ?_
  refine lv_aload_n hx hb dX12_worthOf_41 rfl (lv_at hl 3 rfl) ?_
  refine va_get (v := .ref (ad_m 60)) (C := RX12) (T := TX12) (N := 75) (ci := 11) hx hb hts in_X12 hown hK.1 hW.1 0 rfl rfl 60 (by decide) (hts _ q1696) (fun _ h9 => h9) rfl dX12_worthOf_42 ?_
  refine lv_bipush (v := 6) hx hb dX12_worthOf_45 (by decide) ?_
  refine lv_bipush (v := 6) hx hb dX12_worthOf_47 (by decide) ?_
  refine lv_iload_n hx hb dX12_worthOf_49 rfl (lv_at hl 4 rfl) ?_
  refine lv_imul hx hb dX12_worthOf_50 ?_
  refine lv_topi (nm_r (e' := nI (6 * h)) (pk_mul 6 h) ?_)
  refine lv_iadd hx hb dX12_worthOf_51 ?_
  refine lv_topi (nm_r (e' := nI (6 + 6 * h)) (nI_add 6 (6 * h)) ?_)
  refine lv_iload hx hb dX12_worthOf_52 (lv_at hl 0 rfl) ?_
  refine lv_iadd hx hb dX12_worthOf_54 ?_
  refine lv_topi (nm_r (e' := nI (6 + 6 * h + 3)) (nI_add (6 + 6 * h) 3) ?_)
  refine z_iald (v := σ (30 + h) 3) (f := g_m 60) (j := 6 + 6 * h + 3) hx hb hK.1 hW.1 43 0 rfl rfl (vp_in_nI (n := 6 + 6 * h + 3) (by omega) (by decide)) (nI_clamp (n := 6 + 6 * h + 3) (by omega)) (MR.hole hRS.1 (a := h) (g := 3) (by omega) (by omega)) dX12_worthOf_55 ?_
  refine lv_iadd hx hb dX12_worthOf_56 ?_
  refine lv_istore_n (lv' := [(3, .int ((((0 + (σ (30 + h) 0)) + (σ (30 + h) 1)) + (σ (30 + h) 2)) + (σ (30 + h) 3))), (4, .int 3), (2, .int (σ (30 + h) gr)), (0, .ref (ad_m 0)), (1, .int (nI h))]) hx hb dX12_worthOf_57 rfl hl (by decide) rfl (fun ls hl => ?_)
  refine lv_iinc (v := 4) (lv' := [(4, .int 4), (3, .int ((((0 + (σ (30 + h) 0)) + (σ (30 + h) 1)) + (σ (30 + h) 2)) + (σ (30 + h) 3))), (2, .int (σ (30 + h) gr)), (0, .ref (ad_m 0)), (1, .int (nI h))]) hx hb dX12_worthOf_58 hl (k := 1) rfl (by decide) (by decide) rfl (fun ls hl => ?_)
  refine lv_goto (tgt := 33) hx hb dX12_worthOf_61 (by decide) ?_
  refine lv_iload hx hb dX12_worthOf_33 (lv_at hl 0 rfl) ?_
  refine lv_bipush (v := 6) hx hb dX12_worthOf_35 (by decide) ?_
  refine lv_icmp_ge (tgt := 64) hx hb dX12_worthOf_37 (by decide) (fun c_5 => by first | exact absurd c_5 (by decide) | exact absurd (by decide) c_5) (fun c_5 => ?_)
  refine lv_iload_n hx hb dX12_worthOf_40 rfl (lv_at hl 1 rfl) ?_
  refine lv_aload_n hx hb dX12_worthOf_41 rfl (lv_at hl 3 rfl) ?_
  refine va_get (v := .ref (ad_m 60)) (C := RX12) (T := TX12) (N := 75) (ci := 11) hx hb hts in_X12 hown hK.1 hW.1 0 rfl rfl 60 (by decide) (hts _ q1696) (fun _ h9 => h9) rfl dX12_worthOf_42 ?_
  refine lv_bipush (v := 6) hx hb dX12_worthOf_45 (by decide) ?_
  refine lv_bipush (v := 6) hx hb dX12_worthOf_47 (by decide) ?_
  refine lv_iload_n hx hb dX12_worthOf_49 rfl (lv_at hl 4 rfl) ?_
  refine lv_imul hx hb dX12_worthOf_50 ?_
  refine lv_topi (nm_r (e' := nI (6 * h)) (pk_mul 6 h) ?_)
  refine lv_iadd hx hb dX12_worthOf_51 ?_
  refine lv_topi (nm_r (e' := nI (6 + 6 * h)) (nI_add 6 (6 * h)) ?_)
  refine lv_iload hx hb dX12_worthOf_52 (lv_at hl 0 rfl) ?_
  refine lv_iadd hx hb dX12_worthOf_54 ?_
  refine lv_topi (nm_r (e' := nI (6 + 6 * h + 4)) (nI_add (6 + 6 * h) 4) ?_)
  refine z_iald (v := σ (30 + h) 4) (f := g_m 60) (j := 6 + 6 * h + 4) hx hb hK.1 hW.1 43 0 rfl rfl (vp_in_nI (n := 6 + 6 * h + 4) (by omega) (by decide)) (nI_clamp (n := 6 + 6 * h + 4) (by omega)) (MR.hole hRS.1 (a := h) (g := 4) (by omega) (by omega)) dX12_worthOf_55 ?_
  refine lv_iadd hx hb dX12_worthOf_56 ?_
  refine lv_istore_n (lv' := [(3, .int (((((0 + (σ (30 + h) 0)) + (σ (30 + h) 1)) + (σ (30 + h) 2)) + (σ (30 + h) 3)) + (σ (30 + h) 4))), (4, .int 4), (2, .int (σ (30 + h) gr)), (0, .ref (ad_m 0)), (1, .int (nI h))]) hx hb dX12_worthOf_57 rfl hl (by decide) rfl (fun ls hl => ?_)
  refine lv_iinc (v := 5) (lv' := [(4, .int 5), (3, .int (((((0 + (σ (30 + h) 0)) + (σ (30 + h) 1)) + (σ (30 + h) 2)) + (σ (30 + h) 3)) + (σ (30 + h) 4))), (2, .int (σ (30 + h) gr)), (0, .ref (ad_m 0)), (1, .int (nI h))]) hx hb dX12_worthOf_58 hl (k := 1) rfl (by decide) (by decide) rfl (fun ls hl => ?_)
  refine lv_goto (tgt := 33) hx hb dX12_worthOf_61 (by decide) ?_
  refine lv_iload hx hb dX12_worthOf_33 (lv_at hl 0 rfl) ?_
  refine lv_bipush (v := 6) hx hb dX12_worthOf_35 (by decide) ?_
  refine lv_icmp_ge (tgt := 64) hx hb dX12_worthOf_37 (by decide) (fun c_6 => by first | exact absurd c_6 (by decide) | exact absurd (by decide) c_6) (fun c_6 => ?_)
  refine lv_iload_n hx hb dX12_worthOf_40 rfl (lv_at hl 1 rfl) ?_
  refine lv_aload_n hx hb dX12_worthOf_41 rfl (lv_at hl 3 rfl) ?_
  refine va_get (v := .ref (ad_m 60)) (C := RX12) (T := TX12) (N := 75) (ci := 11) hx hb hts in_X12 hown hK.1 hW.1 0 rfl rfl 60 (by decide) (hts _ q1696) (fun _ h9 => h9) rfl dX12_worthOf_42 ?_
  refine lv_bipush (v := 6) hx hb dX12_worthOf_45 (by decide) ?_
  refine lv_bipush (v := 6) hx hb dX12_worthOf_47 (by decide) ?_
  refine lv_iload_n hx hb dX12_worthOf_49 rfl (lv_at hl 4 rfl) ?_
  refine lv_imul hx hb dX12_worthOf_50 ?_
  refine lv_topi (nm_r (e' := nI (6 * h)) (pk_mul 6 h) ?_)
  refine lv_iadd hx hb dX12_worthOf_51 ?_
  refine lv_topi (nm_r (e' := nI (6 + 6 * h)) (nI_add 6 (6 * h)) ?_)
  refine lv_iload hx hb dX12_worthOf_52 (lv_at hl 0 rfl) ?_
  refine lv_iadd hx hb dX12_worthOf_54 ?_
  refine lv_topi (nm_r (e' := nI (6 + 6 * h + 5)) (nI_add (6 + 6 * h) 5) ?_)
  refine z_iald (v := σ (30 + h) 5) (f := g_m 60) (j := 6 + 6 * h + 5) hx hb hK.1 hW.1 43 0 rfl rfl (vp_in_nI (n := 6 + 6 * h + 5) (by omega) (by decide)) (nI_clamp (n := 6 + 6 * h + 5) (by omega)) (MR.hole hRS.1 (a := h) (g := 5) (by omega) (by omega)) dX12_worthOf_55 ?_
  refine lv_iadd hx hb dX12_worthOf_56 ?_
  refine lv_istore_n (lv' := [(3, .int ((((((0 + (σ (30 + h) 0)) + (σ (30 + h) 1)) + (σ (30 + h) 2)) + (σ (30 + h) 3)) + (σ (30 + h) 4)) + (σ (30 + h) 5))), (4, .int 5), (2, .int (σ (30 + h) gr)), (0, .ref (ad_m 0)), (1, .int (nI h))]) hx hb dX12_worthOf_57 rfl hl (by decide) rfl (fun ls hl => ?_)
  refine lv_iinc (v := 6) (lv' := [(4, .int 6), (3, .int ((((((0 + (σ (30 + h) 0)) + (σ (30 + h) 1)) + (σ (30 + h) 2)) + (σ (30 + h) 3)) + (σ (30 + h) 4)) + (σ (30 + h) 5))), (2, .int (σ (30 + h) gr)), (0, .ref (ad_m 0)), (1, .int (nI h))]) hx hb dX12_worthOf_58 hl (k := 1) rfl (by decide) (by decide) rfl (fun ls hl => ?_)
  refine lv_goto (tgt := 33) hx hb dX12_worthOf_61 (by decide) ?_
  refine lv_iload hx hb dX12_worthOf_33 (lv_at hl 0 rfl) ?_
  refine lv_bipush (v := 6) hx hb dX12_worthOf_35 (by decide) ?_
  refine lv_icmp_ge (tgt := 64) hx hb dX12_worthOf_37 (by decide) (fun c_7 => ?_) (fun c_7 => by first | exact absurd c_7 (by decide) | exact absurd (by decide) c_7)
  refine lv_aload_n hx hb dX12_worthOf_64 rfl (lv_at hl 3 rfl) ?_
  refine va_get (v := .ref (ad_m 26)) (C := RX12) (T := TX12) (N := 75) (ci := 11) hx hb hts in_X12 hown hK.1 hW.1 0 rfl rfl 26 (by decide) (hts _ q1662) (fun _ h9 => h9) rfl dX12_worthOf_65 ?_
  refine lv_bipush (v := 6) hx hb dX12_worthOf_68 (by decide) ?_
  refine lv_aload_n hx hb dX12_worthOf_70 rfl (lv_at hl 3 rfl) ?_
  refine va_get (v := .int (nI lv)) (C := RX12) (T := TX12) (N := 75) (ci := 11) hx hb hts in_X12 hown hK.1 hW.1 0 rfl rfl 18 (by decide) (hts _ q1654) (fun _ h9 => h9) rfl dX12_worthOf_71 ?_
  refine lv_imul hx hb dX12_worthOf_74 ?_
  refine lv_topi (nm_r (e' := nI (6 * lv)) (pk_mul 6 lv) ?_)
  refine lv_aload_n hx hb dX12_worthOf_75 rfl (lv_at hl 3 rfl) ?_
  refine va_get (v := .ref (ad_m 29)) (C := RX12) (T := TX12) (N := 75) (ci := 11) hx hb hts in_X12 hown hK.1 hW.1 0 rfl rfl 29 (by decide) (hts _ q1665) (fun _ h9 => h9) rfl dX12_worthOf_76 ?_
  refine lv_bipush (v := 6) hx hb dX12_worthOf_79 (by decide) ?_
  refine lv_aload_n hx hb dX12_worthOf_81 rfl (lv_at hl 3 rfl) ?_
  refine va_get (v := .int (nI lv)) (C := RX12) (T := TX12) (N := 75) (ci := 11) hx hb hts in_X12 hown hK.1 hW.1 0 rfl rfl 18 (by decide) (hts _ q1654) (fun _ h9 => h9) rfl dX12_worthOf_82 ?_
  refine lv_imul hx hb dX12_worthOf_85 ?_
  refine lv_topi (nm_r (e' := nI (6 * lv)) (pk_mul 6 lv) ?_)
  refine lv_iload_n hx hb dX12_worthOf_86 rfl (lv_at hl 4 rfl) ?_
  refine lv_iadd hx hb dX12_worthOf_87 ?_
  refine lv_topi (nm_r (e' := nI (6 * lv + h)) (nI_add (6 * lv) h) ?_)
  refine z_iald (v := nI gr) (f := g_m 29) (j := 6 * lv + h) hx hb hK.1 hW.1 16 0 rfl rfl (vp_in_nI (n := 6 * lv + h) (by omega) (by decide)) (nI_clamp (n := 6 * lv + h) (by omega)) (Eq.trans (TM.c29 hTM (j := h) (by omega)) egr) dX12_worthOf_88 ?_
  refine lv_iadd hx hb dX12_worthOf_89 ?_
  refine lv_topi (nm_r (e' := nI (6 * lv + gr)) (nI_add (6 * lv) gr) ?_)
  refine z_iald (v := t 1 gr) (f := g_m 26) (j := 6 * lv + gr) hx hb hK.1 hW.1 13 0 rfl rfl (vp_in_nI (n := 6 * lv + gr) (by omega) (by decide)) (nI_clamp (n := 6 * lv + gr) (by omega)) (TM.c26 hTM (j := gr) (by omega)) dX12_worthOf_90 ?_
  refine lv_iload_n hx hb dX12_worthOf_91 rfl (lv_at hl 2 rfl) ?_
  refine lv_iconst (v := 2) hx hb dX12_worthOf_92 (by decide) ?_
  refine lv_iload_n hx hb dX12_worthOf_93 rfl (lv_at hl 1 rfl) ?_
  refine lv_iload_n hx hb dX12_worthOf_94 rfl (lv_at hl 2 rfl) ?_
  refine lv_isub hx hb dX12_worthOf_95 ?_
  refine lv_imul hx hb dX12_worthOf_96 ?_
  refine lv_isub hx hb dX12_worthOf_97 ?_
  refine lv_imul hx hb dX12_worthOf_98 ?_
  refine lv_istore (lv' := [(4, .int ((t 1 gr) * ((σ (30 + h) gr) - (2 * (((((((0 + (σ (30 + h) 0)) + (σ (30 + h) 1)) + (σ (30 + h) 2)) + (σ (30 + h) 3)) + (σ (30 + h) 4)) + (σ (30 + h) 5)) - (σ (30 + h) gr)))))), (3, .int ((((((0 + (σ (30 + h) 0)) + (σ (30 + h) 1)) + (σ (30 + h) 2)) + (σ (30 + h) 3)) + (σ (30 + h) 4)) + (σ (30 + h) 5))), (2, .int (σ (30 + h) gr)), (0, .ref (ad_m 0)), (1, .int (nI h))]) hx hb dX12_worthOf_99 hl (by decide) rfl (fun ls hl => ?_)
  refine lv_iload hx hb dX12_worthOf_101 (lv_at hl 0 rfl) ?_
  refine lv_if_ge (tgt := 110) hx hb dX12_worthOf_103 (by decide) (fun c_8 => ?_) (fun c_8 => ?_)
  · refine lv_iload hx hb dX12_worthOf_110 (lv_at hl 0 rfl) ?_
    refine z_ireti (() : Unit) hx hb hr hlocks rfl hW rfl dX12_worthOf_112 ?_
    show ((t 1 gr) * ((σ (30 + h) gr) - (2 * (((((((0 + (σ (30 + h) 0)) + (σ (30 + h) 1)) + (σ (30 + h) 2)) + (σ (30 + h) 3)) + (σ (30 + h) 4)) + (σ (30 + h) 5)) - (σ (30 + h) gr))))) = worthP t σ h
    have e : (t 3 h).toNatClampNeg = gr := by rw [egr]; exact nI_clamp (by omega)
    simp only [worthP, inHoleP, e, f_pos]
    grind
  · refine lv_iconst (v := 0) hx hb dX12_worthOf_106 (by decide) ?_
    refine lv_goto (tgt := 112) hx hb dX12_worthOf_107 (by decide) ?_
    refine z_ireti (() : Unit) hx hb hr hlocks rfl hW rfl dX12_worthOf_112 ?_
    show 0 = worthP t σ h
    have e : (t 3 h).toNatClampNeg = gr := by rw [egr]; exact nI_clamp (by omega)
    simp only [worthP, inHoleP, e, f_pos]
    grind
set_option maxHeartbeats 4000000 in
set_option maxRecDepth 100000 in
theorem m_X12_worthAll (l : Launch) (D : va_G) (Y : Nat → ClassId) (ad_m : Nat → Nat) (g_m : Nat → Nat → Int32) (w_m : Nat → Nat → Int64) (lv : Nat) (cn : Nat → Nat) (t : tab) (lw : Nat → Option LAW) (σ : tab) (sz : Nat) (hlv : lv < 2) (hTW : TW cn t lw) (hTM : TM lv cn t lw g_m) (hRS : RS cn σ (g_m 60) (g_m 62) (g_m 61 0)) : Met l yX12_worthAll (ws_ yX12_worthAll cX12_worthAll 3 (some .int)) ({ frames := 2, cells := 0, slots := 0, locals := 36 }) (zPc D Y [.ref (ad_m 0)] sz (wj []) (wj [(mw Y ad_m (sA 18 (fun _ => nI lv) g_m) w_m)])) (va_Qi (fun (r : Int32) (u : Unit) => r = worthTo t σ (cn 1)) (zB D (fun (u : Unit) => (wj [(mw Y ad_m (sA 18 (fun _ => nI lv) g_m) w_m)])) (va_A (wj [(mw Y ad_m (sA 18 (fun _ => nI lv) g_m) w_m)]) sz)) (va_A (wj [(mw Y ad_m (sA 18 (fun _ => nI lv) g_m) w_m)]) sz)) 0 0 (va_A (wj [(mw Y ad_m (sA 18 (fun _ => nI lv) g_m) w_m)]) sz) := by
  refine Met.ofW (cc := cX12_worthAll) (maxL := 3) (ret := (some .int)) (by decide) rfl ?_
  intro p e s m args below meth c s₁ B hml hv
  obtain ⟨rfl, hsz, hW, hR, hK, hA⟩ := zEntry hv
  subst hsz
  have hx := B.exec
  have hb := B.bytes
  have hr := B.returns
  have hlocks := B.notSynchronized
  have hts : ∀ w ∈ lw_all, w.before _ s = true := fun w h => atoms_spec (ws := (ws_ yX12_worthAll cX12_worthAll 3 (some .int))) B.pre w (List.mem_cons_of_mem _ h)
  have hown : s.vm.findClass RX12 = some m.cls := findClass_of_methodNamed B.named
  generalize hAe : va_A (wj [(mw Y ad_m (sA 18 (fun _ => nI lv) g_m) w_m)]) s.heap.size = A at hW hR hA ⊢
  have hl := lv_entry ([.ref (ad_m 0)]) (n := 3) (Nat.le_of_ble_eq_true rfl)
  rw [lg_entry_eq]
  generalize (lg_sl ([.ref (ad_m 0)]) ++ List.replicate (3 - (lg_sl ([.ref (ad_m 0)])).length) Slot.unset).toArray = ls at hl ⊢
  have hl : lv_has ls 3 [(0, .ref (ad_m 0))] := hl
  have hLT := hRS.2.2
  have hk8 := hTW.n2
  have hk6 := hTW.n1
  have hk60 := hTW.n0
  have hk5 := hTW.n3
  refine lv_iconst (v := 0) hx hb dX12_worthAll_0 (by decide) ?_
  refine lv_istore_n (lv' := [(1, .int 0), (0, .ref (ad_m 0))]) hx hb dX12_worthAll_1 rfl hl (by decide) rfl (fun ls hl => ?_)
  refine lv_iconst (v := 0) hx hb dX12_worthAll_2 (by decide) ?_
  refine lv_istore_n (lv' := [(2, .int 0), (1, .int 0), (0, .ref (ad_m 0))]) hx hb dX12_worthAll_3 rfl hl (by decide) rfl (fun ls hl => ?_)
  have loop_4 : ∀ (n : Nat) (h : Nat) (v1_4 : Int32), cn 1 - h < n → (h ≤ cn 1) → (v1_4 = worthTo t σ h) → ∀ (H : Heap) (locs : List Loc), zW D A s.heap H locs (wj [(mw Y ad_m (sA 18 (fun _ => nI lv) g_m) w_m)]) → ∀ (ls : Array Slot), lv_has ls 3 [(2, .int (nI h)), (1, .int v1_4), (0, .ref (ad_m 0))] → W p l e (headSpec (ws_ yX12_worthAll cX12_worthAll 3 (some .int)) ({ frames := 2, cells := 0, slots := 0, locals := 36 })).room s m ([.ref (ad_m 0)] : List Value).toArray below meth c H locs 0 0 (MQ below (va_Qi (fun (r : Int32) (u : Unit) => r = worthTo t σ (cn 1)) (zB D (fun (u : Unit) => (wj [(mw Y ad_m (sA 18 (fun _ => nI lv) g_m) w_m)])) A) A) ([.ref (ad_m 0)] : List Value).toArray s 0 0 A) (F0 m 4 ls []) := by
    intro n
    induction n with
    | zero =>
      intro h v1_4 hmz
      exact absurd hmz (Nat.not_lt_zero _)
    | succ n ih =>
      intro h v1_4 hm_4 hi hv H locs hW ls hl
      have ih_4 := ih
      clear ih
      refine lv_iload_n hx hb dX12_worthAll_4 rfl (lv_at hl 0 rfl) ?_
      refine lv_aload_n hx hb dX12_worthAll_5 rfl (lv_at hl 2 rfl) ?_
      refine va_get (v := .ref (ad_m 27)) (C := RX12) (T := TX12) (N := 75) (ci := 11) hx hb hts in_X12 hown hK.1 hW.1 0 rfl rfl 27 (by decide) (hts _ q1663) (fun _ h9 => h9) rfl dX12_worthAll_6 ?_
      refine lv_aload_n hx hb dX12_worthAll_9 rfl (lv_at hl 2 rfl) ?_
      refine va_get (v := .int (nI lv)) (C := RX12) (T := TX12) (N := 75) (ci := 11) hx hb hts in_X12 hown hK.1 hW.1 0 rfl rfl 18 (by decide) (hts _ q1654) (fun _ h9 => h9) rfl dX12_worthAll_10 ?_
      refine z_iald (v := nI (cn 1)) (f := g_m 27) (j := lv) hx hb hK.1 hW.1 14 0 rfl rfl (vp_in_nI (n := lv) (by omega) (by decide)) (nI_clamp (n := lv) (by omega)) (TM.c27 hTM) dX12_worthAll_13 ?_
      refine lv_icmp_ge (tgt := 31) hx hb dX12_worthAll_14 (by decide) (fun c_1 => ?_) (fun c_1 => ?_)
      · have c_1 : cn 1 ≤ h := (nI_leI (a := cn 1) (b := h) (by omega) (by omega)).mp c_1
        refine lv_iload_n hx hb dX12_worthAll_31 rfl (lv_at hl 1 rfl) ?_
        refine z_ireti (() : Unit) hx hb hr hlocks rfl hW rfl dX12_worthAll_32 ?_
        show v1_4 = worthTo t σ (cn 1)
        have e : h = cn 1 := by omega
        rw [hv, e]
      · have c_1 : ¬ (cn 1 ≤ h) := fun hz_ => c_1 ((nI_leI (a := cn 1) (b := h) (by omega) (by omega)).mpr hz_)
        refine lv_iload_n hx hb dX12_worthAll_17 rfl (lv_at hl 1 rfl) ?_
        refine lv_aload_n hx hb dX12_worthAll_18 rfl (lv_at hl 2 rfl) ?_
        refine lv_iload_n hx hb dX12_worthAll_19 rfl (lv_at hl 0 rfl) ?_
        refine z_calli (wc := wj [(mw Y ad_m (sA 18 (fun _ => nI lv) g_m) w_m)]) (wr := wj []) (va_runV (As := [.int (nI h)]) (rest := [.int v1_4]) ⟨hx, hb, hml, hown, hts⟩ (m_X12_worthOf l D Y ad_m (sA 18 (fun _ => nI lv) g_m) w_m lv cn t lw σ h H.size (show lv < 2 from by exact hlv) (show TW cn t lw from by exact hTW) (show TM lv cn t lw (sA 18 (fun _ => nI lv) g_m) from by exact hTM) (show RS cn σ (g_m 60) (g_m 62) (g_m 61 0) from by exact hRS) (show h < cn 1 from by first | assumption | omega | grind)) (cwV 1 hts (lw_V q2024 q2026 qs87 q133 q2027) rfl rfl rfl (by decide +kernel) ⟨Nat.le_of_ble_eq_true rfl, Nat.le_of_ble_eq_true rfl⟩) (zPreV hK hW hR (wj_split3 (B := [(mw Y ad_m (sA 18 (fun _ => nI lv) g_m) w_m)]) (R := []) (C := [(mw Y ad_m (sA 18 (fun _ => nI lv) g_m) w_m)]) (O := []) (X := []) (List.Perm.refl _)) (va_recv hK.1 hW.1 (ci := 11) (q0 := 0) rfl rfl)) rfl rfl hl.1 rfl (lv_room (Nat.le_of_ble_eq_true rfl)) dX12_worthAll_20 ⟨Nat.le_refl _, Nat.le_refl _⟩) hW hA (wj_split (B := [(mw Y ad_m (sA 18 (fun _ => nI lv) g_m) w_m)]) (C := [(mw Y ad_m (sA 18 (fun _ => nI lv) g_m) w_m)]) (R := []) (List.Perm.refl _)) (fun r_2 u H locs hp_3 hW => ?_)
        have hp_3 : r_2 = worthP t σ h := hp_3
        have hW : zW D A s.heap H locs (wj [(mw Y ad_m (sA 18 (fun _ => nI lv) g_m) w_m)]) := hW.join
        refine lv_iadd hx hb dX12_worthAll_23 ?_
        refine lv_istore_n (lv' := [(1, .int (v1_4 + r_2)), (2, .int (nI h)), (0, .ref (ad_m 0))]) hx hb dX12_worthAll_24 rfl hl (by decide) rfl (fun ls hl => ?_)
        refine lv_iinc (v := nI (h + 1)) (lv' := [(2, .int (nI (h + 1))), (1, .int (v1_4 + r_2)), (0, .ref (ad_m 0))]) hx hb dX12_worthAll_25 hl (k := 1) rfl (nI_add h 1) (by decide) rfl (fun ls hl => ?_)
        refine lv_goto (tgt := 4) hx hb dX12_worthAll_28 (by decide) ?_
        exact ih_4 (h + 1) (v1_4 + r_2) (by omega) (by first | assumption | omega | grind) (by rw [hv, hp_3]; rfl) _ _ hW _ (lv_sub hl [0, 1, 2] rfl)
  exact loop_4 _ 0 0 (Nat.lt_succ_self _) (by first | assumption | omega | grind) (by rfl) _ _ hW _ (lv_sub hl [0, 1, 2] rfl)
set_option maxHeartbeats 4000000 in
set_option maxRecDepth 100000 in
theorem m_X12_lotOf (l : Launch) (D : va_G) (Y : Nat → ClassId) (ad_m : Nat → Nat) (g_m : Nat → Nat → Int32) (w_m : Nat → Nat → Int64) (lv : Nat) (cn : Nat → Nat) (t : tab) (lw : Nat → Option LAW) (σ : tab) (k : Nat) (sz : Nat) (hlv : lv < 2) (hTW : TW cn t lw) (hTM : TM lv cn t lw g_m) (hRS : RS cn σ (g_m 60) (g_m 62) (g_m 61 0)) (hk : k < cn 2) : Met l yX12_lotOf (ws_ yX12_lotOf cX12_lotOf 2 (some .int)) ({ frames := 2, cells := 0, slots := 0, locals := 34 }) (zPc D Y [.ref (ad_m 0), .int (nI k)] sz (wj []) (wj [(mw Y ad_m (sA 18 (fun _ => nI lv) g_m) w_m)])) (va_Qi (fun (r : Int32) (u : Unit) => r = lotP (σ 18 0) (8 * σ 13 0 + nI k) 100) (zB D (fun (u : Unit) => (wj [(mw Y ad_m (sA 18 (fun _ => nI lv) g_m) w_m)])) (va_A (wj [(mw Y ad_m (sA 18 (fun _ => nI lv) g_m) w_m)]) sz)) (va_A (wj [(mw Y ad_m (sA 18 (fun _ => nI lv) g_m) w_m)]) sz)) 0 0 (va_A (wj [(mw Y ad_m (sA 18 (fun _ => nI lv) g_m) w_m)]) sz) := by
  refine Met.ofW (cc := cX12_lotOf) (maxL := 2) (ret := (some .int)) (by decide) rfl ?_
  intro p e s m args below meth c s₁ B hml hv
  obtain ⟨rfl, hsz, hW, hR, hK, hA⟩ := zEntry hv
  subst hsz
  have hx := B.exec
  have hb := B.bytes
  have hr := B.returns
  have hlocks := B.notSynchronized
  have hts : ∀ w ∈ lw_all, w.before _ s = true := fun w h => atoms_spec (ws := (ws_ yX12_lotOf cX12_lotOf 2 (some .int))) B.pre w (List.mem_cons_of_mem _ h)
  have hown : s.vm.findClass RX12 = some m.cls := findClass_of_methodNamed B.named
  generalize hAe : va_A (wj [(mw Y ad_m (sA 18 (fun _ => nI lv) g_m) w_m)]) s.heap.size = A at hW hR hA ⊢
  have hl := lv_entry ([.ref (ad_m 0), .int (nI k)]) (n := 2) (Nat.le_of_ble_eq_true rfl)
  rw [lg_entry_eq]
  generalize (lg_sl ([.ref (ad_m 0), .int (nI k)]) ++ List.replicate (2 - (lg_sl ([.ref (ad_m 0), .int (nI k)])).length) Slot.unset).toArray = ls at hl ⊢
  have hl : lv_has ls 2 [(0, .ref (ad_m 0)), (1, .int (nI k))] := hl
  have hLT := hRS.2.2
  have hk8 := hTW.n2
  have hk6 := hTW.n1
  have hk60 := hTW.n0
  have hk5 := hTW.n3
  refine lv_aload_n hx hb dX12_lotOf_0 rfl (lv_at hl 0 rfl) ?_
  refine va_get (v := .int (g_m 61 0)) (C := RX12) (T := TX12) (N := 75) (ci := 11) hx hb hts in_X12 hown hK.1 hW.1 0 rfl rfl 61 (by decide) (hts _ q1697) (fun _ h9 => h9) rfl dX12_lotOf_1 ?_
  refine lv_bipush (v := 39) hx hb dX12_lotOf_4 (by decide) ?_
  refine z_calli (wc := wj []) (wr := wj [(mw Y ad_m (sA 18 (fun _ => nI lv) g_m) w_m)]) (va_runS (As := [.int (g_m 61 0), .int 39]) (rest := []) ⟨hx, hb, hml, hown, hts⟩ (m_X12_mixed l D Y (g_m 61 0) 39 s.heap.size) (va_cwS 2 hts (lw_S q2070 q2071 q133 q2072) rfl rfl rfl (by decide +kernel) ⟨Nat.le_of_ble_eq_true rfl, Nat.le_of_ble_eq_true rfl⟩) (zPre hK hW hR (wj_split3 (B := [(mw Y ad_m (sA 18 (fun _ => nI lv) g_m) w_m)]) (R := []) (C := []) (O := []) (X := [(mw Y ad_m (sA 18 (fun _ => nI lv) g_m) w_m)]) (List.Perm.refl _))) rfl rfl hl.1 rfl (lv_room (Nat.le_of_ble_eq_true rfl)) dX12_lotOf_6 ⟨Nat.le_refl _, Nat.le_refl _⟩) hW hA (wj_split (B := [(mw Y ad_m (sA 18 (fun _ => nI lv) g_m) w_m)]) (C := []) (R := [(mw Y ad_m (sA 18 (fun _ => nI lv) g_m) w_m)]) (List.Perm.refl _)) (fun r_1 u H locs hp_2 hW => ?_)
  have hp_2 : r_1 = f_mixed (g_m 61 0) 39 := hp_2
  have hW : zW D A s.heap H locs (wj [(mw Y ad_m (sA 18 (fun _ => nI lv) g_m) w_m)]) := hW.join
  refine lv_bipush (v := 8) hx hb dX12_lotOf_9 (by decide) ?_
  refine lv_aload_n hx hb dX12_lotOf_11 rfl (lv_at hl 0 rfl) ?_
  refine va_get (v := .ref (ad_m 60)) (C := RX12) (T := TX12) (N := 75) (ci := 11) hx hb hts in_X12 hown hK.1 hW.1 0 rfl rfl 60 (by decide) (hts _ q1696) (fun _ h9 => h9) rfl dX12_lotOf_12 ?_
  refine lv_bipush (v := 114) hx hb dX12_lotOf_15 (by decide) ?_
  refine z_iald (v := σ 13 0) (f := g_m 60) (j := 114) hx hb hK.1 hW.1 43 0 rfl rfl (vp_in_nI (n := 114) (by omega) (by decide)) (by decide) (MR.s13 hRS.1) dX12_lotOf_17 ?_
  refine lv_imul hx hb dX12_lotOf_18 ?_
  refine lv_iload_n hx hb dX12_lotOf_19 rfl (lv_at hl 1 rfl) ?_
  refine lv_iadd hx hb dX12_lotOf_20 ?_
  refine z_calli (wc := wj []) (wr := wj [(mw Y ad_m (sA 18 (fun _ => nI lv) g_m) w_m)]) (va_runS (As := [.int r_1, .int ((8 * (σ 13 0)) + (nI k))]) (rest := []) ⟨hx, hb, hml, hown, hts⟩ (m_X12_mixed l D Y r_1 ((8 * (σ 13 0)) + (nI k)) H.size) (va_cwS 2 hts (lw_S q2070 q2071 q133 q2072) rfl rfl rfl (by decide +kernel) ⟨Nat.le_of_ble_eq_true rfl, Nat.le_of_ble_eq_true rfl⟩) (zPre hK hW hR (wj_split3 (B := [(mw Y ad_m (sA 18 (fun _ => nI lv) g_m) w_m)]) (R := []) (C := []) (O := []) (X := [(mw Y ad_m (sA 18 (fun _ => nI lv) g_m) w_m)]) (List.Perm.refl _))) rfl rfl hl.1 rfl (lv_room (Nat.le_of_ble_eq_true rfl)) dX12_lotOf_21 ⟨Nat.le_refl _, Nat.le_refl _⟩) hW hA (wj_split (B := [(mw Y ad_m (sA 18 (fun _ => nI lv) g_m) w_m)]) (C := []) (R := [(mw Y ad_m (sA 18 (fun _ => nI lv) g_m) w_m)]) (List.Perm.refl _)) (fun r_3 u H locs hp_4 hW => ?_)
  have hp_4 : r_3 = f_mixed r_1 ((8 * (σ 13 0)) + (nI k)) := hp_4
  have hW : zW D A s.heap H locs (wj [(mw Y ad_m (sA 18 (fun _ => nI lv) g_m) w_m)]) := hW.join
  refine lv_iconst (v := 1) hx hb dX12_lotOf_24 (by decide) ?_
  refine lv_iushr (v := (r_3.toUInt32 >>> ((1 : Int32).toUInt32 &&& Int32.toUInt32 31)).toInt32) hx hb dX12_lotOf_25 rfl ?_
  refine lv_bipush (v := 100) hx hb dX12_lotOf_26 (by decide) ?_
  refine lv_irem hx hb dX12_lotOf_28 (by decide) ?_
  refine z_ireti (() : Unit) hx hb hr hlocks rfl hW rfl dX12_lotOf_29 ?_
  show (((r_3.toUInt32 >>> ((1 : Int32).toUInt32 &&& Int32.toUInt32 31)).toInt32) - ((r_3.toUInt32 >>> ((1 : Int32).toUInt32 &&& Int32.toUInt32 31)).toInt32) / 100 * 100) = lotP (σ 18 0) (8 * σ 13 0 + nI k) 100
  simp only [lotP, *]
set_option maxHeartbeats 4000000 in
set_option maxRecDepth 100000 in
theorem m_X12_goesHome (l : Launch) (D : va_G) (Y : Nat → ClassId) (ad_m : Nat → Nat) (g_m : Nat → Nat → Int32) (w_m : Nat → Nat → Int64) (lv : Nat) (cn : Nat → Nat) (t : tab) (lw : Nat → Option LAW) (σ : tab) (k : Nat) (sz : Nat) (hlv : lv < 2) (hTW : TW cn t lw) (hTM : TM lv cn t lw g_m) (hRS : RS cn σ (g_m 60) (g_m 62) (g_m 61 0)) (hk : k < cn 2) (ho : ¬ σ 5 k ≤ 0 → vp_in (σ 6 k) 6) : Met l yX12_goesHome (ws_ yX12_goesHome cX12_goesHome 2 none) ({ frames := 1, cells := 0, slots := 0, locals := 12 }) (zPc D Y [.ref (ad_m 0), .int (nI k)] sz (wj []) (wj [(mw Y ad_m (sA 18 (fun _ => nI lv) g_m) w_m)])) (va_Qv (fun (u : (Nat → Int32)) => RS cn (homeP σ k) u (g_m 62) (g_m 61 0)) (zB D (fun (u : (Nat → Int32)) => (wj [(mw Y ad_m (sA 60 u (sA 18 (fun _ => nI lv) g_m)) w_m)])) (va_A (wj [(mw Y ad_m (sA 18 (fun _ => nI lv) g_m) w_m)]) sz)) (va_A (wj [(mw Y ad_m (sA 18 (fun _ => nI lv) g_m) w_m)]) sz)) 0 0 (va_A (wj [(mw Y ad_m (sA 18 (fun _ => nI lv) g_m) w_m)]) sz) := by
  refine Met.ofW (cc := cX12_goesHome) (maxL := 2) (ret := none) (by decide) rfl ?_
  intro p e s m args below meth c s₁ B hml hv
  obtain ⟨rfl, hsz, hW, hR, hK, hA⟩ := zEntry hv
  subst hsz
  have hx := B.exec
  have hb := B.bytes
  have hr := B.returns
  have hlocks := B.notSynchronized
  have hts : ∀ w ∈ lw_all, w.before _ s = true := fun w h => atoms_spec (ws := (ws_ yX12_goesHome cX12_goesHome 2 none)) B.pre w (List.mem_cons_of_mem _ h)
  have hown : s.vm.findClass RX12 = some m.cls := findClass_of_methodNamed B.named
  generalize hAe : va_A (wj [(mw Y ad_m (sA 18 (fun _ => nI lv) g_m) w_m)]) s.heap.size = A at hW hR hA ⊢
  have hl := lv_entry ([.ref (ad_m 0), .int (nI k)]) (n := 2) (Nat.le_of_ble_eq_true rfl)
  rw [lg_entry_eq]
  generalize (lg_sl ([.ref (ad_m 0), .int (nI k)]) ++ List.replicate (2 - (lg_sl ([.ref (ad_m 0), .int (nI k)])).length) Slot.unset).toArray = ls at hl ⊢
  have hl : lv_has ls 2 [(0, .ref (ad_m 0)), (1, .int (nI k))] := hl
  have hLT := hRS.2.2
  have hk8 := hTW.n2
  have hk6 := hTW.n1
  have hk60 := hTW.n0
  have hk5 := hTW.n3
  refine lv_aload_n hx hb dX12_goesHome_0 rfl (lv_at hl 0 rfl) ?_
  refine va_get (v := .ref (ad_m 60)) (C := RX12) (T := TX12) (N := 75) (ci := 11) hx hb hts in_X12 hown hK.1 hW.1 0 rfl rfl 60 (by decide) (hts _ q1696) (fun _ h9 => h9) rfl dX12_goesHome_1 ?_
  refine lv_bipush (v := 58) hx hb dX12_goesHome_4 (by decide) ?_
  refine lv_iload_n hx hb dX12_goesHome_6 rfl (lv_at hl 1 rfl) ?_
  refine lv_iadd hx hb dX12_goesHome_7 ?_
  refine lv_topi (nm_r (e' := nI (58 + k)) (nI_add 58 k) ?_)
  refine z_iald (v := σ 5 k) (f := g_m 60) (j := 58 + k) hx hb hK.1 hW.1 43 0 rfl rfl (vp_in_nI (n := 58 + k) (by omega) (by decide)) (nI_clamp (n := 58 + k) (by omega)) (MR.r5 hRS.1 (r := k) (by omega)) dX12_goesHome_8 ?_
  refine lv_if_le (tgt := 38) hx hb dX12_goesHome_9 (by decide) (fun c_1 => ?_) (fun c_1 => ?_)
  · refine lv_aload_n hx hb dX12_goesHome_38 rfl (lv_at hl 0 rfl) ?_
    refine va_get (v := .ref (ad_m 60)) (C := RX12) (T := TX12) (N := 75) (ci := 11) hx hb hts in_X12 hown hK.1 hW.1 0 rfl rfl 60 (by decide) (hts _ q1696) (fun _ h9 => h9) rfl dX12_goesHome_39 ?_
    refine lv_bipush (v := 58) hx hb dX12_goesHome_42 (by decide) ?_
    refine lv_iload_n hx hb dX12_goesHome_44 rfl (lv_at hl 1 rfl) ?_
    refine lv_iadd hx hb dX12_goesHome_45 ?_
    refine lv_topi (nm_r (e' := nI (58 + k)) (nI_add 58 k) ?_)
    refine lv_iconst (v := 0) hx hb dX12_goesHome_46 (by decide) ?_
    refine z_iast (x := 0) (f := g_m 60) (j := 58 + k) (wn := (wj [(mw Y ad_m (sA 60 (upd (g_m 60) (58 + k) 0) (sA 18 (fun _ => nI lv) g_m)) w_m)])) hx hb hK.1 hW 43 0 rfl rfl (vp_in_nI (n := 58 + k) (by omega) (by decide)) (nI_clamp (n := 58 + k) (by omega)) dX12_goesHome_47 rfl (fun H locs hW => ?_)
    refine lv_aload_n hx hb dX12_goesHome_48 rfl (lv_at hl 0 rfl) ?_
    refine va_get (v := .ref (ad_m 60)) (C := RX12) (T := TX12) (N := 75) (ci := 11) hx hb hts in_X12 hown hK.1 hW.1 0 rfl rfl 60 (by decide) (hts _ q1696) (fun _ h9 => h9) rfl dX12_goesHome_49 ?_
    refine lv_bipush (v := 66) hx hb dX12_goesHome_52 (by decide) ?_
    refine lv_iload_n hx hb dX12_goesHome_54 rfl (lv_at hl 1 rfl) ?_
    refine lv_iadd hx hb dX12_goesHome_55 ?_
    refine lv_topi (nm_r (e' := nI (66 + k)) (nI_add 66 k) ?_)
    refine lv_bipush (v := (-2)) hx hb dX12_goesHome_56 (by decide) ?_
    refine z_iast (x := (-2)) (f := upd (g_m 60) (58 + k) 0) (j := 66 + k) (wn := (wj [(mw Y ad_m (sA 60 (upd (upd (g_m 60) (58 + k) 0) (66 + k) (-2)) (sA 18 (fun _ => nI lv) g_m)) w_m)])) hx hb hK.1 hW 43 0 rfl rfl (vp_in_nI (n := 66 + k) (by omega) (by decide)) (nI_clamp (n := 66 + k) (by omega)) dX12_goesHome_58 rfl (fun H locs hW => ?_)
    refine lv_aload_n hx hb dX12_goesHome_59 rfl (lv_at hl 0 rfl) ?_
    refine va_get (v := .ref (ad_m 60)) (C := RX12) (T := TX12) (N := 75) (ci := 11) hx hb hts in_X12 hown hK.1 hW.1 0 rfl rfl 60 (by decide) (hts _ q1696) (fun _ h9 => h9) rfl dX12_goesHome_60 ?_
    refine lv_bipush (v := 106) hx hb dX12_goesHome_63 (by decide) ?_
    refine lv_iload_n hx hb dX12_goesHome_65 rfl (lv_at hl 1 rfl) ?_
    refine lv_iadd hx hb dX12_goesHome_66 ?_
    refine lv_topi (nm_r (e' := nI (106 + k)) (nI_add 106 k) ?_)
    refine lv_bipush (v := (-2)) hx hb dX12_goesHome_67 (by decide) ?_
    refine z_iast (x := (-2)) (f := upd (upd (g_m 60) (58 + k) 0) (66 + k) (-2)) (j := 106 + k) (wn := (wj [(mw Y ad_m (sA 60 (upd (upd (upd (g_m 60) (58 + k) 0) (66 + k) (-2)) (106 + k) (-2)) (sA 18 (fun _ => nI lv) g_m)) w_m)])) hx hb hK.1 hW 43 0 rfl rfl (vp_in_nI (n := 106 + k) (by omega) (by decide)) (nI_clamp (n := 106 + k) (by omega)) dX12_goesHome_69 rfl (fun H locs hW => ?_)
    refine lv_aload_n hx hb dX12_goesHome_70 rfl (lv_at hl 0 rfl) ?_
    refine va_get (v := .ref (ad_m 60)) (C := RX12) (T := TX12) (N := 75) (ci := 11) hx hb hts in_X12 hown hK.1 hW.1 0 rfl rfl 60 (by decide) (hts _ q1696) (fun _ h9 => h9) rfl dX12_goesHome_71 ?_
    refine lv_bipush (v := 50) hx hb dX12_goesHome_74 (by decide) ?_
    refine lv_iload_n hx hb dX12_goesHome_76 rfl (lv_at hl 1 rfl) ?_
    refine lv_iadd hx hb dX12_goesHome_77 ?_
    refine lv_topi (nm_r (e' := nI (50 + k)) (nI_add 50 k) ?_)
    refine lv_iconst (v := 0) hx hb dX12_goesHome_78 (by decide) ?_
    refine z_iast (x := 0) (f := upd (upd (upd (g_m 60) (58 + k) 0) (66 + k) (-2)) (106 + k) (-2)) (j := 50 + k) (wn := (wj [(mw Y ad_m (sA 60 (upd (upd (upd (upd (g_m 60) (58 + k) 0) (66 + k) (-2)) (106 + k) (-2)) (50 + k) 0) (sA 18 (fun _ => nI lv) g_m)) w_m)])) hx hb hK.1 hW 43 0 rfl rfl (vp_in_nI (n := 50 + k) (by omega) (by decide)) (nI_clamp (n := 50 + k) (by omega)) dX12_goesHome_79 rfl (fun H locs hW => ?_)
    refine lv_aload_n hx hb dX12_goesHome_80 rfl (lv_at hl 0 rfl) ?_
    refine va_get (v := .ref (ad_m 60)) (C := RX12) (T := TX12) (N := 75) (ci := 11) hx hb hts in_X12 hown hK.1 hW.1 0 rfl rfl 60 (by decide) (hts _ q1696) (fun _ h9 => h9) rfl dX12_goesHome_81 ?_
    refine lv_bipush (v := 42) hx hb dX12_goesHome_84 (by decide) ?_
    refine lv_iload_n hx hb dX12_goesHome_86 rfl (lv_at hl 1 rfl) ?_
    refine lv_iadd hx hb dX12_goesHome_87 ?_
    refine lv_topi (nm_r (e' := nI (42 + k)) (nI_add 42 k) ?_)
    refine lv_iconst (v := 3) hx hb dX12_goesHome_88 (by decide) ?_
    refine z_iast (x := 3) (f := upd (upd (upd (upd (g_m 60) (58 + k) 0) (66 + k) (-2)) (106 + k) (-2)) (50 + k) 0) (j := 42 + k) (wn := (wj [(mw Y ad_m (sA 60 (upd (upd (upd (upd (upd (g_m 60) (58 + k) 0) (66 + k) (-2)) (106 + k) (-2)) (50 + k) 0) (42 + k) 3) (sA 18 (fun _ => nI lv) g_m)) w_m)])) hx hb hK.1 hW 43 0 rfl rfl (vp_in_nI (n := 42 + k) (by omega) (by decide)) (nI_clamp (n := 42 + k) (by omega)) dX12_goesHome_89 rfl (fun H locs hW => ?_)
    refine z_vret (upd (upd (upd (upd (upd (g_m 60) (58 + k) 0) (66 + k) (-2)) (106 + k) (-2)) (50 + k) 0) (42 + k) 3 : (Nat → Int32)) hx hb hr hlocks hW rfl dX12_goesHome_90 ?_
    show RS cn (homeP σ k) (upd (upd (upd (upd (upd (g_m 60) (58 + k) 0) (66 + k) (-2)) (106 + k) (-2)) (50 + k) 0) (42 + k) 3) (g_m 62) (g_m 61 0)
    have hfin : RS cn (sU 3 k 3 (sU 4 k 0 (sU 7 k (-2) (sU 6 k (-2) (sU 5 k 0 σ))))) (upd (upd (upd (upd (upd (g_m 60) (58 + k) 0) (66 + k) (-2)) (106 + k) (-2)) (50 + k) 0) (42 + k) 3) (g_m 62) (g_m 61 0) := (RS.mk' hRS (MR.u3 hk8 (MR.u4 hk8 (MR.u7 hk8 (MR.u6 hk8 (MR.u5 hk8 hRS.1 (r := k) (by omega) 0) (r := k) (by omega) (-2)) (r := k) (by omega) (-2)) (r := k) (by omega) 0) (r := k) (by omega) 3) (by rw [sU_ne (by omega), sU_ne (by omega), sU_ne (by omega), sU_ne (by omega), sU_ne (by omega)]) (by rw [sU_ne (by omega), sU_ne (by omega), sU_ne (by omega), sU_ne (by omega), sU_ne (by omega)]))
    have efin : homeP σ k = sU 3 k 3 (sU 4 k 0 (sU 7 k (-2) (sU 6 k (-2) (sU 5 k 0 σ)))) := by
      simp [homeP, c_1, sU, sS, sA_ne, sA_eq, sA_sA, sA_comm, sA_row, sA_rowc, *]
    rw [efin]; exact hfin
  · obtain ⟨og, hog, eog⟩ := vp_in_of (ho c_1) (by omega)
    have cog := nI_clamp (show og < 2 ^ 31 by omega)
    refine lv_aload_n hx hb dX12_goesHome_12 rfl (lv_at hl 0 rfl) ?_
    refine va_get (v := .ref (ad_m 60)) (C := RX12) (T := TX12) (N := 75) (ci := 11) hx hb hts in_X12 hown hK.1 hW.1 0 rfl rfl 60 (by decide) (hts _ q1696) (fun _ h9 => h9) rfl dX12_goesHome_13 ?_
    refine lv_aload_n hx hb dX12_goesHome_16 rfl (lv_at hl 0 rfl) ?_
    refine va_get (v := .ref (ad_m 60)) (C := RX12) (T := TX12) (N := 75) (ci := 11) hx hb hts in_X12 hown hK.1 hW.1 0 rfl rfl 60 (by decide) (hts _ q1696) (fun _ h9 => h9) rfl dX12_goesHome_17 ?_
    refine lv_bipush (v := 66) hx hb dX12_goesHome_20 (by decide) ?_
    refine lv_iload_n hx hb dX12_goesHome_22 rfl (lv_at hl 1 rfl) ?_
    refine lv_iadd hx hb dX12_goesHome_23 ?_
    refine lv_topi (nm_r (e' := nI (66 + k)) (nI_add 66 k) ?_)
    refine z_iald (v := nI og) (f := g_m 60) (j := 66 + k) hx hb hK.1 hW.1 43 0 rfl rfl (vp_in_nI (n := 66 + k) (by omega) (by decide)) (nI_clamp (n := 66 + k) (by omega)) (Eq.trans (MR.r6 hRS.1 (r := k) (by omega)) eog) dX12_goesHome_24 ?_
    refine lv_dup2_11 hx hb dX12_goesHome_25 rfl rfl ?_
    refine z_iald (v := σ 0 og) (f := g_m 60) (j := og) hx hb hK.1 hW.1 43 0 rfl rfl (vp_in_nI (n := og) (by omega) (by decide)) (nI_clamp (n := og) (by omega)) (MR.heap hRS.1 (g := og) (by omega)) dX12_goesHome_26 ?_
    refine lv_aload_n hx hb dX12_goesHome_27 rfl (lv_at hl 0 rfl) ?_
    refine va_get (v := .ref (ad_m 60)) (C := RX12) (T := TX12) (N := 75) (ci := 11) hx hb hts in_X12 hown hK.1 hW.1 0 rfl rfl 60 (by decide) (hts _ q1696) (fun _ h9 => h9) rfl dX12_goesHome_28 ?_
    refine lv_bipush (v := 58) hx hb dX12_goesHome_31 (by decide) ?_
    refine lv_iload_n hx hb dX12_goesHome_33 rfl (lv_at hl 1 rfl) ?_
    refine lv_iadd hx hb dX12_goesHome_34 ?_
    refine lv_topi (nm_r (e' := nI (58 + k)) (nI_add 58 k) ?_)
    refine z_iald (v := σ 5 k) (f := g_m 60) (j := 58 + k) hx hb hK.1 hW.1 43 0 rfl rfl (vp_in_nI (n := 58 + k) (by omega) (by decide)) (nI_clamp (n := 58 + k) (by omega)) (MR.r5 hRS.1 (r := k) (by omega)) dX12_goesHome_35 ?_
    refine lv_iadd hx hb dX12_goesHome_36 ?_
    refine z_iast (x := (σ 0 og) + (σ 5 k)) (f := g_m 60) (j := og) (wn := (wj [(mw Y ad_m (sA 60 (upd (g_m 60) og ((σ 0 og) + (σ 5 k))) (sA 18 (fun _ => nI lv) g_m)) w_m)])) hx hb hK.1 hW 43 0 rfl rfl (vp_in_nI (n := og) (by omega) (by decide)) (nI_clamp (n := og) (by omega)) dX12_goesHome_37 rfl (fun H locs hW => ?_)
    refine lv_aload_n hx hb dX12_goesHome_38 rfl (lv_at hl 0 rfl) ?_
    refine va_get (v := .ref (ad_m 60)) (C := RX12) (T := TX12) (N := 75) (ci := 11) hx hb hts in_X12 hown hK.1 hW.1 0 rfl rfl 60 (by decide) (hts _ q1696) (fun _ h9 => h9) rfl dX12_goesHome_39 ?_
    refine lv_bipush (v := 58) hx hb dX12_goesHome_42 (by decide) ?_
    refine lv_iload_n hx hb dX12_goesHome_44 rfl (lv_at hl 1 rfl) ?_
    refine lv_iadd hx hb dX12_goesHome_45 ?_
    refine lv_topi (nm_r (e' := nI (58 + k)) (nI_add 58 k) ?_)
    refine lv_iconst (v := 0) hx hb dX12_goesHome_46 (by decide) ?_
    refine z_iast (x := 0) (f := upd (g_m 60) og ((σ 0 og) + (σ 5 k))) (j := 58 + k) (wn := (wj [(mw Y ad_m (sA 60 (upd (upd (g_m 60) og ((σ 0 og) + (σ 5 k))) (58 + k) 0) (sA 18 (fun _ => nI lv) g_m)) w_m)])) hx hb hK.1 hW 43 0 rfl rfl (vp_in_nI (n := 58 + k) (by omega) (by decide)) (nI_clamp (n := 58 + k) (by omega)) dX12_goesHome_47 rfl (fun H locs hW => ?_)
    refine lv_aload_n hx hb dX12_goesHome_48 rfl (lv_at hl 0 rfl) ?_
    refine va_get (v := .ref (ad_m 60)) (C := RX12) (T := TX12) (N := 75) (ci := 11) hx hb hts in_X12 hown hK.1 hW.1 0 rfl rfl 60 (by decide) (hts _ q1696) (fun _ h9 => h9) rfl dX12_goesHome_49 ?_
    refine lv_bipush (v := 66) hx hb dX12_goesHome_52 (by decide) ?_
    refine lv_iload_n hx hb dX12_goesHome_54 rfl (lv_at hl 1 rfl) ?_
    refine lv_iadd hx hb dX12_goesHome_55 ?_
    refine lv_topi (nm_r (e' := nI (66 + k)) (nI_add 66 k) ?_)
    refine lv_bipush (v := (-2)) hx hb dX12_goesHome_56 (by decide) ?_
    refine z_iast (x := (-2)) (f := upd (upd (g_m 60) og ((σ 0 og) + (σ 5 k))) (58 + k) 0) (j := 66 + k) (wn := (wj [(mw Y ad_m (sA 60 (upd (upd (upd (g_m 60) og ((σ 0 og) + (σ 5 k))) (58 + k) 0) (66 + k) (-2)) (sA 18 (fun _ => nI lv) g_m)) w_m)])) hx hb hK.1 hW 43 0 rfl rfl (vp_in_nI (n := 66 + k) (by omega) (by decide)) (nI_clamp (n := 66 + k) (by omega)) dX12_goesHome_58 rfl (fun H locs hW => ?_)
    refine lv_aload_n hx hb dX12_goesHome_59 rfl (lv_at hl 0 rfl) ?_
    refine va_get (v := .ref (ad_m 60)) (C := RX12) (T := TX12) (N := 75) (ci := 11) hx hb hts in_X12 hown hK.1 hW.1 0 rfl rfl 60 (by decide) (hts _ q1696) (fun _ h9 => h9) rfl dX12_goesHome_60 ?_
    refine lv_bipush (v := 106) hx hb dX12_goesHome_63 (by decide) ?_
    refine lv_iload_n hx hb dX12_goesHome_65 rfl (lv_at hl 1 rfl) ?_
    refine lv_iadd hx hb dX12_goesHome_66 ?_
    refine lv_topi (nm_r (e' := nI (106 + k)) (nI_add 106 k) ?_)
    refine lv_bipush (v := (-2)) hx hb dX12_goesHome_67 (by decide) ?_
    refine z_iast (x := (-2)) (f := upd (upd (upd (g_m 60) og ((σ 0 og) + (σ 5 k))) (58 + k) 0) (66 + k) (-2)) (j := 106 + k) (wn := (wj [(mw Y ad_m (sA 60 (upd (upd (upd (upd (g_m 60) og ((σ 0 og) + (σ 5 k))) (58 + k) 0) (66 + k) (-2)) (106 + k) (-2)) (sA 18 (fun _ => nI lv) g_m)) w_m)])) hx hb hK.1 hW 43 0 rfl rfl (vp_in_nI (n := 106 + k) (by omega) (by decide)) (nI_clamp (n := 106 + k) (by omega)) dX12_goesHome_69 rfl (fun H locs hW => ?_)
    refine lv_aload_n hx hb dX12_goesHome_70 rfl (lv_at hl 0 rfl) ?_
    refine va_get (v := .ref (ad_m 60)) (C := RX12) (T := TX12) (N := 75) (ci := 11) hx hb hts in_X12 hown hK.1 hW.1 0 rfl rfl 60 (by decide) (hts _ q1696) (fun _ h9 => h9) rfl dX12_goesHome_71 ?_
    refine lv_bipush (v := 50) hx hb dX12_goesHome_74 (by decide) ?_
    refine lv_iload_n hx hb dX12_goesHome_76 rfl (lv_at hl 1 rfl) ?_
    refine lv_iadd hx hb dX12_goesHome_77 ?_
    refine lv_topi (nm_r (e' := nI (50 + k)) (nI_add 50 k) ?_)
    refine lv_iconst (v := 0) hx hb dX12_goesHome_78 (by decide) ?_
    refine z_iast (x := 0) (f := upd (upd (upd (upd (g_m 60) og ((σ 0 og) + (σ 5 k))) (58 + k) 0) (66 + k) (-2)) (106 + k) (-2)) (j := 50 + k) (wn := (wj [(mw Y ad_m (sA 60 (upd (upd (upd (upd (upd (g_m 60) og ((σ 0 og) + (σ 5 k))) (58 + k) 0) (66 + k) (-2)) (106 + k) (-2)) (50 + k) 0) (sA 18 (fun _ => nI lv) g_m)) w_m)])) hx hb hK.1 hW 43 0 rfl rfl (vp_in_nI (n := 50 + k) (by omega) (by decide)) (nI_clamp (n := 50 + k) (by omega)) dX12_goesHome_79 rfl (fun H locs hW => ?_)
    refine lv_aload_n hx hb dX12_goesHome_80 rfl (lv_at hl 0 rfl) ?_
    refine va_get (v := .ref (ad_m 60)) (C := RX12) (T := TX12) (N := 75) (ci := 11) hx hb hts in_X12 hown hK.1 hW.1 0 rfl rfl 60 (by decide) (hts _ q1696) (fun _ h9 => h9) rfl dX12_goesHome_81 ?_
    refine lv_bipush (v := 42) hx hb dX12_goesHome_84 (by decide) ?_
    refine lv_iload_n hx hb dX12_goesHome_86 rfl (lv_at hl 1 rfl) ?_
    refine lv_iadd hx hb dX12_goesHome_87 ?_
    refine lv_topi (nm_r (e' := nI (42 + k)) (nI_add 42 k) ?_)
    refine lv_iconst (v := 3) hx hb dX12_goesHome_88 (by decide) ?_
    refine z_iast (x := 3) (f := upd (upd (upd (upd (upd (g_m 60) og ((σ 0 og) + (σ 5 k))) (58 + k) 0) (66 + k) (-2)) (106 + k) (-2)) (50 + k) 0) (j := 42 + k) (wn := (wj [(mw Y ad_m (sA 60 (upd (upd (upd (upd (upd (upd (g_m 60) og ((σ 0 og) + (σ 5 k))) (58 + k) 0) (66 + k) (-2)) (106 + k) (-2)) (50 + k) 0) (42 + k) 3) (sA 18 (fun _ => nI lv) g_m)) w_m)])) hx hb hK.1 hW 43 0 rfl rfl (vp_in_nI (n := 42 + k) (by omega) (by decide)) (nI_clamp (n := 42 + k) (by omega)) dX12_goesHome_89 rfl (fun H locs hW => ?_)
    refine z_vret (upd (upd (upd (upd (upd (upd (g_m 60) og ((σ 0 og) + (σ 5 k))) (58 + k) 0) (66 + k) (-2)) (106 + k) (-2)) (50 + k) 0) (42 + k) 3 : (Nat → Int32)) hx hb hr hlocks hW rfl dX12_goesHome_90 ?_
    show RS cn (homeP σ k) (upd (upd (upd (upd (upd (upd (g_m 60) og ((σ 0 og) + (σ 5 k))) (58 + k) 0) (66 + k) (-2)) (106 + k) (-2)) (50 + k) 0) (42 + k) 3) (g_m 62) (g_m 61 0)
    have hfin : RS cn (sU 3 k 3 (sU 4 k 0 (sU 7 k (-2) (sU 6 k (-2) (sU 5 k 0 (sU 0 og ((σ 0 og) + (σ 5 k)) σ)))))) (upd (upd (upd (upd (upd (upd (g_m 60) og ((σ 0 og) + (σ 5 k))) (58 + k) 0) (66 + k) (-2)) (106 + k) (-2)) (50 + k) 0) (42 + k) 3) (g_m 62) (g_m 61 0) := (RS.mk' hRS (MR.u3 hk8 (MR.u4 hk8 (MR.u7 hk8 (MR.u6 hk8 (MR.u5 hk8 (MR.uheap hk8 hRS.1 (g := og) (by omega) ((σ 0 og) + (σ 5 k))) (r := k) (by omega) 0) (r := k) (by omega) (-2)) (r := k) (by omega) (-2)) (r := k) (by omega) 0) (r := k) (by omega) 3) (by rw [sU_ne (by omega), sU_ne (by omega), sU_ne (by omega), sU_ne (by omega), sU_ne (by omega), sU_ne (by omega)]) (by rw [sU_ne (by omega), sU_ne (by omega), sU_ne (by omega), sU_ne (by omega), sU_ne (by omega), sU_ne (by omega)]))
    have efin : homeP σ k = sU 3 k 3 (sU 4 k 0 (sU 7 k (-2) (sU 6 k (-2) (sU 5 k 0 (sU 0 og ((σ 0 og) + (σ 5 k)) σ))))) := by
      simp [homeP, c_1, sU, sS, sA_ne, sA_eq, sA_sA, sA_comm, sA_row, sA_rowc, *]
    rw [efin]; exact hfin
set_option maxHeartbeats 4000000 in
set_option maxRecDepth 100000 in
theorem m_X12_drops (l : Launch) (D : va_G) (Y : Nat → ClassId) (ad_m : Nat → Nat) (g_m : Nat → Nat → Int32) (w_m : Nat → Nat → Int64) (lv : Nat) (cn : Nat → Nat) (t : tab) (lw : Nat → Option LAW) (σ : tab) (k : Nat) (sz : Nat) (hlv : lv < 2) (hTW : TW cn t lw) (hTM : TM lv cn t lw g_m) (hRS : RS cn σ (g_m 60) (g_m 62) (g_m 61 0)) (hk : k < cn 2) (ht7 : vp_in (σ 7 k) (cn 1)) (ho : ¬ σ 5 k ≤ 0 → vp_in (σ 6 k) 6) : Met l yX12_drops (ws_ yX12_drops cX12_drops 3 none) ({ frames := 1, cells := 0, slots := 0, locals := 12 }) (zPc D Y [.ref (ad_m 0), .int (nI k)] sz (wj []) (wj [(mw Y ad_m (sA 18 (fun _ => nI lv) g_m) w_m)])) (va_Qv (fun (u : (Nat → Int32)) => RS cn (sU 4 k (σ 1 (σ 7 k).toNatClampNeg) (sU 3 k 2 (sU 7 k (-2) (dropsP σ k)))) u (g_m 62) (g_m 61 0)) (zB D (fun (u : (Nat → Int32)) => (wj [(mw Y ad_m (sA 60 u (sA 18 (fun _ => nI lv) g_m)) w_m)])) (va_A (wj [(mw Y ad_m (sA 18 (fun _ => nI lv) g_m) w_m)]) sz)) (va_A (wj [(mw Y ad_m (sA 18 (fun _ => nI lv) g_m) w_m)]) sz)) 0 0 (va_A (wj [(mw Y ad_m (sA 18 (fun _ => nI lv) g_m) w_m)]) sz) := by
  refine Met.ofW (cc := cX12_drops) (maxL := 3) (ret := none) (by decide) rfl ?_
  intro p e s m args below meth c s₁ B hml hv
  obtain ⟨rfl, hsz, hW, hR, hK, hA⟩ := zEntry hv
  subst hsz
  have hx := B.exec
  have hb := B.bytes
  have hr := B.returns
  have hlocks := B.notSynchronized
  have hts : ∀ w ∈ lw_all, w.before _ s = true := fun w h => atoms_spec (ws := (ws_ yX12_drops cX12_drops 3 none)) B.pre w (List.mem_cons_of_mem _ h)
  have hown : s.vm.findClass RX12 = some m.cls := findClass_of_methodNamed B.named
  generalize hAe : va_A (wj [(mw Y ad_m (sA 18 (fun _ => nI lv) g_m) w_m)]) s.heap.size = A at hW hR hA ⊢
  have hl := lv_entry ([.ref (ad_m 0), .int (nI k)]) (n := 3) (Nat.le_of_ble_eq_true rfl)
  rw [lg_entry_eq]
  generalize (lg_sl ([.ref (ad_m 0), .int (nI k)]) ++ List.replicate (3 - (lg_sl ([.ref (ad_m 0), .int (nI k)])).length) Slot.unset).toArray = ls at hl ⊢
  have hl : lv_has ls 3 [(0, .ref (ad_m 0)), (1, .int (nI k))] := hl
  have hLT := hRS.2.2
  have hk8 := hTW.n2
  have hk6 := hTW.n1
  have hk60 := hTW.n0
  have hk5 := hTW.n3
  obtain ⟨to, hto, eto⟩ := vp_in_of ht7 (by omega)
  have cto := nI_clamp (show to < 2 ^ 31 by omega)
  refine lv_aload_n hx hb dX12_drops_0 rfl (lv_at hl 0 rfl) ?_
  refine va_get (v := .ref (ad_m 60)) (C := RX12) (T := TX12) (N := 75) (ci := 11) hx hb hts in_X12 hown hK.1 hW.1 0 rfl rfl 60 (by decide) (hts _ q1696) (fun _ h9 => h9) rfl dX12_drops_1 ?_
  refine lv_bipush (v := 106) hx hb dX12_drops_4 (by decide) ?_
  refine lv_iload_n hx hb dX12_drops_6 rfl (lv_at hl 1 rfl) ?_
  refine lv_iadd hx hb dX12_drops_7 ?_
  refine lv_topi (nm_r (e' := nI (106 + k)) (nI_add 106 k) ?_)
  refine z_iald (v := nI to) (f := g_m 60) (j := 106 + k) hx hb hK.1 hW.1 43 0 rfl rfl (vp_in_nI (n := 106 + k) (by omega) (by decide)) (nI_clamp (n := 106 + k) (by omega)) (Eq.trans (MR.r7 hRS.1 (r := k) (by omega)) eto) dX12_drops_8 ?_
  refine lv_istore_n (lv' := [(2, .int (nI to)), (0, .ref (ad_m 0)), (1, .int (nI k))]) hx hb dX12_drops_9 rfl hl (by decide) rfl (fun ls hl => ?_)
  refine lv_aload_n hx hb dX12_drops_10 rfl (lv_at hl 1 rfl) ?_
  refine va_get (v := .ref (ad_m 60)) (C := RX12) (T := TX12) (N := 75) (ci := 11) hx hb hts in_X12 hown hK.1 hW.1 0 rfl rfl 60 (by decide) (hts _ q1696) (fun _ h9 => h9) rfl dX12_drops_11 ?_
  refine lv_bipush (v := 58) hx hb dX12_drops_14 (by decide) ?_
  refine lv_iload_n hx hb dX12_drops_16 rfl (lv_at hl 2 rfl) ?_
  refine lv_iadd hx hb dX12_drops_17 ?_
  refine lv_topi (nm_r (e' := nI (58 + k)) (nI_add 58 k) ?_)
  refine z_iald (v := σ 5 k) (f := g_m 60) (j := 58 + k) hx hb hK.1 hW.1 43 0 rfl rfl (vp_in_nI (n := 58 + k) (by omega) (by decide)) (nI_clamp (n := 58 + k) (by omega)) (MR.r5 hRS.1 (r := k) (by omega)) dX12_drops_18 ?_
  refine lv_if_le (tgt := 69) hx hb dX12_drops_19 (by decide) (fun c_1 => ?_) (fun c_1 => ?_)
  · refine lv_aload_n hx hb dX12_drops_69 rfl (lv_at hl 1 rfl) ?_
    refine va_get (v := .ref (ad_m 60)) (C := RX12) (T := TX12) (N := 75) (ci := 11) hx hb hts in_X12 hown hK.1 hW.1 0 rfl rfl 60 (by decide) (hts _ q1696) (fun _ h9 => h9) rfl dX12_drops_70 ?_
    refine lv_bipush (v := 58) hx hb dX12_drops_73 (by decide) ?_
    refine lv_iload_n hx hb dX12_drops_75 rfl (lv_at hl 2 rfl) ?_
    refine lv_iadd hx hb dX12_drops_76 ?_
    refine lv_topi (nm_r (e' := nI (58 + k)) (nI_add 58 k) ?_)
    refine lv_iconst (v := 0) hx hb dX12_drops_77 (by decide) ?_
    refine z_iast (x := 0) (f := g_m 60) (j := 58 + k) (wn := (wj [(mw Y ad_m (sA 60 (upd (g_m 60) (58 + k) 0) (sA 18 (fun _ => nI lv) g_m)) w_m)])) hx hb hK.1 hW 43 0 rfl rfl (vp_in_nI (n := 58 + k) (by omega) (by decide)) (nI_clamp (n := 58 + k) (by omega)) dX12_drops_78 rfl (fun H locs hW => ?_)
    refine lv_aload_n hx hb dX12_drops_79 rfl (lv_at hl 1 rfl) ?_
    refine va_get (v := .ref (ad_m 60)) (C := RX12) (T := TX12) (N := 75) (ci := 11) hx hb hts in_X12 hown hK.1 hW.1 0 rfl rfl 60 (by decide) (hts _ q1696) (fun _ h9 => h9) rfl dX12_drops_80 ?_
    refine lv_bipush (v := 66) hx hb dX12_drops_83 (by decide) ?_
    refine lv_iload_n hx hb dX12_drops_85 rfl (lv_at hl 2 rfl) ?_
    refine lv_iadd hx hb dX12_drops_86 ?_
    refine lv_topi (nm_r (e' := nI (66 + k)) (nI_add 66 k) ?_)
    refine lv_bipush (v := (-2)) hx hb dX12_drops_87 (by decide) ?_
    refine z_iast (x := (-2)) (f := upd (g_m 60) (58 + k) 0) (j := 66 + k) (wn := (wj [(mw Y ad_m (sA 60 (upd (upd (g_m 60) (58 + k) 0) (66 + k) (-2)) (sA 18 (fun _ => nI lv) g_m)) w_m)])) hx hb hK.1 hW 43 0 rfl rfl (vp_in_nI (n := 66 + k) (by omega) (by decide)) (nI_clamp (n := 66 + k) (by omega)) dX12_drops_89 rfl (fun H locs hW => ?_)
    refine lv_aload_n hx hb dX12_drops_90 rfl (lv_at hl 1 rfl) ?_
    refine va_get (v := .ref (ad_m 60)) (C := RX12) (T := TX12) (N := 75) (ci := 11) hx hb hts in_X12 hown hK.1 hW.1 0 rfl rfl 60 (by decide) (hts _ q1696) (fun _ h9 => h9) rfl dX12_drops_91 ?_
    refine lv_bipush (v := 106) hx hb dX12_drops_94 (by decide) ?_
    refine lv_iload_n hx hb dX12_drops_96 rfl (lv_at hl 2 rfl) ?_
    refine lv_iadd hx hb dX12_drops_97 ?_
    refine lv_topi (nm_r (e' := nI (106 + k)) (nI_add 106 k) ?_)
    refine lv_bipush (v := (-2)) hx hb dX12_drops_98 (by decide) ?_
    refine z_iast (x := (-2)) (f := upd (upd (g_m 60) (58 + k) 0) (66 + k) (-2)) (j := 106 + k) (wn := (wj [(mw Y ad_m (sA 60 (upd (upd (upd (g_m 60) (58 + k) 0) (66 + k) (-2)) (106 + k) (-2)) (sA 18 (fun _ => nI lv) g_m)) w_m)])) hx hb hK.1 hW 43 0 rfl rfl (vp_in_nI (n := 106 + k) (by omega) (by decide)) (nI_clamp (n := 106 + k) (by omega)) dX12_drops_100 rfl (fun H locs hW => ?_)
    refine lv_aload_n hx hb dX12_drops_101 rfl (lv_at hl 1 rfl) ?_
    refine va_get (v := .ref (ad_m 60)) (C := RX12) (T := TX12) (N := 75) (ci := 11) hx hb hts in_X12 hown hK.1 hW.1 0 rfl rfl 60 (by decide) (hts _ q1696) (fun _ h9 => h9) rfl dX12_drops_102 ?_
    refine lv_bipush (v := 42) hx hb dX12_drops_105 (by decide) ?_
    refine lv_iload_n hx hb dX12_drops_107 rfl (lv_at hl 2 rfl) ?_
    refine lv_iadd hx hb dX12_drops_108 ?_
    refine lv_topi (nm_r (e' := nI (42 + k)) (nI_add 42 k) ?_)
    refine lv_iconst (v := 2) hx hb dX12_drops_109 (by decide) ?_
    refine z_iast (x := 2) (f := upd (upd (upd (g_m 60) (58 + k) 0) (66 + k) (-2)) (106 + k) (-2)) (j := 42 + k) (wn := (wj [(mw Y ad_m (sA 60 (upd (upd (upd (upd (g_m 60) (58 + k) 0) (66 + k) (-2)) (106 + k) (-2)) (42 + k) 2) (sA 18 (fun _ => nI lv) g_m)) w_m)])) hx hb hK.1 hW 43 0 rfl rfl (vp_in_nI (n := 42 + k) (by omega) (by decide)) (nI_clamp (n := 42 + k) (by omega)) dX12_drops_110 rfl (fun H locs hW => ?_)
    refine lv_aload_n hx hb dX12_drops_111 rfl (lv_at hl 1 rfl) ?_
    refine va_get (v := .ref (ad_m 60)) (C := RX12) (T := TX12) (N := 75) (ci := 11) hx hb hts in_X12 hown hK.1 hW.1 0 rfl rfl 60 (by decide) (hts _ q1696) (fun _ h9 => h9) rfl dX12_drops_112 ?_
    refine lv_bipush (v := 50) hx hb dX12_drops_115 (by decide) ?_
    refine lv_iload_n hx hb dX12_drops_117 rfl (lv_at hl 2 rfl) ?_
    refine lv_iadd hx hb dX12_drops_118 ?_
    refine lv_topi (nm_r (e' := nI (50 + k)) (nI_add 50 k) ?_)
    refine lv_aload_n hx hb dX12_drops_119 rfl (lv_at hl 1 rfl) ?_
    refine va_get (v := .ref (ad_m 62)) (C := RX12) (T := TX12) (N := 75) (ci := 11) hx hb hts in_X12 hown hK.1 hW.1 0 rfl rfl 62 (by decide) (hts _ q1698) (fun _ h9 => h9) rfl dX12_drops_120 ?_
    refine lv_iload_n hx hb dX12_drops_123 rfl (lv_at hl 0 rfl) ?_
    refine z_iald (v := σ 1 to) (f := g_m 62) (j := to) hx hb hK.1 hW.1 44 0 rfl rfl (vp_in_nI (n := to) (by omega) (by decide)) (nI_clamp (n := to) (by omega)) (hRS.2.1 to (by omega)) dX12_drops_124 ?_
    refine z_iast (x := σ 1 to) (f := upd (upd (upd (upd (g_m 60) (58 + k) 0) (66 + k) (-2)) (106 + k) (-2)) (42 + k) 2) (j := 50 + k) (wn := (wj [(mw Y ad_m (sA 60 (upd (upd (upd (upd (upd (g_m 60) (58 + k) 0) (66 + k) (-2)) (106 + k) (-2)) (42 + k) 2) (50 + k) (σ 1 to)) (sA 18 (fun _ => nI lv) g_m)) w_m)])) hx hb hK.1 hW 43 0 rfl rfl (vp_in_nI (n := 50 + k) (by omega) (by decide)) (nI_clamp (n := 50 + k) (by omega)) dX12_drops_125 rfl (fun H locs hW => ?_)
    refine z_vret (upd (upd (upd (upd (upd (g_m 60) (58 + k) 0) (66 + k) (-2)) (106 + k) (-2)) (42 + k) 2) (50 + k) (σ 1 to) : (Nat → Int32)) hx hb hr hlocks hW rfl dX12_drops_126 ?_
    show RS cn (sU 4 k (σ 1 (σ 7 k).toNatClampNeg) (sU 3 k 2 (sU 7 k (-2) (dropsP σ k)))) (upd (upd (upd (upd (upd (g_m 60) (58 + k) 0) (66 + k) (-2)) (106 + k) (-2)) (42 + k) 2) (50 + k) (σ 1 to)) (g_m 62) (g_m 61 0)
    have hfin : RS cn (sU 4 k (σ 1 to) (sU 3 k 2 (sU 7 k (-2) (sU 6 k (-2) (sU 5 k 0 σ))))) (upd (upd (upd (upd (upd (g_m 60) (58 + k) 0) (66 + k) (-2)) (106 + k) (-2)) (42 + k) 2) (50 + k) (σ 1 to)) (g_m 62) (g_m 61 0) := (RS.mk' hRS (MR.u4 hk8 (MR.u3 hk8 (MR.u7 hk8 (MR.u6 hk8 (MR.u5 hk8 hRS.1 (r := k) (by omega) 0) (r := k) (by omega) (-2)) (r := k) (by omega) (-2)) (r := k) (by omega) 2) (r := k) (by omega) (σ 1 to)) (by rw [sU_ne (by omega), sU_ne (by omega), sU_ne (by omega), sU_ne (by omega), sU_ne (by omega)]) (by rw [sU_ne (by omega), sU_ne (by omega), sU_ne (by omega), sU_ne (by omega), sU_ne (by omega)]))
    have efin : sU 4 k (σ 1 (σ 7 k).toNatClampNeg) (sU 3 k 2 (sU 7 k (-2) (dropsP σ k))) = sU 4 k (σ 1 to) (sU 3 k 2 (sU 7 k (-2) (sU 6 k (-2) (sU 5 k 0 σ)))) := by
      simp [dropsP, c_1, sU, sS, sA_ne, sA_eq, sA_sA, sA_comm, sA_row, sA_rowc, *]
    rw [efin]; exact hfin
  · obtain ⟨og, hog, eog⟩ := vp_in_of (ho c_1) (by omega)
    have cog := nI_clamp (show og < 2 ^ 31 by omega)
    refine lv_aload_n hx hb dX12_drops_22 rfl (lv_at hl 1 rfl) ?_
    refine va_get (v := .ref (ad_m 60)) (C := RX12) (T := TX12) (N := 75) (ci := 11) hx hb hts in_X12 hown hK.1 hW.1 0 rfl rfl 60 (by decide) (hts _ q1696) (fun _ h9 => h9) rfl dX12_drops_23 ?_
    refine lv_bipush (v := 6) hx hb dX12_drops_26 (by decide) ?_
    refine lv_bipush (v := 6) hx hb dX12_drops_28 (by decide) ?_
    refine lv_iload_n hx hb dX12_drops_30 rfl (lv_at hl 0 rfl) ?_
    refine lv_imul hx hb dX12_drops_31 ?_
    refine lv_topi (nm_r (e' := nI (6 * to)) (pk_mul 6 to) ?_)
    refine lv_iadd hx hb dX12_drops_32 ?_
    refine lv_topi (nm_r (e' := nI (6 + 6 * to)) (nI_add 6 (6 * to)) ?_)
    refine lv_aload_n hx hb dX12_drops_33 rfl (lv_at hl 1 rfl) ?_
    refine va_get (v := .ref (ad_m 60)) (C := RX12) (T := TX12) (N := 75) (ci := 11) hx hb hts in_X12 hown hK.1 hW.1 0 rfl rfl 60 (by decide) (hts _ q1696) (fun _ h9 => h9) rfl dX12_drops_34 ?_
    refine lv_bipush (v := 66) hx hb dX12_drops_37 (by decide) ?_
    refine lv_iload_n hx hb dX12_drops_39 rfl (lv_at hl 2 rfl) ?_
    refine lv_iadd hx hb dX12_drops_40 ?_
    refine lv_topi (nm_r (e' := nI (66 + k)) (nI_add 66 k) ?_)
    refine z_iald (v := nI og) (f := g_m 60) (j := 66 + k) hx hb hK.1 hW.1 43 0 rfl rfl (vp_in_nI (n := 66 + k) (by omega) (by decide)) (nI_clamp (n := 66 + k) (by omega)) (Eq.trans (MR.r6 hRS.1 (r := k) (by omega)) eog) dX12_drops_41 ?_
    refine lv_iadd hx hb dX12_drops_42 ?_
    refine lv_topi (nm_r (e' := nI (6 + 6 * to + og)) (nI_add (6 + 6 * to) og) ?_)
    refine lv_dup2_11 hx hb dX12_drops_43 rfl rfl ?_
    refine z_iald (v := σ (30 + to) og) (f := g_m 60) (j := 6 + 6 * to + og) hx hb hK.1 hW.1 43 0 rfl rfl (vp_in_nI (n := 6 + 6 * to + og) (by omega) (by decide)) (nI_clamp (n := 6 + 6 * to + og) (by omega)) (MR.hole hRS.1 (a := to) (g := og) (by omega) (by omega)) dX12_drops_44 ?_
    refine lv_aload_n hx hb dX12_drops_45 rfl (lv_at hl 1 rfl) ?_
    refine va_get (v := .ref (ad_m 60)) (C := RX12) (T := TX12) (N := 75) (ci := 11) hx hb hts in_X12 hown hK.1 hW.1 0 rfl rfl 60 (by decide) (hts _ q1696) (fun _ h9 => h9) rfl dX12_drops_46 ?_
    refine lv_bipush (v := 58) hx hb dX12_drops_49 (by decide) ?_
    refine lv_iload_n hx hb dX12_drops_51 rfl (lv_at hl 2 rfl) ?_
    refine lv_iadd hx hb dX12_drops_52 ?_
    refine lv_topi (nm_r (e' := nI (58 + k)) (nI_add 58 k) ?_)
    refine z_iald (v := σ 5 k) (f := g_m 60) (j := 58 + k) hx hb hK.1 hW.1 43 0 rfl rfl (vp_in_nI (n := 58 + k) (by omega) (by decide)) (nI_clamp (n := 58 + k) (by omega)) (MR.r5 hRS.1 (r := k) (by omega)) dX12_drops_53 ?_
    refine lv_iadd hx hb dX12_drops_54 ?_
    refine z_iast (x := (σ (30 + to) og) + (σ 5 k)) (f := g_m 60) (j := 6 + 6 * to + og) (wn := (wj [(mw Y ad_m (sA 60 (upd (g_m 60) (6 + 6 * to + og) ((σ (30 + to) og) + (σ 5 k))) (sA 18 (fun _ => nI lv) g_m)) w_m)])) hx hb hK.1 hW 43 0 rfl rfl (vp_in_nI (n := 6 + 6 * to + og) (by omega) (by decide)) (nI_clamp (n := 6 + 6 * to + og) (by omega)) dX12_drops_55 rfl (fun H locs hW => ?_)
    refine lv_aload_n hx hb dX12_drops_56 rfl (lv_at hl 1 rfl) ?_
    refine va_get (v := .ref (ad_m 60)) (C := RX12) (T := TX12) (N := 75) (ci := 11) hx hb hts in_X12 hown hK.1 hW.1 0 rfl rfl 60 (by decide) (hts _ q1696) (fun _ h9 => h9) rfl dX12_drops_57 ?_
    refine lv_bipush (v := 98) hx hb dX12_drops_60 (by decide) ?_
    refine lv_iload_n hx hb dX12_drops_62 rfl (lv_at hl 2 rfl) ?_
    refine lv_iadd hx hb dX12_drops_63 ?_
    refine lv_topi (nm_r (e' := nI (98 + k)) (nI_add 98 k) ?_)
    refine lv_dup2_11 hx hb dX12_drops_64 rfl rfl ?_
    refine z_iald (v := σ 11 k) (f := upd (g_m 60) (6 + 6 * to + og) ((σ (30 + to) og) + (σ 5 k))) (j := 98 + k) hx hb hK.1 hW.1 43 0 rfl rfl (vp_in_nI (n := 98 + k) (by omega) (by decide)) (nI_clamp (n := 98 + k) (by omega)) (Eq.trans (pk_un (by omega)) (MR.r11 hRS.1 (r := k) (by omega))) dX12_drops_65 ?_
    refine lv_iconst (v := 1) hx hb dX12_drops_66 (by decide) ?_
    refine lv_iadd hx hb dX12_drops_67 ?_
    refine z_iast (x := (σ 11 k) + 1) (f := upd (g_m 60) (6 + 6 * to + og) ((σ (30 + to) og) + (σ 5 k))) (j := 98 + k) (wn := (wj [(mw Y ad_m (sA 60 (upd (upd (g_m 60) (6 + 6 * to + og) ((σ (30 + to) og) + (σ 5 k))) (98 + k) ((σ 11 k) + 1)) (sA 18 (fun _ => nI lv) g_m)) w_m)])) hx hb hK.1 hW 43 0 rfl rfl (vp_in_nI (n := 98 + k) (by omega) (by decide)) (nI_clamp (n := 98 + k) (by omega)) dX12_drops_68 rfl (fun H locs hW => ?_)
    refine lv_aload_n hx hb dX12_drops_69 rfl (lv_at hl 1 rfl) ?_
    refine va_get (v := .ref (ad_m 60)) (C := RX12) (T := TX12) (N := 75) (ci := 11) hx hb hts in_X12 hown hK.1 hW.1 0 rfl rfl 60 (by decide) (hts _ q1696) (fun _ h9 => h9) rfl dX12_drops_70 ?_
    refine lv_bipush (v := 58) hx hb dX12_drops_73 (by decide) ?_
    refine lv_iload_n hx hb dX12_drops_75 rfl (lv_at hl 2 rfl) ?_
    refine lv_iadd hx hb dX12_drops_76 ?_
    refine lv_topi (nm_r (e' := nI (58 + k)) (nI_add 58 k) ?_)
    refine lv_iconst (v := 0) hx hb dX12_drops_77 (by decide) ?_
    refine z_iast (x := 0) (f := upd (upd (g_m 60) (6 + 6 * to + og) ((σ (30 + to) og) + (σ 5 k))) (98 + k) ((σ 11 k) + 1)) (j := 58 + k) (wn := (wj [(mw Y ad_m (sA 60 (upd (upd (upd (g_m 60) (6 + 6 * to + og) ((σ (30 + to) og) + (σ 5 k))) (98 + k) ((σ 11 k) + 1)) (58 + k) 0) (sA 18 (fun _ => nI lv) g_m)) w_m)])) hx hb hK.1 hW 43 0 rfl rfl (vp_in_nI (n := 58 + k) (by omega) (by decide)) (nI_clamp (n := 58 + k) (by omega)) dX12_drops_78 rfl (fun H locs hW => ?_)
    refine lv_aload_n hx hb dX12_drops_79 rfl (lv_at hl 1 rfl) ?_
    refine va_get (v := .ref (ad_m 60)) (C := RX12) (T := TX12) (N := 75) (ci := 11) hx hb hts in_X12 hown hK.1 hW.1 0 rfl rfl 60 (by decide) (hts _ q1696) (fun _ h9 => h9) rfl dX12_drops_80 ?_
    refine lv_bipush (v := 66) hx hb dX12_drops_83 (by decide) ?_
    refine lv_iload_n hx hb dX12_drops_85 rfl (lv_at hl 2 rfl) ?_
    refine lv_iadd hx hb dX12_drops_86 ?_
    refine lv_topi (nm_r (e' := nI (66 + k)) (nI_add 66 k) ?_)
    refine lv_bipush (v := (-2)) hx hb dX12_drops_87 (by decide) ?_
    refine z_iast (x := (-2)) (f := upd (upd (upd (g_m 60) (6 + 6 * to + og) ((σ (30 + to) og) + (σ 5 k))) (98 + k) ((σ 11 k) + 1)) (58 + k) 0) (j := 66 + k) (wn := (wj [(mw Y ad_m (sA 60 (upd (upd (upd (upd (g_m 60) (6 + 6 * to + og) ((σ (30 + to) og) + (σ 5 k))) (98 + k) ((σ 11 k) + 1)) (58 + k) 0) (66 + k) (-2)) (sA 18 (fun _ => nI lv) g_m)) w_m)])) hx hb hK.1 hW 43 0 rfl rfl (vp_in_nI (n := 66 + k) (by omega) (by decide)) (nI_clamp (n := 66 + k) (by omega)) dX12_drops_89 rfl (fun H locs hW => ?_)
    refine lv_aload_n hx hb dX12_drops_90 rfl (lv_at hl 1 rfl) ?_
    refine va_get (v := .ref (ad_m 60)) (C := RX12) (T := TX12) (N := 75) (ci := 11) hx hb hts in_X12 hown hK.1 hW.1 0 rfl rfl 60 (by decide) (hts _ q1696) (fun _ h9 => h9) rfl dX12_drops_91 ?_
    refine lv_bipush (v := 106) hx hb dX12_drops_94 (by decide) ?_
    refine lv_iload_n hx hb dX12_drops_96 rfl (lv_at hl 2 rfl) ?_
    refine lv_iadd hx hb dX12_drops_97 ?_
    refine lv_topi (nm_r (e' := nI (106 + k)) (nI_add 106 k) ?_)
    refine lv_bipush (v := (-2)) hx hb dX12_drops_98 (by decide) ?_
    refine z_iast (x := (-2)) (f := upd (upd (upd (upd (g_m 60) (6 + 6 * to + og) ((σ (30 + to) og) + (σ 5 k))) (98 + k) ((σ 11 k) + 1)) (58 + k) 0) (66 + k) (-2)) (j := 106 + k) (wn := (wj [(mw Y ad_m (sA 60 (upd (upd (upd (upd (upd (g_m 60) (6 + 6 * to + og) ((σ (30 + to) og) + (σ 5 k))) (98 + k) ((σ 11 k) + 1)) (58 + k) 0) (66 + k) (-2)) (106 + k) (-2)) (sA 18 (fun _ => nI lv) g_m)) w_m)])) hx hb hK.1 hW 43 0 rfl rfl (vp_in_nI (n := 106 + k) (by omega) (by decide)) (nI_clamp (n := 106 + k) (by omega)) dX12_drops_100 rfl (fun H locs hW => ?_)
    refine lv_aload_n hx hb dX12_drops_101 rfl (lv_at hl 1 rfl) ?_
    refine va_get (v := .ref (ad_m 60)) (C := RX12) (T := TX12) (N := 75) (ci := 11) hx hb hts in_X12 hown hK.1 hW.1 0 rfl rfl 60 (by decide) (hts _ q1696) (fun _ h9 => h9) rfl dX12_drops_102 ?_
    refine lv_bipush (v := 42) hx hb dX12_drops_105 (by decide) ?_
    refine lv_iload_n hx hb dX12_drops_107 rfl (lv_at hl 2 rfl) ?_
    refine lv_iadd hx hb dX12_drops_108 ?_
    refine lv_topi (nm_r (e' := nI (42 + k)) (nI_add 42 k) ?_)
    refine lv_iconst (v := 2) hx hb dX12_drops_109 (by decide) ?_
    refine z_iast (x := 2) (f := upd (upd (upd (upd (upd (g_m 60) (6 + 6 * to + og) ((σ (30 + to) og) + (σ 5 k))) (98 + k) ((σ 11 k) + 1)) (58 + k) 0) (66 + k) (-2)) (106 + k) (-2)) (j := 42 + k) (wn := (wj [(mw Y ad_m (sA 60 (upd (upd (upd (upd (upd (upd (g_m 60) (6 + 6 * to + og) ((σ (30 + to) og) + (σ 5 k))) (98 + k) ((σ 11 k) + 1)) (58 + k) 0) (66 + k) (-2)) (106 + k) (-2)) (42 + k) 2) (sA 18 (fun _ => nI lv) g_m)) w_m)])) hx hb hK.1 hW 43 0 rfl rfl (vp_in_nI (n := 42 + k) (by omega) (by decide)) (nI_clamp (n := 42 + k) (by omega)) dX12_drops_110 rfl (fun H locs hW => ?_)
    refine lv_aload_n hx hb dX12_drops_111 rfl (lv_at hl 1 rfl) ?_
    refine va_get (v := .ref (ad_m 60)) (C := RX12) (T := TX12) (N := 75) (ci := 11) hx hb hts in_X12 hown hK.1 hW.1 0 rfl rfl 60 (by decide) (hts _ q1696) (fun _ h9 => h9) rfl dX12_drops_112 ?_
    refine lv_bipush (v := 50) hx hb dX12_drops_115 (by decide) ?_
    refine lv_iload_n hx hb dX12_drops_117 rfl (lv_at hl 2 rfl) ?_
    refine lv_iadd hx hb dX12_drops_118 ?_
    refine lv_topi (nm_r (e' := nI (50 + k)) (nI_add 50 k) ?_)
    refine lv_aload_n hx hb dX12_drops_119 rfl (lv_at hl 1 rfl) ?_
    refine va_get (v := .ref (ad_m 62)) (C := RX12) (T := TX12) (N := 75) (ci := 11) hx hb hts in_X12 hown hK.1 hW.1 0 rfl rfl 62 (by decide) (hts _ q1698) (fun _ h9 => h9) rfl dX12_drops_120 ?_
    refine lv_iload_n hx hb dX12_drops_123 rfl (lv_at hl 0 rfl) ?_
    refine z_iald (v := σ 1 to) (f := g_m 62) (j := to) hx hb hK.1 hW.1 44 0 rfl rfl (vp_in_nI (n := to) (by omega) (by decide)) (nI_clamp (n := to) (by omega)) (hRS.2.1 to (by omega)) dX12_drops_124 ?_
    refine z_iast (x := σ 1 to) (f := upd (upd (upd (upd (upd (upd (g_m 60) (6 + 6 * to + og) ((σ (30 + to) og) + (σ 5 k))) (98 + k) ((σ 11 k) + 1)) (58 + k) 0) (66 + k) (-2)) (106 + k) (-2)) (42 + k) 2) (j := 50 + k) (wn := (wj [(mw Y ad_m (sA 60 (upd (upd (upd (upd (upd (upd (upd (g_m 60) (6 + 6 * to + og) ((σ (30 + to) og) + (σ 5 k))) (98 + k) ((σ 11 k) + 1)) (58 + k) 0) (66 + k) (-2)) (106 + k) (-2)) (42 + k) 2) (50 + k) (σ 1 to)) (sA 18 (fun _ => nI lv) g_m)) w_m)])) hx hb hK.1 hW 43 0 rfl rfl (vp_in_nI (n := 50 + k) (by omega) (by decide)) (nI_clamp (n := 50 + k) (by omega)) dX12_drops_125 rfl (fun H locs hW => ?_)
    refine z_vret (upd (upd (upd (upd (upd (upd (upd (g_m 60) (6 + 6 * to + og) ((σ (30 + to) og) + (σ 5 k))) (98 + k) ((σ 11 k) + 1)) (58 + k) 0) (66 + k) (-2)) (106 + k) (-2)) (42 + k) 2) (50 + k) (σ 1 to) : (Nat → Int32)) hx hb hr hlocks hW rfl dX12_drops_126 ?_
    show RS cn (sU 4 k (σ 1 (σ 7 k).toNatClampNeg) (sU 3 k 2 (sU 7 k (-2) (dropsP σ k)))) (upd (upd (upd (upd (upd (upd (upd (g_m 60) (6 + 6 * to + og) ((σ (30 + to) og) + (σ 5 k))) (98 + k) ((σ 11 k) + 1)) (58 + k) 0) (66 + k) (-2)) (106 + k) (-2)) (42 + k) 2) (50 + k) (σ 1 to)) (g_m 62) (g_m 61 0)
    have hfin : RS cn (sU 4 k (σ 1 to) (sU 3 k 2 (sU 7 k (-2) (sU 6 k (-2) (sU 5 k 0 (sU 11 k ((σ 11 k) + 1) (sU (30 + to) og ((σ (30 + to) og) + (σ 5 k)) σ))))))) (upd (upd (upd (upd (upd (upd (upd (g_m 60) (6 + 6 * to + og) ((σ (30 + to) og) + (σ 5 k))) (98 + k) ((σ 11 k) + 1)) (58 + k) 0) (66 + k) (-2)) (106 + k) (-2)) (42 + k) 2) (50 + k) (σ 1 to)) (g_m 62) (g_m 61 0) := (RS.mk' hRS (MR.u4 hk8 (MR.u3 hk8 (MR.u7 hk8 (MR.u6 hk8 (MR.u5 hk8 (MR.u11 hk8 (MR.uhole hk8 hRS.1 (a := to) (g := og) (by omega) (by omega) ((σ (30 + to) og) + (σ 5 k))) (r := k) (by omega) ((σ 11 k) + 1)) (r := k) (by omega) 0) (r := k) (by omega) (-2)) (r := k) (by omega) (-2)) (r := k) (by omega) 2) (r := k) (by omega) (σ 1 to)) (by rw [sU_ne (by omega), sU_ne (by omega), sU_ne (by omega), sU_ne (by omega), sU_ne (by omega), sU_ne (by omega), sU_ne (by omega)]) (by rw [sU_ne (by omega), sU_ne (by omega), sU_ne (by omega), sU_ne (by omega), sU_ne (by omega), sU_ne (by omega), sU_ne (by omega)]))
    have efin : sU 4 k (σ 1 (σ 7 k).toNatClampNeg) (sU 3 k 2 (sU 7 k (-2) (dropsP σ k))) = sU 4 k (σ 1 to) (sU 3 k 2 (sU 7 k (-2) (sU 6 k (-2) (sU 5 k 0 (sU 11 k ((σ 11 k) + 1) (sU (30 + to) og ((σ (30 + to) og) + (σ 5 k)) σ)))))) := by
      simp [dropsP, c_1, sU, sS, sA_ne, sA_eq, sA_sA, sA_comm, sA_row, sA_rowc, *]
    rw [efin]; exact hfin
set_option maxHeartbeats 4000000 in
set_option maxRecDepth 100000 in
theorem m_X12_nibbles (l : Launch) (D : va_G) (Y : Nat → ClassId) (ad_m : Nat → Nat) (g_m : Nat → Nat → Int32) (w_m : Nat → Nat → Int64) (lv : Nat) (cn : Nat → Nat) (t : tab) (lw : Nat → Option LAW) (σ : tab) (k : Nat) (sz : Nat) (hlv : lv < 2) (hTW : TW cn t lw) (hTM : TM lv cn t lw g_m) (hRS : RS cn σ (g_m 60) (g_m 62) (g_m 61 0)) (hk : k < cn 2) (hg0 : 0 < cn 0) (hnn : ∀ g, g < 6 → 0 ≤ σ 0 g) : Met l yX12_nibbles (ws_ yX12_nibbles cX12_nibbles 4 none) ({ frames := 1, cells := 0, slots := 0, locals := 12 }) (zPc D Y [.ref (ad_m 0), .int (nI k)] sz (wj []) (wj [(mw Y ad_m (sA 18 (fun _ => nI lv) g_m) w_m)])) (va_Qv (fun (u : (Nat → Int32)) => RS cn (oddP cn σ k) u (g_m 62) (g_m 61 0)) (zB D (fun (u : (Nat → Int32)) => (wj [(mw Y ad_m (sA 60 u (sA 18 (fun _ => nI lv) g_m)) w_m)])) (va_A (wj [(mw Y ad_m (sA 18 (fun _ => nI lv) g_m) w_m)]) sz)) (va_A (wj [(mw Y ad_m (sA 18 (fun _ => nI lv) g_m) w_m)]) sz)) 0 0 (va_A (wj [(mw Y ad_m (sA 18 (fun _ => nI lv) g_m) w_m)]) sz) := by
  refine Met.ofW (cc := cX12_nibbles) (maxL := 4) (ret := none) (by decide) rfl ?_
  intro p e s m args below meth c s₁ B hml hv
  obtain ⟨rfl, hsz, hW, hR, hK, hA⟩ := zEntry hv
  subst hsz
  have hx := B.exec
  have hb := B.bytes
  have hr := B.returns
  have hlocks := B.notSynchronized
  have hts : ∀ w ∈ lw_all, w.before _ s = true := fun w h => atoms_spec (ws := (ws_ yX12_nibbles cX12_nibbles 4 none)) B.pre w (List.mem_cons_of_mem _ h)
  have hown : s.vm.findClass RX12 = some m.cls := findClass_of_methodNamed B.named
  generalize hAe : va_A (wj [(mw Y ad_m (sA 18 (fun _ => nI lv) g_m) w_m)]) s.heap.size = A at hW hR hA ⊢
  have hl := lv_entry ([.ref (ad_m 0), .int (nI k)]) (n := 4) (Nat.le_of_ble_eq_true rfl)
  rw [lg_entry_eq]
  generalize (lg_sl ([.ref (ad_m 0), .int (nI k)]) ++ List.replicate (4 - (lg_sl ([.ref (ad_m 0), .int (nI k)])).length) Slot.unset).toArray = ls at hl ⊢
  have hl : lv_has ls 4 [(0, .ref (ad_m 0)), (1, .int (nI k))] := hl
  have hLT := hRS.2.2
  have hk8 := hTW.n2
  have hk6 := hTW.n1
  have hk60 := hTW.n0
  have hk5 := hTW.n3
  refine lv_iconst (v := 0) hx hb dX12_nibbles_0 (by decide) ?_
  refine lv_istore_n (lv' := [(2, .int 0), (0, .ref (ad_m 0)), (1, .int (nI k))]) hx hb dX12_nibbles_1 rfl hl (by decide) rfl (fun ls hl => ?_)
  refine lv_iconst (v := 1) hx hb dX12_nibbles_2 (by decide) ?_
  refine lv_istore_n (lv' := [(3, .int 1), (2, .int 0), (0, .ref (ad_m 0)), (1, .int (nI k))]) hx hb dX12_nibbles_3 rfl hl (by decide) rfl (fun ls hl => ?_)
  have loop_4 : ∀ (n : Nat) (g : Nat) (b : Nat), cn 0 - g < n → (1 ≤ g ∧ g ≤ cn 0 ∧ b < g) → (nibI σ g b) → ∀ (H : Heap) (locs : List Loc), zW D A s.heap H locs (wj [(mw Y ad_m (sA 18 (fun _ => nI lv) g_m) w_m)]) → ∀ (ls : Array Slot), lv_has ls 4 [(3, .int (nI g)), (2, .int (nI b)), (0, .ref (ad_m 0)), (1, .int (nI k))] → W p l e (headSpec (ws_ yX12_nibbles cX12_nibbles 4 none) ({ frames := 1, cells := 0, slots := 0, locals := 12 })).room s m ([.ref (ad_m 0), .int (nI k)] : List Value).toArray below meth c H locs 0 0 (MQ below (va_Qv (fun (u : (Nat → Int32)) => RS cn (oddP cn σ k) u (g_m 62) (g_m 61 0)) (zB D (fun (u : (Nat → Int32)) => (wj [(mw Y ad_m (sA 60 u (sA 18 (fun _ => nI lv) g_m)) w_m)])) A) A) ([.ref (ad_m 0), .int (nI k)] : List Value).toArray s 0 0 A) (F0 m 4 ls []) := by
    intro n
    induction n with
    | zero =>
      intro g b hmz
      exact absurd hmz (Nat.not_lt_zero _)
    | succ n ih =>
      intro g b hm_4 hi hb2 H locs hW ls hl
      have ih_4 := ih
      clear ih
      refine lv_iload_n hx hb dX12_nibbles_4 rfl (lv_at hl 0 rfl) ?_
      refine lv_aload_n hx hb dX12_nibbles_5 rfl (lv_at hl 2 rfl) ?_
      refine va_get (v := .ref (ad_m 24)) (C := RX12) (T := TX12) (N := 75) (ci := 11) hx hb hts in_X12 hown hK.1 hW.1 0 rfl rfl 24 (by decide) (hts _ q1660) (fun _ h9 => h9) rfl dX12_nibbles_6 ?_
      refine lv_aload_n hx hb dX12_nibbles_9 rfl (lv_at hl 2 rfl) ?_
      refine va_get (v := .int (nI lv)) (C := RX12) (T := TX12) (N := 75) (ci := 11) hx hb hts in_X12 hown hK.1 hW.1 0 rfl rfl 18 (by decide) (hts _ q1654) (fun _ h9 => h9) rfl dX12_nibbles_10 ?_
      refine z_iald (v := nI (cn 0)) (f := g_m 24) (j := lv) hx hb hK.1 hW.1 11 0 rfl rfl (vp_in_nI (n := lv) (by omega) (by decide)) (nI_clamp (n := lv) (by omega)) (TM.c24 hTM) dX12_nibbles_13 ?_
      refine lv_icmp_ge (tgt := 40) hx hb dX12_nibbles_14 (by decide) (fun c_1 => ?_) (fun c_1 => ?_)
      · have c_1 : cn 0 ≤ g := (nI_leI (a := cn 0) (b := g) (by omega) (by omega)).mp c_1
        refine lv_aload_n hx hb dX12_nibbles_40 rfl (lv_at hl 2 rfl) ?_
        refine va_get (v := .ref (ad_m 60)) (C := RX12) (T := TX12) (N := 75) (ci := 11) hx hb hts in_X12 hown hK.1 hW.1 0 rfl rfl 60 (by decide) (hts _ q1696) (fun _ h9 => h9) rfl dX12_nibbles_41 ?_
        refine lv_iload_n hx hb dX12_nibbles_44 rfl (lv_at hl 1 rfl) ?_
        refine z_iald (v := σ 0 b) (f := g_m 60) (j := b) hx hb hK.1 hW.1 43 0 rfl rfl (vp_in_nI (n := b) (by omega) (by decide)) (nI_clamp (n := b) (by omega)) (MR.heap hRS.1 (g := b) (by omega)) dX12_nibbles_45 ?_
        refine lv_if_ne (tgt := 50) hx hb dX12_nibbles_46 (by decide) (fun c_2 => ?_) (fun c_2 => ?_)
        · refine lv_aload_n hx hb dX12_nibbles_50 rfl (lv_at hl 2 rfl) ?_
          refine va_get (v := .ref (ad_m 60)) (C := RX12) (T := TX12) (N := 75) (ci := 11) hx hb hts in_X12 hown hK.1 hW.1 0 rfl rfl 60 (by decide) (hts _ q1696) (fun _ h9 => h9) rfl dX12_nibbles_51 ?_
          refine lv_iload_n hx hb dX12_nibbles_54 rfl (lv_at hl 1 rfl) ?_
          refine lv_dup2_11 hx hb dX12_nibbles_55 rfl rfl ?_
          refine z_iald (v := σ 0 b) (f := g_m 60) (j := b) hx hb hK.1 hW.1 43 0 rfl rfl (vp_in_nI (n := b) (by omega) (by decide)) (nI_clamp (n := b) (by omega)) (MR.heap hRS.1 (g := b) (by omega)) dX12_nibbles_56 ?_
          refine lv_iconst (v := 1) hx hb dX12_nibbles_57 (by decide) ?_
          refine lv_isub hx hb dX12_nibbles_58 ?_
          refine z_iast (x := (σ 0 b) - 1) (f := g_m 60) (j := b) (wn := (wj [(mw Y ad_m (sA 60 (upd (g_m 60) b ((σ 0 b) - 1)) (sA 18 (fun _ => nI lv) g_m)) w_m)])) hx hb hK.1 hW 43 0 rfl rfl (vp_in_nI (n := b) (by omega) (by decide)) (nI_clamp (n := b) (by omega)) dX12_nibbles_59 rfl (fun H locs hW => ?_)
          refine lv_aload_n hx hb dX12_nibbles_60 rfl (lv_at hl 2 rfl) ?_
          refine va_get (v := .ref (ad_m 60)) (C := RX12) (T := TX12) (N := 75) (ci := 11) hx hb hts in_X12 hown hK.1 hW.1 0 rfl rfl 60 (by decide) (hts _ q1696) (fun _ h9 => h9) rfl dX12_nibbles_61 ?_
          refine lv_bipush (v := 115) hx hb dX12_nibbles_64 (by decide) ?_
          refine lv_dup2_11 hx hb dX12_nibbles_66 rfl rfl ?_
          refine z_iald (v := σ 14 0) (f := upd (g_m 60) b ((σ 0 b) - 1)) (j := 115) hx hb hK.1 hW.1 43 0 rfl rfl (vp_in_nI (n := 115) (by omega) (by decide)) (by decide) (Eq.trans (pk_un (by omega)) (MR.s14 hRS.1)) dX12_nibbles_67 ?_
          refine lv_iconst (v := 1) hx hb dX12_nibbles_68 (by decide) ?_
          refine lv_iadd hx hb dX12_nibbles_69 ?_
          refine z_iast (x := (σ 14 0) + 1) (f := upd (g_m 60) b ((σ 0 b) - 1)) (j := 115) (wn := (wj [(mw Y ad_m (sA 60 (upd (upd (g_m 60) b ((σ 0 b) - 1)) 115 ((σ 14 0) + 1)) (sA 18 (fun _ => nI lv) g_m)) w_m)])) hx hb hK.1 hW 43 0 rfl rfl (vp_in_nI (n := 115) (by omega) (by decide)) (by decide) dX12_nibbles_70 rfl (fun H locs hW => ?_)
          refine lv_aload_n hx hb dX12_nibbles_71 rfl (lv_at hl 2 rfl) ?_
          refine va_get (v := .ref (ad_m 60)) (C := RX12) (T := TX12) (N := 75) (ci := 11) hx hb hts in_X12 hown hK.1 hW.1 0 rfl rfl 60 (by decide) (hts _ q1696) (fun _ h9 => h9) rfl dX12_nibbles_72 ?_
          refine lv_bipush (v := 74) hx hb dX12_nibbles_75 (by decide) ?_
          refine lv_iload_n hx hb dX12_nibbles_77 rfl (lv_at hl 3 rfl) ?_
          refine lv_iadd hx hb dX12_nibbles_78 ?_
          refine lv_topi (nm_r (e' := nI (74 + k)) (nI_add 74 k) ?_)
          refine lv_iconst (v := 0) hx hb dX12_nibbles_79 (by decide) ?_
          refine z_iast (x := 0) (f := upd (upd (g_m 60) b ((σ 0 b) - 1)) 115 ((σ 14 0) + 1)) (j := 74 + k) (wn := (wj [(mw Y ad_m (sA 60 (upd (upd (upd (g_m 60) b ((σ 0 b) - 1)) 115 ((σ 14 0) + 1)) (74 + k) 0) (sA 18 (fun _ => nI lv) g_m)) w_m)])) hx hb hK.1 hW 43 0 rfl rfl (vp_in_nI (n := 74 + k) (by omega) (by decide)) (nI_clamp (n := 74 + k) (by omega)) dX12_nibbles_80 rfl (fun H locs hW => ?_)
          refine z_vret (upd (upd (upd (g_m 60) b ((σ 0 b) - 1)) 115 ((σ 14 0) + 1)) (74 + k) 0 : (Nat → Int32)) hx hb hr hlocks hW rfl dX12_nibbles_81 ?_
          show RS cn (oddP cn σ k) (upd (upd (upd (g_m 60) b ((σ 0 b) - 1)) 115 ((σ 14 0) + 1)) (74 + k) 0) (g_m 62) (g_m 61 0)
          have e : g = cn 0 := by omega
          have eb := nibI_end2 hnn (by omega) hb2 e (by assumption)
          have hfin : RS cn (sU 8 k 0 (sS 14 ((σ 14 0) + 1) (sU 0 b ((σ 0 b) - 1) σ))) (upd (upd (upd (g_m 60) b ((σ 0 b) - 1)) 115 ((σ 14 0) + 1)) (74 + k) 0) (g_m 62) (g_m 61 0) := (RS.mk' hRS (MR.u8 hk8 (MR.v14 hk8 (MR.uheap hk8 hRS.1 (g := b) (by omega) ((σ 0 b) - 1)) ((σ 14 0) + 1)) (r := k) (by omega) 0) (by rw [sU_ne (by omega), sS_ne (by omega), sU_ne (by omega)]) (by rw [sU_ne (by omega), sS_ne (by omega), sU_ne (by omega)]))
          have efin : oddP cn σ k = sU 8 k 0 (sS 14 ((σ 14 0) + 1) (sU 0 b ((σ 0 b) - 1) σ)) := by
            simp [oddP, eb, eatsP, sU, sS, sA_ne, sA_eq, sA_sA, sA_comm, show ¬ ((1:Int32) ≤ 0) by decide]
          rw [efin]; exact hfin
        · refine z_vret (g_m 60 : (Nat → Int32)) hx hb hr hlocks hW rfl dX12_nibbles_49 ?_
          show RS cn (oddP cn σ k) (g_m 60) (g_m 62) (g_m 61 0)
          have e : g = cn 0 := by omega
          have eb := nibI_end hnn (by omega) hb2 e (by assumption)
          have hfin : RS cn σ (g_m 60) (g_m 62) (g_m 61 0) := hRS
          have efin : oddP cn σ k = σ := by
            simp [oddP, eb]
          rw [efin]; exact hfin
      · have c_1 : ¬ (cn 0 ≤ g) := fun hz_ => c_1 ((nI_leI (a := cn 0) (b := g) (by omega) (by omega)).mpr hz_)
        refine lv_aload_n hx hb dX12_nibbles_17 rfl (lv_at hl 2 rfl) ?_
        refine va_get (v := .ref (ad_m 60)) (C := RX12) (T := TX12) (N := 75) (ci := 11) hx hb hts in_X12 hown hK.1 hW.1 0 rfl rfl 60 (by decide) (hts _ q1696) (fun _ h9 => h9) rfl dX12_nibbles_18 ?_
        refine lv_iload_n hx hb dX12_nibbles_21 rfl (lv_at hl 0 rfl) ?_
        refine z_iald (v := σ 0 g) (f := g_m 60) (j := g) hx hb hK.1 hW.1 43 0 rfl rfl (vp_in_nI (n := g) (by omega) (by decide)) (nI_clamp (n := g) (by omega)) (MR.heap hRS.1 (g := g) (by omega)) dX12_nibbles_22 ?_
        refine lv_aload_n hx hb dX12_nibbles_23 rfl (lv_at hl 2 rfl) ?_
        refine va_get (v := .ref (ad_m 60)) (C := RX12) (T := TX12) (N := 75) (ci := 11) hx hb hts in_X12 hown hK.1 hW.1 0 rfl rfl 60 (by decide) (hts _ q1696) (fun _ h9 => h9) rfl dX12_nibbles_24 ?_
        refine lv_iload_n hx hb dX12_nibbles_27 rfl (lv_at hl 1 rfl) ?_
        refine z_iald (v := σ 0 b) (f := g_m 60) (j := b) hx hb hK.1 hW.1 43 0 rfl rfl (vp_in_nI (n := b) (by omega) (by decide)) (nI_clamp (n := b) (by omega)) (MR.heap hRS.1 (g := b) (by omega)) dX12_nibbles_28 ?_
        refine lv_icmp_le (tgt := 34) hx hb dX12_nibbles_29 (by decide) (fun c_3 => ?_) (fun c_3 => ?_)
        · refine lv_iinc (v := nI (g + 1)) (lv' := [(3, .int (nI (g + 1))), (2, .int (nI b)), (0, .ref (ad_m 0)), (1, .int (nI k))]) hx hb dX12_nibbles_34 hl (k := 0) rfl (nI_add g 1) (by decide) rfl (fun ls hl => ?_)
          refine lv_goto (tgt := 4) hx hb dX12_nibbles_37 (by decide) ?_
          exact ih_4 (g + 1) b (by omega) (by omega) (by first | exact nibI_up hb2 (by first | assumption | grind) | exact nibI_no hb2 (by first | assumption | grind)) _ _ hW _ (lv_sub hl [0, 1, 2, 3] rfl)
        · refine lv_iload_n hx hb dX12_nibbles_32 rfl (lv_at hl 0 rfl) ?_
          refine lv_istore_n (lv' := [(2, .int (nI g)), (3, .int (nI g)), (0, .ref (ad_m 0)), (1, .int (nI k))]) hx hb dX12_nibbles_33 rfl hl (by decide) rfl (fun ls hl => ?_)
          refine lv_iinc (v := nI (g + 1)) (lv' := [(3, .int (nI (g + 1))), (2, .int (nI g)), (0, .ref (ad_m 0)), (1, .int (nI k))]) hx hb dX12_nibbles_34 hl (k := 1) rfl (nI_add g 1) (by decide) rfl (fun ls hl => ?_)
          refine lv_goto (tgt := 4) hx hb dX12_nibbles_37 (by decide) ?_
          exact ih_4 (g + 1) g (by omega) (by omega) (by first | exact nibI_up hb2 (by first | assumption | grind) | exact nibI_no hb2 (by first | assumption | grind)) _ _ hW _ (lv_sub hl [0, 1, 2, 3] rfl)
  exact loop_4 _ 1 0 (Nat.lt_succ_self _) (by omega) (by exact nibI_1 _) _ _ hW _ (lv_sub hl [0, 1, 2, 3] rfl)
