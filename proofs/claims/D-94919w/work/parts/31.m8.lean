/-! the model: public questions and orders, the small ones -/
set_option maxRecDepth 100000
set_option maxHeartbeats 4000000 in
set_option maxRecDepth 100000 in
theorem m_X12_heap (l : Launch) (D : va_G) (Y : Nat → ClassId) (ad_m : Nat → Nat) (g_m : Nat → Nat → Int32) (w_m : Nat → Nat → Int64) (lv : Nat) (cn : Nat → Nat) (t : tab) (lw : Nat → Option LAW) (σ : tab) (U : List tab) (un : Nat) (B_ : Int) (gx : Int32) (sz : Nat) (hlv : lv < 2) (hTW : TW cn t lw) (hTM : TM lv cn t lw g_m) (hKN : KN (cn 2) σ U (g_m 59) (g_m 65) un) (hF1 : ∀ h, h < cn 1 → σ 1 h = t 2 h) (hF2 : σ 18 0 = t 12 2) (hWF : WF cn B_ σ) : Met l yX12_heap (ws_ yX12_heap cX12_heap 2 (some .int)) ({ frames := 3, cells := 0, slots := 0, locals := 55 }) (zPc D Y [.ref (ad_m 0), .int gx] sz (wj []) (wj [(mw Y ad_m (sA 64 (fun _ => nI un) (sA 18 (fun _ => nI lv) g_m)) w_m)])) (va_Qi (fun (r : Int32) (u : Unit) => r = heapO cn σ gx) (zB D (fun (u : Unit) => (wj [(mw Y ad_m (sA 64 (fun _ => nI un) (sA 18 (fun _ => nI lv) g_m)) w_m)])) (va_A (wj [(mw Y ad_m (sA 64 (fun _ => nI un) (sA 18 (fun _ => nI lv) g_m)) w_m)]) sz)) (va_A (wj [(mw Y ad_m (sA 64 (fun _ => nI un) (sA 18 (fun _ => nI lv) g_m)) w_m)]) sz)) 0 0 (va_A (wj [(mw Y ad_m (sA 64 (fun _ => nI un) (sA 18 (fun _ => nI lv) g_m)) w_m)]) sz) := by
  refine Met.ofW (cc := cX12_heap) (maxL := 2) (ret := (some .int)) (by decide) rfl ?_
  intro p e s m args below meth c s₁ B hml hv
  obtain ⟨rfl, hsz, hW, hR, hK, hA⟩ := zEntry hv
  subst hsz
  have hx := B.exec
  have hb := B.bytes
  have hr := B.returns
  have hlocks := B.notSynchronized
  have hts : ∀ w ∈ lw_all, w.before _ s = true := fun w h => atoms_spec (ws := (ws_ yX12_heap cX12_heap 2 (some .int))) B.pre w (List.mem_cons_of_mem _ h)
  have hown : s.vm.findClass RX12 = some m.cls := findClass_of_methodNamed B.named
  generalize hAe : va_A (wj [(mw Y ad_m (sA 64 (fun _ => nI un) (sA 18 (fun _ => nI lv) g_m)) w_m)]) s.heap.size = A at hW hR hA ⊢
  have hl := lv_entry ([.ref (ad_m 0), .int gx]) (n := 2) (Nat.le_of_ble_eq_true rfl)
  rw [lg_entry_eq]
  generalize (lg_sl ([.ref (ad_m 0), .int gx]) ++ List.replicate (2 - (lg_sl ([.ref (ad_m 0), .int gx])).length) Slot.unset).toArray = ls at hl ⊢
  have hl : lv_has ls 2 [(0, .ref (ad_m 0)), (1, .int gx)] := hl
  have hk8 := hTW.n2
  have hk6 := hTW.n1
  have hk60 := hTW.n0
  have hk5 := hTW.n3
  refine lv_aload_n hx hb dX12_heap_0 rfl (lv_at hl 0 rfl) ?_
  refine lv_iload_n hx hb dX12_heap_1 rfl (lv_at hl 1 rfl) ?_
  refine z_calli (wc := wj [(mw Y ad_m (sA 64 (fun _ => nI un) (sA 18 (fun _ => nI lv) g_m)) w_m)]) (wr := wj []) (va_runV (As := [.int gx]) (rest := []) ⟨hx, hb, hml, hown, hts⟩ (m_X12_isGrain l D Y ad_m (sA 64 (fun _ => nI un) (sA 18 (fun _ => nI lv) g_m)) w_m lv cn t lw gx s.heap.size (show lv < 2 from by exact hlv) (show TW cn t lw from by exact hTW) (show TM lv cn t lw (sA 64 (fun _ => nI un) (sA 18 (fun _ => nI lv) g_m)) from by exact hTM)) (cwV 1 hts (lw_V q1993 q1995 qs83 q133 q1996) rfl rfl rfl (by decide +kernel) ⟨Nat.le_of_ble_eq_true rfl, Nat.le_of_ble_eq_true rfl⟩) (zPreV hK hW hR (wj_split3 (B := [(mw Y ad_m (sA 64 (fun _ => nI un) (sA 18 (fun _ => nI lv) g_m)) w_m)]) (R := []) (C := [(mw Y ad_m (sA 64 (fun _ => nI un) (sA 18 (fun _ => nI lv) g_m)) w_m)]) (O := []) (X := []) (List.Perm.refl _)) (va_recv hK.1 hW.1 (ci := 11) (q0 := 0) rfl rfl)) rfl rfl hl.1 rfl (lv_room (Nat.le_of_ble_eq_true rfl)) dX12_heap_2 ⟨Nat.le_refl _, Nat.le_refl _⟩) hW hA (wj_split (B := [(mw Y ad_m (sA 64 (fun _ => nI un) (sA 18 (fun _ => nI lv) g_m)) w_m)]) (C := [(mw Y ad_m (sA 64 (fun _ => nI un) (sA 18 (fun _ => nI lv) g_m)) w_m)]) (R := []) (List.Perm.refl _)) (fun r_1 u H locs hp_2 hW => ?_)
  have hp_2 : r_1 = zb (vp_in gx (cn 0)) := hp_2
  have hW : zW D A s.heap H locs (wj [(mw Y ad_m (sA 64 (fun _ => nI un) (sA 18 (fun _ => nI lv) g_m)) w_m)]) := hW.join
  refine lv_if_eq (tgt := 17) hx hb dX12_heap_5 (by decide) (fun c_3 => ?_) (fun c_3 => ?_)
  · have c_3 : ¬ (vp_in gx (cn 0)) := zb_eq hp_2 c_3
    refine lv_iconst (v := (-1)) hx hb dX12_heap_17 (by decide) ?_
    refine z_ireti (() : Unit) hx hb hr hlocks rfl hW rfl dX12_heap_18 ?_
    show (-1) = heapO cn σ gx
    unfold heapO
    first | (rw [zi_t (by first | assumption | exact ⟨by assumption, by assumption⟩ | grind)]; rw [cgn]) | (rw [zi_f (by first | assumption | grind)])
  · have c_3 : vp_in gx (cn 0) := zb_ne hp_2 c_3
    obtain ⟨gn, hgn, egn⟩ := vp_in_of c_3 (by omega)
    have cgn : gx.toNatClampNeg = gn := by rw [egn]; exact nI_clamp (by omega)
    refine lv_aload_n hx hb dX12_heap_8 rfl (lv_at hl 0 rfl) ?_
    refine va_get (v := .ref (ad_m 59)) (C := RX12) (T := TX12) (N := 75) (ci := 11) hx hb hts in_X12 hown hK.1 hW.1 0 rfl rfl 59 (by decide) (hts _ q1695) (fun _ h9 => h9) rfl dX12_heap_9 ?_
    refine lv_iload_n hx hb dX12_heap_12 rfl (lv_at hl 1 rfl) ?_
    refine lv_topi (nm_r (e' := nI gn) egn ?_)
    refine z_iald (v := σ 0 gn) (f := g_m 59) (j := gn) hx hb hK.1 hW.1 42 0 rfl rfl (vp_in_nI (n := gn) (by omega) (by decide)) (nI_clamp (n := gn) (by omega)) (MR.heap hKN.mr (g := gn) (by omega)) dX12_heap_13 ?_
    refine lv_goto (tgt := 18) hx hb dX12_heap_14 (by decide) ?_
    refine z_ireti (() : Unit) hx hb hr hlocks rfl hW rfl dX12_heap_18 ?_
    show (σ 0 gn) = heapO cn σ gx
    unfold heapO
    first | (rw [zi_t (by first | assumption | exact ⟨by assumption, by assumption⟩ | grind)]; rw [cgn]) | (rw [zi_f (by first | assumption | grind)])
set_option maxHeartbeats 4000000 in
set_option maxRecDepth 100000 in
theorem m_X12_hole (l : Launch) (D : va_G) (Y : Nat → ClassId) (ad_m : Nat → Nat) (g_m : Nat → Nat → Int32) (w_m : Nat → Nat → Int64) (lv : Nat) (cn : Nat → Nat) (t : tab) (lw : Nat → Option LAW) (σ : tab) (U : List tab) (un : Nat) (B_ : Int) (ax : Int32) (gx : Int32) (sz : Nat) (hlv : lv < 2) (hTW : TW cn t lw) (hTM : TM lv cn t lw g_m) (hKN : KN (cn 2) σ U (g_m 59) (g_m 65) un) (hF1 : ∀ h, h < cn 1 → σ 1 h = t 2 h) (hF2 : σ 18 0 = t 12 2) (hWF : WF cn B_ σ) : Met l yX12_hole (ws_ yX12_hole cX12_hole 3 (some .int)) ({ frames := 3, cells := 0, slots := 0, locals := 55 }) (zPc D Y [.ref (ad_m 0), .int ax, .int gx] sz (wj []) (wj [(mw Y ad_m (sA 64 (fun _ => nI un) (sA 18 (fun _ => nI lv) g_m)) w_m)])) (va_Qi (fun (r : Int32) (u : Unit) => r = holeO cn σ ax gx) (zB D (fun (u : Unit) => (wj [(mw Y ad_m (sA 64 (fun _ => nI un) (sA 18 (fun _ => nI lv) g_m)) w_m)])) (va_A (wj [(mw Y ad_m (sA 64 (fun _ => nI un) (sA 18 (fun _ => nI lv) g_m)) w_m)]) sz)) (va_A (wj [(mw Y ad_m (sA 64 (fun _ => nI un) (sA 18 (fun _ => nI lv) g_m)) w_m)]) sz)) 0 0 (va_A (wj [(mw Y ad_m (sA 64 (fun _ => nI un) (sA 18 (fun _ => nI lv) g_m)) w_m)]) sz) := by
  refine Met.ofW (cc := cX12_hole) (maxL := 3) (ret := (some .int)) (by decide) rfl ?_
  intro p e s m args below meth c s₁ B hml hv
  obtain ⟨rfl, hsz, hW, hR, hK, hA⟩ := zEntry hv
  subst hsz
  have hx := B.exec
  have hb := B.bytes
  have hr := B.returns
  have hlocks := B.notSynchronized
  have hts : ∀ w ∈ lw_all, w.before _ s = true := fun w h => atoms_spec (ws := (ws_ yX12_hole cX12_hole 3 (some .int))) B.pre w (List.mem_cons_of_mem _ h)
  have hown : s.vm.findClass RX12 = some m.cls := findClass_of_methodNamed B.named
  generalize hAe : va_A (wj [(mw Y ad_m (sA 64 (fun _ => nI un) (sA 18 (fun _ => nI lv) g_m)) w_m)]) s.heap.size = A at hW hR hA ⊢
  have hl := lv_entry ([.ref (ad_m 0), .int ax, .int gx]) (n := 3) (Nat.le_of_ble_eq_true rfl)
  rw [lg_entry_eq]
  generalize (lg_sl ([.ref (ad_m 0), .int ax, .int gx]) ++ List.replicate (3 - (lg_sl ([.ref (ad_m 0), .int ax, .int gx])).length) Slot.unset).toArray = ls at hl ⊢
  have hl : lv_has ls 3 [(0, .ref (ad_m 0)), (1, .int ax), (2, .int gx)] := hl
  have hk8 := hTW.n2
  have hk6 := hTW.n1
  have hk60 := hTW.n0
  have hk5 := hTW.n3
  refine lv_aload_n hx hb dX12_hole_0 rfl (lv_at hl 0 rfl) ?_
  refine lv_iload_n hx hb dX12_hole_1 rfl (lv_at hl 1 rfl) ?_
  refine z_calli (wc := wj [(mw Y ad_m (sA 64 (fun _ => nI un) (sA 18 (fun _ => nI lv) g_m)) w_m)]) (wr := wj []) (va_runV (As := [.int ax]) (rest := []) ⟨hx, hb, hml, hown, hts⟩ (m_X12_isHole l D Y ad_m (sA 64 (fun _ => nI un) (sA 18 (fun _ => nI lv) g_m)) w_m lv cn t lw ax s.heap.size (show lv < 2 from by exact hlv) (show TW cn t lw from by exact hTW) (show TM lv cn t lw (sA 64 (fun _ => nI un) (sA 18 (fun _ => nI lv) g_m)) from by exact hTM)) (cwV 1 hts (lw_V q2004 q2006 qs84 q133 q2007) rfl rfl rfl (by decide +kernel) ⟨Nat.le_of_ble_eq_true rfl, Nat.le_of_ble_eq_true rfl⟩) (zPreV hK hW hR (wj_split3 (B := [(mw Y ad_m (sA 64 (fun _ => nI un) (sA 18 (fun _ => nI lv) g_m)) w_m)]) (R := []) (C := [(mw Y ad_m (sA 64 (fun _ => nI un) (sA 18 (fun _ => nI lv) g_m)) w_m)]) (O := []) (X := []) (List.Perm.refl _)) (va_recv hK.1 hW.1 (ci := 11) (q0 := 0) rfl rfl)) rfl rfl hl.1 rfl (lv_room (Nat.le_of_ble_eq_true rfl)) dX12_hole_2 ⟨Nat.le_refl _, Nat.le_refl _⟩) hW hA (wj_split (B := [(mw Y ad_m (sA 64 (fun _ => nI un) (sA 18 (fun _ => nI lv) g_m)) w_m)]) (C := [(mw Y ad_m (sA 64 (fun _ => nI un) (sA 18 (fun _ => nI lv) g_m)) w_m)]) (R := []) (List.Perm.refl _)) (fun r_1 u H locs hp_2 hW => ?_)
  have hp_2 : r_1 = zb (vp_in ax (cn 1)) := hp_2
  have hW : zW D A s.heap H locs (wj [(mw Y ad_m (sA 64 (fun _ => nI un) (sA 18 (fun _ => nI lv) g_m)) w_m)]) := hW.join
  refine lv_if_eq (tgt := 33) hx hb dX12_hole_5 (by decide) (fun c_3 => ?_) (fun c_3 => ?_)
  · have c_3 : ¬ (vp_in ax (cn 1)) := zb_eq hp_2 c_3
    refine lv_iconst (v := (-1)) hx hb dX12_hole_33 (by decide) ?_
    refine z_ireti (() : Unit) hx hb hr hlocks rfl hW rfl dX12_hole_34 ?_
    show (-1) = holeO cn σ ax gx
    unfold holeO
    first | (rw [zi_t (by first | assumption | exact ⟨by assumption, by assumption⟩ | grind)]; rw [can, cgn]) | (rw [zi_f (by first | assumption | grind)])
  · have c_3 : vp_in ax (cn 1) := zb_ne hp_2 c_3
    obtain ⟨an, han, ean⟩ := vp_in_of c_3 (by omega)
    have can : ax.toNatClampNeg = an := by rw [ean]; exact nI_clamp (by omega)
    refine lv_aload_n hx hb dX12_hole_8 rfl (lv_at hl 0 rfl) ?_
    refine lv_iload_n hx hb dX12_hole_9 rfl (lv_at hl 2 rfl) ?_
    refine z_calli (wc := wj [(mw Y ad_m (sA 64 (fun _ => nI un) (sA 18 (fun _ => nI lv) g_m)) w_m)]) (wr := wj []) (va_runV (As := [.int gx]) (rest := []) ⟨hx, hb, hml, hown, hts⟩ (m_X12_isGrain l D Y ad_m (sA 64 (fun _ => nI un) (sA 18 (fun _ => nI lv) g_m)) w_m lv cn t lw gx H.size (show lv < 2 from by exact hlv) (show TW cn t lw from by exact hTW) (show TM lv cn t lw (sA 64 (fun _ => nI un) (sA 18 (fun _ => nI lv) g_m)) from by exact hTM)) (cwV 1 hts (lw_V q1993 q1995 qs83 q133 q1996) rfl rfl rfl (by decide +kernel) ⟨Nat.le_of_ble_eq_true rfl, Nat.le_of_ble_eq_true rfl⟩) (zPreV hK hW hR (wj_split3 (B := [(mw Y ad_m (sA 64 (fun _ => nI un) (sA 18 (fun _ => nI lv) g_m)) w_m)]) (R := []) (C := [(mw Y ad_m (sA 64 (fun _ => nI un) (sA 18 (fun _ => nI lv) g_m)) w_m)]) (O := []) (X := []) (List.Perm.refl _)) (va_recv hK.1 hW.1 (ci := 11) (q0 := 0) rfl rfl)) rfl rfl hl.1 rfl (lv_room (Nat.le_of_ble_eq_true rfl)) dX12_hole_10 ⟨Nat.le_refl _, Nat.le_refl _⟩) hW hA (wj_split (B := [(mw Y ad_m (sA 64 (fun _ => nI un) (sA 18 (fun _ => nI lv) g_m)) w_m)]) (C := [(mw Y ad_m (sA 64 (fun _ => nI un) (sA 18 (fun _ => nI lv) g_m)) w_m)]) (R := []) (List.Perm.refl _)) (fun r_4 u H locs hp_5 hW => ?_)
    have hp_5 : r_4 = zb (vp_in gx (cn 0)) := hp_5
    have hW : zW D A s.heap H locs (wj [(mw Y ad_m (sA 64 (fun _ => nI un) (sA 18 (fun _ => nI lv) g_m)) w_m)]) := hW.join
    refine lv_if_eq (tgt := 33) hx hb dX12_hole_13 (by decide) (fun c_6 => ?_) (fun c_6 => ?_)
    · have c_6 : ¬ (vp_in gx (cn 0)) := zb_eq hp_5 c_6
      refine lv_iconst (v := (-1)) hx hb dX12_hole_33 (by decide) ?_
      refine z_ireti (() : Unit) hx hb hr hlocks rfl hW rfl dX12_hole_34 ?_
      show (-1) = holeO cn σ ax gx
      unfold holeO
      first | (rw [zi_t (by first | assumption | exact ⟨by assumption, by assumption⟩ | grind)]; rw [can, cgn]) | (rw [zi_f (by first | assumption | grind)])
    · have c_6 : vp_in gx (cn 0) := zb_ne hp_5 c_6
      obtain ⟨gn, hgn, egn⟩ := vp_in_of c_6 (by omega)
      have cgn : gx.toNatClampNeg = gn := by rw [egn]; exact nI_clamp (by omega)
      refine lv_aload_n hx hb dX12_hole_16 rfl (lv_at hl 0 rfl) ?_
      refine va_get (v := .ref (ad_m 59)) (C := RX12) (T := TX12) (N := 75) (ci := 11) hx hb hts in_X12 hown hK.1 hW.1 0 rfl rfl 59 (by decide) (hts _ q1695) (fun _ h9 => h9) rfl dX12_hole_17 ?_
      refine lv_bipush (v := 6) hx hb dX12_hole_20 (by decide) ?_
      refine lv_bipush (v := 6) hx hb dX12_hole_22 (by decide) ?_
      refine lv_iload_n hx hb dX12_hole_24 rfl (lv_at hl 1 rfl) ?_
      refine lv_topi (nm_r (e' := nI an) ean ?_)
      refine lv_imul hx hb dX12_hole_25 ?_
      refine lv_topi (nm_r (e' := nI (6 * an)) (pk_mul 6 an) ?_)
      refine lv_iadd hx hb dX12_hole_26 ?_
      refine lv_topi (nm_r (e' := nI (6 + 6 * an)) (nI_add 6 (6 * an)) ?_)
      refine lv_iload_n hx hb dX12_hole_27 rfl (lv_at hl 2 rfl) ?_
      refine lv_topi (nm_r (e' := nI gn) egn ?_)
      refine lv_iadd hx hb dX12_hole_28 ?_
      refine lv_topi (nm_r (e' := nI (6 + 6 * an + gn)) (nI_add (6 + 6 * an) gn) ?_)
      refine z_iald (v := σ (30 + an) gn) (f := g_m 59) (j := 6 + 6 * an + gn) hx hb hK.1 hW.1 42 0 rfl rfl (vp_in_nI (n := 6 + 6 * an + gn) (by omega) (by decide)) (nI_clamp (n := 6 + 6 * an + gn) (by omega)) (MR.hole hKN.mr (a := an) (g := gn) (by omega) (by omega)) dX12_hole_29 ?_
      refine lv_goto (tgt := 34) hx hb dX12_hole_30 (by decide) ?_
      refine z_ireti (() : Unit) hx hb hr hlocks rfl hW rfl dX12_hole_34 ?_
      show (σ (30 + an) gn) = holeO cn σ ax gx
      unfold holeO
      first | (rw [zi_t (by first | assumption | exact ⟨by assumption, by assumption⟩ | grind)]; rw [can, cgn]) | (rw [zi_f (by first | assumption | grind)])
set_option maxHeartbeats 4000000 in
set_option maxRecDepth 100000 in
theorem m_X12_rat (l : Launch) (D : va_G) (Y : Nat → ClassId) (ad_m : Nat → Nat) (g_m : Nat → Nat → Int32) (w_m : Nat → Nat → Int64) (lv : Nat) (cn : Nat → Nat) (t : tab) (lw : Nat → Option LAW) (σ : tab) (U : List tab) (un : Nat) (B_ : Int) (rx : Int32) (wx : Int32) (sz : Nat) (hlv : lv < 2) (hTW : TW cn t lw) (hTM : TM lv cn t lw g_m) (hKN : KN (cn 2) σ U (g_m 59) (g_m 65) un) (hF1 : ∀ h, h < cn 1 → σ 1 h = t 2 h) (hF2 : σ 18 0 = t 12 2) (hWF : WF cn B_ σ) : Met l yX12_rat (ws_ yX12_rat cX12_rat 3 (some .int)) ({ frames := 3, cells := 0, slots := 0, locals := 55 }) (zPc D Y [.ref (ad_m 0), .int rx, .int wx] sz (wj []) (wj [(mw Y ad_m (sA 64 (fun _ => nI un) (sA 18 (fun _ => nI lv) g_m)) w_m)])) (va_Qi (fun (r : Int32) (u : Unit) => r = ratO cn σ rx wx) (zB D (fun (u : Unit) => (wj [(mw Y ad_m (sA 64 (fun _ => nI un) (sA 18 (fun _ => nI lv) g_m)) w_m)])) (va_A (wj [(mw Y ad_m (sA 64 (fun _ => nI un) (sA 18 (fun _ => nI lv) g_m)) w_m)]) sz)) (va_A (wj [(mw Y ad_m (sA 64 (fun _ => nI un) (sA 18 (fun _ => nI lv) g_m)) w_m)]) sz)) 0 0 (va_A (wj [(mw Y ad_m (sA 64 (fun _ => nI un) (sA 18 (fun _ => nI lv) g_m)) w_m)]) sz) := by
  refine Met.ofW (cc := cX12_rat) (maxL := 3) (ret := (some .int)) (by decide) rfl ?_
  intro p e s m args below meth c s₁ B hml hv
  obtain ⟨rfl, hsz, hW, hR, hK, hA⟩ := zEntry hv
  subst hsz
  have hx := B.exec
  have hb := B.bytes
  have hr := B.returns
  have hlocks := B.notSynchronized
  have hts : ∀ w ∈ lw_all, w.before _ s = true := fun w h => atoms_spec (ws := (ws_ yX12_rat cX12_rat 3 (some .int))) B.pre w (List.mem_cons_of_mem _ h)
  have hown : s.vm.findClass RX12 = some m.cls := findClass_of_methodNamed B.named
  generalize hAe : va_A (wj [(mw Y ad_m (sA 64 (fun _ => nI un) (sA 18 (fun _ => nI lv) g_m)) w_m)]) s.heap.size = A at hW hR hA ⊢
  have hl := lv_entry ([.ref (ad_m 0), .int rx, .int wx]) (n := 3) (Nat.le_of_ble_eq_true rfl)
  rw [lg_entry_eq]
  generalize (lg_sl ([.ref (ad_m 0), .int rx, .int wx]) ++ List.replicate (3 - (lg_sl ([.ref (ad_m 0), .int rx, .int wx])).length) Slot.unset).toArray = ls at hl ⊢
  have hl : lv_has ls 3 [(0, .ref (ad_m 0)), (1, .int rx), (2, .int wx)] := hl
  have hk8 := hTW.n2
  have hk6 := hTW.n1
  have hk60 := hTW.n0
  have hk5 := hTW.n3
  refine lv_aload_n hx hb dX12_rat_0 rfl (lv_at hl 0 rfl) ?_
  refine lv_iload_n hx hb dX12_rat_1 rfl (lv_at hl 1 rfl) ?_
  refine z_calli (wc := wj [(mw Y ad_m (sA 64 (fun _ => nI un) (sA 18 (fun _ => nI lv) g_m)) w_m)]) (wr := wj []) (va_runV (As := [.int rx]) (rest := []) ⟨hx, hb, hml, hown, hts⟩ (m_X12_isRat l D Y ad_m (sA 64 (fun _ => nI un) (sA 18 (fun _ => nI lv) g_m)) w_m lv cn t lw rx s.heap.size (show lv < 2 from by exact hlv) (show TW cn t lw from by exact hTW) (show TM lv cn t lw (sA 64 (fun _ => nI un) (sA 18 (fun _ => nI lv) g_m)) from by exact hTM)) (cwV 1 hts (lw_V q2012 q2014 qs85 q133 q2015) rfl rfl rfl (by decide +kernel) ⟨Nat.le_of_ble_eq_true rfl, Nat.le_of_ble_eq_true rfl⟩) (zPreV hK hW hR (wj_split3 (B := [(mw Y ad_m (sA 64 (fun _ => nI un) (sA 18 (fun _ => nI lv) g_m)) w_m)]) (R := []) (C := [(mw Y ad_m (sA 64 (fun _ => nI un) (sA 18 (fun _ => nI lv) g_m)) w_m)]) (O := []) (X := []) (List.Perm.refl _)) (va_recv hK.1 hW.1 (ci := 11) (q0 := 0) rfl rfl)) rfl rfl hl.1 rfl (lv_room (Nat.le_of_ble_eq_true rfl)) dX12_rat_2 ⟨Nat.le_refl _, Nat.le_refl _⟩) hW hA (wj_split (B := [(mw Y ad_m (sA 64 (fun _ => nI un) (sA 18 (fun _ => nI lv) g_m)) w_m)]) (C := [(mw Y ad_m (sA 64 (fun _ => nI un) (sA 18 (fun _ => nI lv) g_m)) w_m)]) (R := []) (List.Perm.refl _)) (fun r_1 u H locs hp_2 hW => ?_)
  have hp_2 : r_1 = zb (vp_in rx (cn 2)) := hp_2
  have hW : zW D A s.heap H locs (wj [(mw Y ad_m (sA 64 (fun _ => nI un) (sA 18 (fun _ => nI lv) g_m)) w_m)]) := hW.join
  refine lv_if_ne (tgt := 10) hx hb dX12_rat_5 (by decide) (fun c_3 => ?_) (fun c_3 => ?_)
  · have c_3 : vp_in rx (cn 2) := zb_ne hp_2 c_3
    obtain ⟨rn, hrn, ern⟩ := vp_in_of c_3 (by omega)
    have crn : rx.toNatClampNeg = rn := by rw [ern]; exact nI_clamp (by omega)
    refine lv_iload_n hx hb dX12_rat_10 rfl (lv_at hl 2 rfl) ?_
    by_cases c_4 : wx = (0 : Int32)
    · refine lv_tableIn (off := 49) (tgt := 60) hx hb dX12_rat_11 (by rw [c_4]; decide) (by rw [c_4]; decide) (by rw [c_4]; rfl) (by decide) ?_
      refine lv_aload_n hx hb dX12_rat_60 rfl (lv_at hl 0 rfl) ?_
      refine va_get (v := .ref (ad_m 59)) (C := RX12) (T := TX12) (N := 75) (ci := 11) hx hb hts in_X12 hown hK.1 hW.1 0 rfl rfl 59 (by decide) (hts _ q1695) (fun _ h9 => h9) rfl dX12_rat_61 ?_
      refine lv_bipush (v := 42) hx hb dX12_rat_64 (by decide) ?_
      refine lv_bipush (v := 8) hx hb dX12_rat_66 (by decide) ?_
      refine lv_iload_n hx hb dX12_rat_68 rfl (lv_at hl 2 rfl) ?_
      refine lv_topi (nm_r (e' := 0) c_4 ?_)
      refine lv_imul hx hb dX12_rat_69 ?_
      refine lv_topi (nm_r (e' := 0) (by decide) ?_)
      refine lv_iadd hx hb dX12_rat_70 ?_
      refine lv_topi (nm_r (e' := 42) (by decide) ?_)
      refine lv_iload_n hx hb dX12_rat_71 rfl (lv_at hl 1 rfl) ?_
      refine lv_topi (nm_r (e' := nI rn) ern ?_)
      refine lv_iadd hx hb dX12_rat_72 ?_
      refine lv_topi (nm_r (e' := nI (42 + rn)) (nI_add 42 rn) ?_)
      refine z_iald (v := σ 3 rn) (f := g_m 59) (j := 42 + rn) hx hb hK.1 hW.1 42 0 rfl rfl (vp_in_nI (n := 42 + rn) (by omega) (by decide)) (nI_clamp (n := 42 + rn) (by omega)) (MR.r3 hKN.mr (r := rn) (by omega)) dX12_rat_73 ?_
      refine z_ireti (() : Unit) hx hb hr hlocks rfl hW rfl dX12_rat_74 ?_
      show (σ 3 rn) = ratO cn σ rx wx
      unfold ratO
      first | (rw [zi_f (by assumption)]; done) | (rw [zi_t (by assumption), crn]; simp [ratW, c_4])
    by_cases c_5 : wx = (1 : Int32)
    · refine lv_tableIn (off := 49) (tgt := 60) hx hb dX12_rat_11 (by rw [c_5]; decide) (by rw [c_5]; decide) (by rw [c_5]; rfl) (by decide) ?_
      refine lv_aload_n hx hb dX12_rat_60 rfl (lv_at hl 0 rfl) ?_
      refine va_get (v := .ref (ad_m 59)) (C := RX12) (T := TX12) (N := 75) (ci := 11) hx hb hts in_X12 hown hK.1 hW.1 0 rfl rfl 59 (by decide) (hts _ q1695) (fun _ h9 => h9) rfl dX12_rat_61 ?_
      refine lv_bipush (v := 42) hx hb dX12_rat_64 (by decide) ?_
      refine lv_bipush (v := 8) hx hb dX12_rat_66 (by decide) ?_
      refine lv_iload_n hx hb dX12_rat_68 rfl (lv_at hl 2 rfl) ?_
      refine lv_topi (nm_r (e' := 1) c_5 ?_)
      refine lv_imul hx hb dX12_rat_69 ?_
      refine lv_topi (nm_r (e' := 8) (by decide) ?_)
      refine lv_iadd hx hb dX12_rat_70 ?_
      refine lv_topi (nm_r (e' := 50) (by decide) ?_)
      refine lv_iload_n hx hb dX12_rat_71 rfl (lv_at hl 1 rfl) ?_
      refine lv_topi (nm_r (e' := nI rn) ern ?_)
      refine lv_iadd hx hb dX12_rat_72 ?_
      refine lv_topi (nm_r (e' := nI (50 + rn)) (nI_add 50 rn) ?_)
      refine z_iald (v := σ 4 rn) (f := g_m 59) (j := 50 + rn) hx hb hK.1 hW.1 42 0 rfl rfl (vp_in_nI (n := 50 + rn) (by omega) (by decide)) (nI_clamp (n := 50 + rn) (by omega)) (MR.r4 hKN.mr (r := rn) (by omega)) dX12_rat_73 ?_
      refine z_ireti (() : Unit) hx hb hr hlocks rfl hW rfl dX12_rat_74 ?_
      show (σ 4 rn) = ratO cn σ rx wx
      unfold ratO
      first | (rw [zi_f (by assumption)]; done) | (rw [zi_t (by assumption), crn]; simp [ratW, c_5])
    by_cases c_6 : wx = (2 : Int32)
    · refine lv_tableIn (off := 49) (tgt := 60) hx hb dX12_rat_11 (by rw [c_6]; decide) (by rw [c_6]; decide) (by rw [c_6]; rfl) (by decide) ?_
      refine lv_aload_n hx hb dX12_rat_60 rfl (lv_at hl 0 rfl) ?_
      refine va_get (v := .ref (ad_m 59)) (C := RX12) (T := TX12) (N := 75) (ci := 11) hx hb hts in_X12 hown hK.1 hW.1 0 rfl rfl 59 (by decide) (hts _ q1695) (fun _ h9 => h9) rfl dX12_rat_61 ?_
      refine lv_bipush (v := 42) hx hb dX12_rat_64 (by decide) ?_
      refine lv_bipush (v := 8) hx hb dX12_rat_66 (by decide) ?_
      refine lv_iload_n hx hb dX12_rat_68 rfl (lv_at hl 2 rfl) ?_
      refine lv_topi (nm_r (e' := 2) c_6 ?_)
      refine lv_imul hx hb dX12_rat_69 ?_
      refine lv_topi (nm_r (e' := 16) (by decide) ?_)
      refine lv_iadd hx hb dX12_rat_70 ?_
      refine lv_topi (nm_r (e' := 58) (by decide) ?_)
      refine lv_iload_n hx hb dX12_rat_71 rfl (lv_at hl 1 rfl) ?_
      refine lv_topi (nm_r (e' := nI rn) ern ?_)
      refine lv_iadd hx hb dX12_rat_72 ?_
      refine lv_topi (nm_r (e' := nI (58 + rn)) (nI_add 58 rn) ?_)
      refine z_iald (v := σ 5 rn) (f := g_m 59) (j := 58 + rn) hx hb hK.1 hW.1 42 0 rfl rfl (vp_in_nI (n := 58 + rn) (by omega) (by decide)) (nI_clamp (n := 58 + rn) (by omega)) (MR.r5 hKN.mr (r := rn) (by omega)) dX12_rat_73 ?_
      refine z_ireti (() : Unit) hx hb hr hlocks rfl hW rfl dX12_rat_74 ?_
      show (σ 5 rn) = ratO cn σ rx wx
      unfold ratO
      first | (rw [zi_f (by assumption)]; done) | (rw [zi_t (by assumption), crn]; simp [ratW, c_6])
    by_cases c_7 : wx = (3 : Int32)
    · refine lv_tableIn (off := 49) (tgt := 60) hx hb dX12_rat_11 (by rw [c_7]; decide) (by rw [c_7]; decide) (by rw [c_7]; rfl) (by decide) ?_
      refine lv_aload_n hx hb dX12_rat_60 rfl (lv_at hl 0 rfl) ?_
      refine va_get (v := .ref (ad_m 59)) (C := RX12) (T := TX12) (N := 75) (ci := 11) hx hb hts in_X12 hown hK.1 hW.1 0 rfl rfl 59 (by decide) (hts _ q1695) (fun _ h9 => h9) rfl dX12_rat_61 ?_
      refine lv_bipush (v := 42) hx hb dX12_rat_64 (by decide) ?_
      refine lv_bipush (v := 8) hx hb dX12_rat_66 (by decide) ?_
      refine lv_iload_n hx hb dX12_rat_68 rfl (lv_at hl 2 rfl) ?_
      refine lv_topi (nm_r (e' := 3) c_7 ?_)
      refine lv_imul hx hb dX12_rat_69 ?_
      refine lv_topi (nm_r (e' := 24) (by decide) ?_)
      refine lv_iadd hx hb dX12_rat_70 ?_
      refine lv_topi (nm_r (e' := 66) (by decide) ?_)
      refine lv_iload_n hx hb dX12_rat_71 rfl (lv_at hl 1 rfl) ?_
      refine lv_topi (nm_r (e' := nI rn) ern ?_)
      refine lv_iadd hx hb dX12_rat_72 ?_
      refine lv_topi (nm_r (e' := nI (66 + rn)) (nI_add 66 rn) ?_)
      refine z_iald (v := σ 6 rn) (f := g_m 59) (j := 66 + rn) hx hb hK.1 hW.1 42 0 rfl rfl (vp_in_nI (n := 66 + rn) (by omega) (by decide)) (nI_clamp (n := 66 + rn) (by omega)) (MR.r6 hKN.mr (r := rn) (by omega)) dX12_rat_73 ?_
      refine z_ireti (() : Unit) hx hb hr hlocks rfl hW rfl dX12_rat_74 ?_
      show (σ 6 rn) = ratO cn σ rx wx
      unfold ratO
      first | (rw [zi_f (by assumption)]; done) | (rw [zi_t (by assumption), crn]; simp [ratW, c_7])
    by_cases c_8 : wx = (4 : Int32)
    · refine lv_tableIn (off := 49) (tgt := 60) hx hb dX12_rat_11 (by rw [c_8]; decide) (by rw [c_8]; decide) (by rw [c_8]; rfl) (by decide) ?_
      refine lv_aload_n hx hb dX12_rat_60 rfl (lv_at hl 0 rfl) ?_
      refine va_get (v := .ref (ad_m 59)) (C := RX12) (T := TX12) (N := 75) (ci := 11) hx hb hts in_X12 hown hK.1 hW.1 0 rfl rfl 59 (by decide) (hts _ q1695) (fun _ h9 => h9) rfl dX12_rat_61 ?_
      refine lv_bipush (v := 42) hx hb dX12_rat_64 (by decide) ?_
      refine lv_bipush (v := 8) hx hb dX12_rat_66 (by decide) ?_
      refine lv_iload_n hx hb dX12_rat_68 rfl (lv_at hl 2 rfl) ?_
      refine lv_topi (nm_r (e' := 4) c_8 ?_)
      refine lv_imul hx hb dX12_rat_69 ?_
      refine lv_topi (nm_r (e' := 32) (by decide) ?_)
      refine lv_iadd hx hb dX12_rat_70 ?_
      refine lv_topi (nm_r (e' := 74) (by decide) ?_)
      refine lv_iload_n hx hb dX12_rat_71 rfl (lv_at hl 1 rfl) ?_
      refine lv_topi (nm_r (e' := nI rn) ern ?_)
      refine lv_iadd hx hb dX12_rat_72 ?_
      refine lv_topi (nm_r (e' := nI (74 + rn)) (nI_add 74 rn) ?_)
      refine z_iald (v := σ 8 rn) (f := g_m 59) (j := 74 + rn) hx hb hK.1 hW.1 42 0 rfl rfl (vp_in_nI (n := 74 + rn) (by omega) (by decide)) (nI_clamp (n := 74 + rn) (by omega)) (MR.r8 hKN.mr (r := rn) (by omega)) dX12_rat_73 ?_
      refine z_ireti (() : Unit) hx hb hr hlocks rfl hW rfl dX12_rat_74 ?_
      show (σ 8 rn) = ratO cn σ rx wx
      unfold ratO
      first | (rw [zi_f (by assumption)]; done) | (rw [zi_t (by assumption), crn]; simp [ratW, c_8])
    by_cases c_9 : wx = (5 : Int32)
    · refine lv_tableIn (off := 49) (tgt := 60) hx hb dX12_rat_11 (by rw [c_9]; decide) (by rw [c_9]; decide) (by rw [c_9]; rfl) (by decide) ?_
      refine lv_aload_n hx hb dX12_rat_60 rfl (lv_at hl 0 rfl) ?_
      refine va_get (v := .ref (ad_m 59)) (C := RX12) (T := TX12) (N := 75) (ci := 11) hx hb hts in_X12 hown hK.1 hW.1 0 rfl rfl 59 (by decide) (hts _ q1695) (fun _ h9 => h9) rfl dX12_rat_61 ?_
      refine lv_bipush (v := 42) hx hb dX12_rat_64 (by decide) ?_
      refine lv_bipush (v := 8) hx hb dX12_rat_66 (by decide) ?_
      refine lv_iload_n hx hb dX12_rat_68 rfl (lv_at hl 2 rfl) ?_
      refine lv_topi (nm_r (e' := 5) c_9 ?_)
      refine lv_imul hx hb dX12_rat_69 ?_
      refine lv_topi (nm_r (e' := 40) (by decide) ?_)
      refine lv_iadd hx hb dX12_rat_70 ?_
      refine lv_topi (nm_r (e' := 82) (by decide) ?_)
      refine lv_iload_n hx hb dX12_rat_71 rfl (lv_at hl 1 rfl) ?_
      refine lv_topi (nm_r (e' := nI rn) ern ?_)
      refine lv_iadd hx hb dX12_rat_72 ?_
      refine lv_topi (nm_r (e' := nI (82 + rn)) (nI_add 82 rn) ?_)
      refine z_iald (v := σ 9 rn) (f := g_m 59) (j := 82 + rn) hx hb hK.1 hW.1 42 0 rfl rfl (vp_in_nI (n := 82 + rn) (by omega) (by decide)) (nI_clamp (n := 82 + rn) (by omega)) (MR.r9 hKN.mr (r := rn) (by omega)) dX12_rat_73 ?_
      refine z_ireti (() : Unit) hx hb hr hlocks rfl hW rfl dX12_rat_74 ?_
      show (σ 9 rn) = ratO cn σ rx wx
      unfold ratO
      first | (rw [zi_f (by assumption)]; done) | (rw [zi_t (by assumption), crn]; simp [ratW, c_9])
    by_cases c_10 : wx = (6 : Int32)
    · refine lv_tableIn (off := 49) (tgt := 60) hx hb dX12_rat_11 (by rw [c_10]; decide) (by rw [c_10]; decide) (by rw [c_10]; rfl) (by decide) ?_
      refine lv_aload_n hx hb dX12_rat_60 rfl (lv_at hl 0 rfl) ?_
      refine va_get (v := .ref (ad_m 59)) (C := RX12) (T := TX12) (N := 75) (ci := 11) hx hb hts in_X12 hown hK.1 hW.1 0 rfl rfl 59 (by decide) (hts _ q1695) (fun _ h9 => h9) rfl dX12_rat_61 ?_
      refine lv_bipush (v := 42) hx hb dX12_rat_64 (by decide) ?_
      refine lv_bipush (v := 8) hx hb dX12_rat_66 (by decide) ?_
      refine lv_iload_n hx hb dX12_rat_68 rfl (lv_at hl 2 rfl) ?_
      refine lv_topi (nm_r (e' := 6) c_10 ?_)
      refine lv_imul hx hb dX12_rat_69 ?_
      refine lv_topi (nm_r (e' := 48) (by decide) ?_)
      refine lv_iadd hx hb dX12_rat_70 ?_
      refine lv_topi (nm_r (e' := 90) (by decide) ?_)
      refine lv_iload_n hx hb dX12_rat_71 rfl (lv_at hl 1 rfl) ?_
      refine lv_topi (nm_r (e' := nI rn) ern ?_)
      refine lv_iadd hx hb dX12_rat_72 ?_
      refine lv_topi (nm_r (e' := nI (90 + rn)) (nI_add 90 rn) ?_)
      refine z_iald (v := σ 10 rn) (f := g_m 59) (j := 90 + rn) hx hb hK.1 hW.1 42 0 rfl rfl (vp_in_nI (n := 90 + rn) (by omega) (by decide)) (nI_clamp (n := 90 + rn) (by omega)) (MR.r10 hKN.mr (r := rn) (by omega)) dX12_rat_73 ?_
      refine z_ireti (() : Unit) hx hb hr hlocks rfl hW rfl dX12_rat_74 ?_
      show (σ 10 rn) = ratO cn σ rx wx
      unfold ratO
      first | (rw [zi_f (by assumption)]; done) | (rw [zi_t (by assumption), crn]; simp [ratW, c_10])
    by_cases c_11 : wx = (7 : Int32)
    · refine lv_tableIn (off := 49) (tgt := 60) hx hb dX12_rat_11 (by rw [c_11]; decide) (by rw [c_11]; decide) (by rw [c_11]; rfl) (by decide) ?_
      refine lv_aload_n hx hb dX12_rat_60 rfl (lv_at hl 0 rfl) ?_
      refine va_get (v := .ref (ad_m 59)) (C := RX12) (T := TX12) (N := 75) (ci := 11) hx hb hts in_X12 hown hK.1 hW.1 0 rfl rfl 59 (by decide) (hts _ q1695) (fun _ h9 => h9) rfl dX12_rat_61 ?_
      refine lv_bipush (v := 42) hx hb dX12_rat_64 (by decide) ?_
      refine lv_bipush (v := 8) hx hb dX12_rat_66 (by decide) ?_
      refine lv_iload_n hx hb dX12_rat_68 rfl (lv_at hl 2 rfl) ?_
      refine lv_topi (nm_r (e' := 7) c_11 ?_)
      refine lv_imul hx hb dX12_rat_69 ?_
      refine lv_topi (nm_r (e' := 56) (by decide) ?_)
      refine lv_iadd hx hb dX12_rat_70 ?_
      refine lv_topi (nm_r (e' := 98) (by decide) ?_)
      refine lv_iload_n hx hb dX12_rat_71 rfl (lv_at hl 1 rfl) ?_
      refine lv_topi (nm_r (e' := nI rn) ern ?_)
      refine lv_iadd hx hb dX12_rat_72 ?_
      refine lv_topi (nm_r (e' := nI (98 + rn)) (nI_add 98 rn) ?_)
      refine z_iald (v := σ 11 rn) (f := g_m 59) (j := 98 + rn) hx hb hK.1 hW.1 42 0 rfl rfl (vp_in_nI (n := 98 + rn) (by omega) (by decide)) (nI_clamp (n := 98 + rn) (by omega)) (MR.r11 hKN.mr (r := rn) (by omega)) dX12_rat_73 ?_
      refine z_ireti (() : Unit) hx hb hr hlocks rfl hW rfl dX12_rat_74 ?_
      show (σ 11 rn) = ratO cn σ rx wx
      unfold ratO
      first | (rw [zi_f (by assumption)]; done) | (rw [zi_t (by assumption), crn]; simp [ratW, c_11])
    by_cases c_12 : wx = (8 : Int32)
    · refine lv_tableIn (off := 64) (tgt := 75) hx hb dX12_rat_11 (by rw [c_12]; decide) (by rw [c_12]; decide) (by rw [c_12]; rfl) (by decide) ?_
      refine lv_aload_n hx hb dX12_rat_75 rfl (lv_at hl 0 rfl) ?_
      refine va_get (v := .ref (ad_m 59)) (C := RX12) (T := TX12) (N := 75) (ci := 11) hx hb hts in_X12 hown hK.1 hW.1 0 rfl rfl 59 (by decide) (hts _ q1695) (fun _ h9 => h9) rfl dX12_rat_76 ?_
      refine lv_bipush (v := 106) hx hb dX12_rat_79 (by decide) ?_
      refine lv_iload_n hx hb dX12_rat_81 rfl (lv_at hl 1 rfl) ?_
      refine lv_topi (nm_r (e' := nI rn) ern ?_)
      refine lv_iadd hx hb dX12_rat_82 ?_
      refine lv_topi (nm_r (e' := nI (106 + rn)) (nI_add 106 rn) ?_)
      refine z_iald (v := σ 7 rn) (f := g_m 59) (j := 106 + rn) hx hb hK.1 hW.1 42 0 rfl rfl (vp_in_nI (n := 106 + rn) (by omega) (by decide)) (nI_clamp (n := 106 + rn) (by omega)) (MR.r7 hKN.mr (r := rn) (by omega)) dX12_rat_83 ?_
      refine z_ireti (() : Unit) hx hb hr hlocks rfl hW rfl dX12_rat_84 ?_
      show (σ 7 rn) = ratO cn σ rx wx
      unfold ratO
      first | (rw [zi_f (by assumption)]; done) | (rw [zi_t (by assumption), crn]; simp [ratW, c_12])
    have hsw : wx.toInt < 0 ∨ 8 < wx.toInt := by
      have hc_4 := lv_neT c_4 (a := 0) (by decide)
      have hc_5 := lv_neT c_5 (a := 1) (by decide)
      have hc_6 := lv_neT c_6 (a := 2) (by decide)
      have hc_7 := lv_neT c_7 (a := 3) (by decide)
      have hc_8 := lv_neT c_8 (a := 4) (by decide)
      have hc_9 := lv_neT c_9 (a := 5) (by decide)
      have hc_10 := lv_neT c_10 (a := 6) (by decide)
      have hc_11 := lv_neT c_11 (a := 7) (by decide)
      have hc_12 := lv_neT c_12 (a := 8) (by decide)
      omega
    refine lv_tableOut (tgt := 85) hx hb dX12_rat_11 hsw (by decide) ?_
    refine lv_iconst (v := (-1)) hx hb dX12_rat_85 (by decide) ?_
    refine z_ireti (() : Unit) hx hb hr hlocks rfl hW rfl dX12_rat_86 ?_
    show (-1) = ratO cn σ rx wx
    unfold ratO
    first | (rw [zi_f (by assumption)]; done) | (rw [zi_t (by assumption), crn]; simp [ratW, c_4, c_5, c_6, c_7, c_8, c_9, c_10, c_11, c_12])
  · have c_3 : ¬ (vp_in rx (cn 2)) := zb_eq hp_2 c_3
    refine lv_iconst (v := (-1)) hx hb dX12_rat_8 (by decide) ?_
    refine z_ireti (() : Unit) hx hb hr hlocks rfl hW rfl dX12_rat_9 ?_
    show (-1) = ratO cn σ rx wx
    unfold ratO
    first | (rw [zi_f (by assumption)]; done) | (rw [zi_t (by assumption), crn]; simp [ratW, crn])
set_option maxHeartbeats 4000000 in
set_option maxRecDepth 100000 in
theorem m_X12_worth (l : Launch) (D : va_G) (Y : Nat → ClassId) (ad_m : Nat → Nat) (g_m : Nat → Nat → Int32) (w_m : Nat → Nat → Int64) (lv : Nat) (cn : Nat → Nat) (t : tab) (lw : Nat → Option LAW) (σ : tab) (U : List tab) (un : Nat) (B_ : Int) (ax : Int32) (sz : Nat) (hlv : lv < 2) (hTW : TW cn t lw) (hTM : TM lv cn t lw g_m) (hKN : KN (cn 2) σ U (g_m 59) (g_m 65) un) (hF1 : ∀ h, h < cn 1 → σ 1 h = t 2 h) (hF2 : σ 18 0 = t 12 2) (hWF : WF cn B_ σ) : Met l yX12_worth (ws_ yX12_worth cX12_worth 2 (some .int)) ({ frames := 3, cells := 0, slots := 0, locals := 55 }) (zPc D Y [.ref (ad_m 0), .int ax] sz (wj []) (wj [(mw Y ad_m (sA 64 (fun _ => nI un) (sA 18 (fun _ => nI lv) g_m)) w_m)])) (va_Qi (fun (r : Int32) (u : (Nat → Int32) × (Int32) × (Nat → Int32)) => r = worthO cn t σ ax) (zB D (fun (u : (Nat → Int32) × (Int32) × (Nat → Int32)) => (wj [(mw Y ad_m (sA 64 (fun _ => nI un) (sA 62 u.2.2 (sA 61 (fun _ => u.2.1) (sA 60 u.1 (sA 18 (fun _ => nI lv) g_m))))) w_m)])) (va_A (wj [(mw Y ad_m (sA 64 (fun _ => nI un) (sA 18 (fun _ => nI lv) g_m)) w_m)]) sz)) (va_A (wj [(mw Y ad_m (sA 64 (fun _ => nI un) (sA 18 (fun _ => nI lv) g_m)) w_m)]) sz)) 0 0 (va_A (wj [(mw Y ad_m (sA 64 (fun _ => nI un) (sA 18 (fun _ => nI lv) g_m)) w_m)]) sz) := by
  refine Met.ofW (cc := cX12_worth) (maxL := 2) (ret := (some .int)) (by decide) rfl ?_
  intro p e s m args below meth c s₁ B hml hv
  obtain ⟨rfl, hsz, hW, hR, hK, hA⟩ := zEntry hv
  subst hsz
  have hx := B.exec
  have hb := B.bytes
  have hr := B.returns
  have hlocks := B.notSynchronized
  have hts : ∀ w ∈ lw_all, w.before _ s = true := fun w h => atoms_spec (ws := (ws_ yX12_worth cX12_worth 2 (some .int))) B.pre w (List.mem_cons_of_mem _ h)
  have hown : s.vm.findClass RX12 = some m.cls := findClass_of_methodNamed B.named
  generalize hAe : va_A (wj [(mw Y ad_m (sA 64 (fun _ => nI un) (sA 18 (fun _ => nI lv) g_m)) w_m)]) s.heap.size = A at hW hR hA ⊢
  have hl := lv_entry ([.ref (ad_m 0), .int ax]) (n := 2) (Nat.le_of_ble_eq_true rfl)
  rw [lg_entry_eq]
  generalize (lg_sl ([.ref (ad_m 0), .int ax]) ++ List.replicate (2 - (lg_sl ([.ref (ad_m 0), .int ax])).length) Slot.unset).toArray = ls at hl ⊢
  have hl : lv_has ls 2 [(0, .ref (ad_m 0)), (1, .int ax)] := hl
  have hk8 := hTW.n2
  have hk6 := hTW.n1
  have hk60 := hTW.n0
  have hk5 := hTW.n3
  refine lv_aload_n hx hb dX12_worth_0 rfl (lv_at hl 0 rfl) ?_
  refine lv_iload_n hx hb dX12_worth_1 rfl (lv_at hl 1 rfl) ?_
  refine z_calli (wc := wj [(mw Y ad_m (sA 64 (fun _ => nI un) (sA 18 (fun _ => nI lv) g_m)) w_m)]) (wr := wj []) (va_runV (As := [.int ax]) (rest := []) ⟨hx, hb, hml, hown, hts⟩ (m_X12_isHole l D Y ad_m (sA 64 (fun _ => nI un) (sA 18 (fun _ => nI lv) g_m)) w_m lv cn t lw ax s.heap.size (show lv < 2 from by exact hlv) (show TW cn t lw from by exact hTW) (show TM lv cn t lw (sA 64 (fun _ => nI un) (sA 18 (fun _ => nI lv) g_m)) from by exact hTM)) (cwV 1 hts (lw_V q2004 q2006 qs84 q133 q2007) rfl rfl rfl (by decide +kernel) ⟨Nat.le_of_ble_eq_true rfl, Nat.le_of_ble_eq_true rfl⟩) (zPreV hK hW hR (wj_split3 (B := [(mw Y ad_m (sA 64 (fun _ => nI un) (sA 18 (fun _ => nI lv) g_m)) w_m)]) (R := []) (C := [(mw Y ad_m (sA 64 (fun _ => nI un) (sA 18 (fun _ => nI lv) g_m)) w_m)]) (O := []) (X := []) (List.Perm.refl _)) (va_recv hK.1 hW.1 (ci := 11) (q0 := 0) rfl rfl)) rfl rfl hl.1 rfl (lv_room (Nat.le_of_ble_eq_true rfl)) dX12_worth_2 ⟨Nat.le_refl _, Nat.le_refl _⟩) hW hA (wj_split (B := [(mw Y ad_m (sA 64 (fun _ => nI un) (sA 18 (fun _ => nI lv) g_m)) w_m)]) (C := [(mw Y ad_m (sA 64 (fun _ => nI un) (sA 18 (fun _ => nI lv) g_m)) w_m)]) (R := []) (List.Perm.refl _)) (fun r_1 u H locs hp_2 hW => ?_)
  have hp_2 : r_1 = zb (vp_in ax (cn 1)) := hp_2
  have hW : zW D A s.heap H locs (wj [(mw Y ad_m (sA 64 (fun _ => nI un) (sA 18 (fun _ => nI lv) g_m)) w_m)]) := hW.join
  refine lv_if_ne (tgt := 10) hx hb dX12_worth_5 (by decide) (fun c_3 => ?_) (fun c_3 => ?_)
  · have c_3 : vp_in ax (cn 1) := zb_ne hp_2 c_3
    obtain ⟨an, han, ean⟩ := vp_in_of c_3 (by omega)
    have can : ax.toNatClampNeg = an := by rw [ean]; exact nI_clamp (by omega)
    refine lv_aload_n hx hb dX12_worth_10 rfl (lv_at hl 0 rfl) ?_
    refine z_callv (wc := wj [(mw Y ad_m (sA 64 (fun _ => nI un) (sA 18 (fun _ => nI lv) g_m)) w_m)]) (wr := wj []) (va_runV (As := []) (rest := []) ⟨hx, hb, hml, hown, hts⟩ (m_X12_copies l D Y ad_m (sA 64 (fun _ => nI un) (sA 18 (fun _ => nI lv) g_m)) w_m lv cn t lw σ H.size (show lv < 2 from by exact hlv) (show TW cn t lw from by exact hTW) (show TM lv cn t lw (sA 64 (fun _ => nI un) (sA 18 (fun _ => nI lv) g_m)) from by exact hTM) (show MR (cn 2) σ (g_m 59) from by exact hKN.mr) (show ∀ h, h < cn 1 → σ 1 h = t 2 h from by exact hF1) (show σ 18 0 = t 12 2 from by exact hF2)) (cwV 0 hts (lw_V q2020 q2022 qs86 q133 q2023) rfl rfl rfl (by decide +kernel) ⟨Nat.le_of_ble_eq_true rfl, Nat.le_of_ble_eq_true rfl⟩) (zPreV hK hW hR (wj_split3 (B := [(mw Y ad_m (sA 64 (fun _ => nI un) (sA 18 (fun _ => nI lv) g_m)) w_m)]) (R := []) (C := [(mw Y ad_m (sA 64 (fun _ => nI un) (sA 18 (fun _ => nI lv) g_m)) w_m)]) (O := []) (X := []) (List.Perm.refl _)) (va_recv hK.1 hW.1 (ci := 11) (q0 := 0) rfl rfl)) rfl rfl hl.1 rfl (lv_room (Nat.le_of_ble_eq_true rfl)) dX12_worth_11 ⟨Nat.le_refl _, Nat.le_refl _⟩) hW hA (wj_split (B := [(mw Y ad_m (sA 64 (fun _ => nI un) (sA 18 (fun _ => nI lv) g_m)) w_m)]) (C := [(mw Y ad_m (sA 64 (fun _ => nI un) (sA 18 (fun _ => nI lv) g_m)) w_m)]) (R := []) (List.Perm.refl _)) (fun  u H locs hp_5 hW => ?_)
    obtain ⟨urow_6, ulots_7, ufarNow_8⟩ := u
    have hp_5 : RS cn σ urow_6 ufarNow_8 ulots_7 := hp_5
    have hW : zW D A s.heap H locs (wj [(mw Y ad_m (sA 64 (fun _ => nI un) (sA 62 ufarNow_8 (sA 61 (fun _ => ulots_7) (sA 60 urow_6 (sA 18 (fun _ => nI lv) g_m))))) w_m)]) := hW.join
    refine lv_aload_n hx hb dX12_worth_14 rfl (lv_at hl 0 rfl) ?_
    refine lv_iload_n hx hb dX12_worth_15 rfl (lv_at hl 1 rfl) ?_
    refine lv_topi (nm_r (e' := nI an) ean ?_)
    refine z_calli (wc := wj [(mw Y ad_m (sA 64 (fun _ => nI un) (sA 62 ufarNow_8 (sA 61 (fun _ => ulots_7) (sA 60 urow_6 (sA 18 (fun _ => nI lv) g_m))))) w_m)]) (wr := wj []) (va_runV (As := [.int (nI an)]) (rest := []) ⟨hx, hb, hml, hown, hts⟩ (m_X12_worthOf l D Y ad_m (sA 64 (fun _ => nI un) (sA 62 ufarNow_8 (sA 61 (fun _ => ulots_7) (sA 60 urow_6 (sA 18 (fun _ => nI lv) g_m))))) w_m lv cn t lw σ an H.size (show lv < 2 from by exact hlv) (show TW cn t lw from by exact hTW) (show TM lv cn t lw (sA 64 (fun _ => nI un) (sA 62 ufarNow_8 (sA 61 (fun _ => ulots_7) (sA 60 urow_6 (sA 18 (fun _ => nI lv) g_m))))) from by exact hTM) (show RS cn σ urow_6 ufarNow_8 ulots_7 from by exact hp_5) (show an < cn 1 from by first | assumption | omega | grind)) (cwV 1 hts (lw_V q2024 q2026 qs87 q133 q2027) rfl rfl rfl (by decide +kernel) ⟨Nat.le_of_ble_eq_true rfl, Nat.le_of_ble_eq_true rfl⟩) (zPreV hK hW hR (wj_split3 (B := [(mw Y ad_m (sA 64 (fun _ => nI un) (sA 62 ufarNow_8 (sA 61 (fun _ => ulots_7) (sA 60 urow_6 (sA 18 (fun _ => nI lv) g_m))))) w_m)]) (R := []) (C := [(mw Y ad_m (sA 64 (fun _ => nI un) (sA 62 ufarNow_8 (sA 61 (fun _ => ulots_7) (sA 60 urow_6 (sA 18 (fun _ => nI lv) g_m))))) w_m)]) (O := []) (X := []) (List.Perm.refl _)) (va_recv hK.1 hW.1 (ci := 11) (q0 := 0) rfl rfl)) rfl rfl hl.1 rfl (lv_room (Nat.le_of_ble_eq_true rfl)) dX12_worth_16 ⟨Nat.le_refl _, Nat.le_refl _⟩) hW hA (wj_split (B := [(mw Y ad_m (sA 64 (fun _ => nI un) (sA 62 ufarNow_8 (sA 61 (fun _ => ulots_7) (sA 60 urow_6 (sA 18 (fun _ => nI lv) g_m))))) w_m)]) (C := [(mw Y ad_m (sA 64 (fun _ => nI un) (sA 62 ufarNow_8 (sA 61 (fun _ => ulots_7) (sA 60 urow_6 (sA 18 (fun _ => nI lv) g_m))))) w_m)]) (R := []) (List.Perm.refl _)) (fun r_9 u H locs hp_10 hW => ?_)
    have hp_10 : r_9 = worthP t σ an := hp_10
    have hW : zW D A s.heap H locs (wj [(mw Y ad_m (sA 64 (fun _ => nI un) (sA 62 ufarNow_8 (sA 61 (fun _ => ulots_7) (sA 60 urow_6 (sA 18 (fun _ => nI lv) g_m))))) w_m)]) := hW.join
    refine z_ireti ((urow_6, ulots_7, ufarNow_8) : (Nat → Int32) × (Int32) × (Nat → Int32)) hx hb hr hlocks rfl hW rfl dX12_worth_19 ?_
    show r_9 = worthO cn t σ ax
    unfold worthO
    first | (rw [zi_t (by assumption), can]; assumption) | (rw [zi_f (by assumption)])
  · have c_3 : ¬ (vp_in ax (cn 1)) := zb_eq hp_2 c_3
    refine lv_iconst (v := (-1)) hx hb dX12_worth_8 (by decide) ?_
    refine z_ireti ((g_m 60, g_m 61 0, g_m 62) : (Nat → Int32) × (Int32) × (Nat → Int32)) hx hb hr hlocks rfl hW rfl dX12_worth_9 ?_
    show (-1) = worthO cn t σ ax
    unfold worthO
    first | (rw [zi_t (by assumption), can]; assumption) | (rw [zi_f (by assumption)])
set_option maxHeartbeats 4000000 in
set_option maxRecDepth 100000 in
theorem m_X12_keeps (l : Launch) (D : va_G) (Y : Nat → ClassId) (ad_m : Nat → Nat) (g_m : Nat → Nat → Int32) (w_m : Nat → Nat → Int64) (un : Nat) (kn : Nat) (σ : tab) (τ : tab) (U : List tab) (sz : Nat) (hkn : kn ≤ 8) (hKN : KN kn σ U (g_m 59) (g_m 65) un) (hMT : MR kn τ (g_m 60)) : Met l yX12_keeps (ws_ yX12_keeps cX12_keeps 2 none) ({ frames := 2, cells := 0, slots := 0, locals := 33 }) (zPc D Y [.ref (ad_m 0)] sz (wj []) (wj [(mw Y ad_m (sA 64 (fun _ => nI un) g_m) w_m)])) (va_Qv (fun (u : (Nat → Int32) × (Nat → Int32) × (Nat)) => KN kn τ (pushU U σ) u.1 u.2.1 u.2.2) (zB D (fun (u : (Nat → Int32) × (Nat → Int32) × (Nat)) => (wj [(mw Y ad_m (sA 65 u.2.1 (sA 64 (fun _ => nI u.2.2) (sA 59 u.1 g_m))) w_m)])) (va_A (wj [(mw Y ad_m (sA 64 (fun _ => nI un) g_m) w_m)]) sz)) (va_A (wj [(mw Y ad_m (sA 64 (fun _ => nI un) g_m) w_m)]) sz)) 0 0 (va_A (wj [(mw Y ad_m (sA 64 (fun _ => nI un) g_m) w_m)]) sz) := by
  refine Met.ofW (cc := cX12_keeps) (maxL := 2) (ret := none) (by decide) rfl ?_
  intro p e s m args below meth c s₁ B hml hv
  obtain ⟨rfl, hsz, hW, hR, hK, hA⟩ := zEntry hv
  subst hsz
  have hx := B.exec
  have hb := B.bytes
  have hr := B.returns
  have hlocks := B.notSynchronized
  have hts : ∀ w ∈ lw_all, w.before _ s = true := fun w h => atoms_spec (ws := (ws_ yX12_keeps cX12_keeps 2 none)) B.pre w (List.mem_cons_of_mem _ h)
  have hown : s.vm.findClass RX12 = some m.cls := findClass_of_methodNamed B.named
  generalize hAe : va_A (wj [(mw Y ad_m (sA 64 (fun _ => nI un) g_m) w_m)]) s.heap.size = A at hW hR hA ⊢
  have hl := lv_entry ([.ref (ad_m 0)]) (n := 2) (Nat.le_of_ble_eq_true rfl)
  rw [lg_entry_eq]
  generalize (lg_sl ([.ref (ad_m 0)]) ++ List.replicate (2 - (lg_sl ([.ref (ad_m 0)])).length) Slot.unset).toArray = ls at hl ⊢
  have hl : lv_has ls 2 [(0, .ref (ad_m 0))] := hl
  have hu40 : un ≤ 40 := by have h4 := hKN.2.2.2; have h3 := hKN.2.2.1; omega
  refine lv_aload_n hx hb dX12_keeps_0 rfl (lv_at hl 0 rfl) ?_
  refine va_get (v := .int (nI un)) (C := RX12) (T := TX12) (N := 75) (ci := 11) hx hb hts in_X12 hown hK.1 hW.1 0 rfl rfl 64 (by decide) (hts _ q1700) (fun _ h9 => h9) rfl dX12_keeps_1 ?_
  refine lv_bipush (v := 40) hx hb dX12_keeps_4 (by decide) ?_
  have join_49 : ∀ (x_history_49 : Nat → Int32) (u1 : Nat), (u1 = if un = 40 then 39 else un) → (∀ i j, i < u1 → j < 120 → x_history_49 (120 * i + j) = (g_m 65) (120 * (if un = 40 then i + 1 else i) + j)) → ∀ (H : Heap) (locs : List Loc), zW D A s.heap H locs (wj [(mw Y ad_m (sA 65 x_history_49 (sA 64 (fun _ => nI u1) g_m)) w_m)]) → ∀ (ls : Array Slot), lv_has ls 2 [(0, .ref (ad_m 0))] → W p l e (headSpec (ws_ yX12_keeps cX12_keeps 2 none) ({ frames := 2, cells := 0, slots := 0, locals := 33 })).room s m ([.ref (ad_m 0)] : List Value).toArray below meth c H locs 0 0 (MQ below (va_Qv (fun (u : (Nat → Int32) × (Nat → Int32) × (Nat)) => KN kn τ (pushU U σ) u.1 u.2.1 u.2.2) (zB D (fun (u : (Nat → Int32) × (Nat → Int32) × (Nat)) => (wj [(mw Y ad_m (sA 65 u.2.1 (sA 64 (fun _ => nI u.2.2) (sA 59 u.1 g_m))) w_m)])) A) A) ([.ref (ad_m 0)] : List Value).toArray s 0 0 A) (F0 m 49 ls []) := by
    intro x_history_49 u1 hu1 hh3 H locs hW ls hl
    have hu1b : u1 < 40 := by rw [hu1]; split <;> omega
    refine lv_iconst (v := 0) hx hb dX12_keeps_49 (by decide) ?_
    refine lv_istore_n (lv' := [(1, .int 0), (0, .ref (ad_m 0))]) hx hb dX12_keeps_50 rfl hl (by decide) rfl (fun ls hl => ?_)
    have loop_51 : ∀ (n : Nat) (k2 : Nat) (x_history_51 : Nat → Int32), 120 - k2 < n → (k2 ≤ 120) → (∀ i j, i < u1 → j < 120 → x_history_51 (120 * i + j) = (g_m 65) (120 * (if un = 40 then i + 1 else i) + j)) → (∀ j, j < k2 → x_history_51 (120 * u1 + j) = (g_m 59) j) → ∀ (H : Heap) (locs : List Loc), zW D A s.heap H locs (wj [(mw Y ad_m (sA 65 x_history_51 (sA 64 (fun _ => nI u1) g_m)) w_m)]) → ∀ (ls : Array Slot), lv_has ls 2 [(1, .int (nI k2)), (0, .ref (ad_m 0))] → W p l e (headSpec (ws_ yX12_keeps cX12_keeps 2 none) ({ frames := 2, cells := 0, slots := 0, locals := 33 })).room s m ([.ref (ad_m 0)] : List Value).toArray below meth c H locs 0 0 (MQ below (va_Qv (fun (u : (Nat → Int32) × (Nat → Int32) × (Nat)) => KN kn τ (pushU U σ) u.1 u.2.1 u.2.2) (zB D (fun (u : (Nat → Int32) × (Nat → Int32) × (Nat)) => (wj [(mw Y ad_m (sA 65 u.2.1 (sA 64 (fun _ => nI u.2.2) (sA 59 u.1 g_m))) w_m)])) A) A) ([.ref (ad_m 0)] : List Value).toArray s 0 0 A) (F0 m 51 ls []) := by
      intro n
      induction n with
      | zero =>
        intro k2 x_history_51 hmz
        exact absurd hmz (Nat.not_lt_zero _)
      | succ n ih =>
        intro k2 x_history_51 hm_51 hk2 hh4 hh5 H locs hW ls hl
        have ih_51 := ih
        clear ih
        refine lv_iload_n hx hb dX12_keeps_51 rfl (lv_at hl 0 rfl) ?_
        refine lv_bipush (v := 120) hx hb dX12_keeps_52 (by decide) ?_
        refine lv_icmp_ge (tgt := 83) hx hb dX12_keeps_54 (by decide) (fun c_2 => ?_) (fun c_2 => ?_)
        · have c_2 : 120 ≤ k2 := (nI_leI (a := 120) (b := k2) (by omega) (by omega)).mp c_2
          refine lv_aload_n hx hb dX12_keeps_83 rfl (lv_at hl 1 rfl) ?_
          refine lv_dup hx hb dX12_keeps_84 rfl ?_
          refine va_get (v := .int (nI u1)) (C := RX12) (T := TX12) (N := 75) (ci := 11) hx hb hts in_X12 hown hK.1 hW.1 0 rfl rfl 64 (by decide) (hts _ q1700) (fun _ h9 => h9) rfl dX12_keeps_85 ?_
          refine lv_iconst (v := 1) hx hb dX12_keeps_88 (by decide) ?_
          refine lv_iadd hx hb dX12_keeps_89 ?_
          refine lv_topi (nm_r (e' := nI (u1 + 1)) (nI_add u1 1) ?_)
          refine z_put (v := .int (nI (u1 + 1))) (C := RX12) (T := TX12) (N := 75) (ci := 11) (wn := (wj [(mw Y ad_m (sA 65 x_history_51 (sA 64 (fun _ => nI (u1 + 1)) g_m)) w_m)])) hx hb hts in_X12 tyX12 tyX12_ok nmX12 hown hK.1 hW 0 rfl rfl 64 (by decide) (hts _ q1700) (fun _ h9 => h9) rfl rfl rfl (Nat.le_of_ble_eq_true rfl) dX12_keeps_90 rfl (fun H locs hW => ?_)
          refine lv_aload_n hx hb dX12_keeps_93 rfl (lv_at hl 1 rfl) ?_
          refine z_callv (wc := wj [(mw Y ad_m (sA 65 x_history_51 (sA 64 (fun _ => nI (u1 + 1)) g_m)) w_m)]) (wr := wj []) (va_runV (As := []) (rest := []) ⟨hx, hb, hml, hown, hts⟩ (m_X12_keepsRow l D Y ad_m (sA 65 x_history_51 (sA 64 (fun _ => nI (u1 + 1)) g_m)) w_m H.size) (cwV 0 hts (lw_V q1633 q1635 qs56 q133 q1636) rfl rfl rfl (by decide +kernel) ⟨Nat.le_of_ble_eq_true rfl, Nat.le_of_ble_eq_true rfl⟩) (zPreV hK hW hR (wj_split3 (B := [(mw Y ad_m (sA 65 x_history_51 (sA 64 (fun _ => nI (u1 + 1)) g_m)) w_m)]) (R := []) (C := [(mw Y ad_m (sA 65 x_history_51 (sA 64 (fun _ => nI (u1 + 1)) g_m)) w_m)]) (O := []) (X := []) (List.Perm.refl _)) (va_recv hK.1 hW.1 (ci := 11) (q0 := 0) rfl rfl)) rfl rfl hl.1 rfl (lv_room (Nat.le_of_ble_eq_true rfl)) dX12_keeps_94 ⟨Nat.le_refl _, Nat.le_refl _⟩) hW hA (wj_split (B := [(mw Y ad_m (sA 65 x_history_51 (sA 64 (fun _ => nI (u1 + 1)) g_m)) w_m)]) (C := [(mw Y ad_m (sA 65 x_history_51 (sA 64 (fun _ => nI (u1 + 1)) g_m)) w_m)]) (R := []) (List.Perm.refl _)) (fun  u H locs hp_4 hW => ?_)
          obtain ⟨unow_5, rfl⟩ : ∃ z, z = u := ⟨_, rfl⟩
          have hp_4 : ∀ j, j < 120 → unow_5 j = (g_m 60) j := hp_4
          have hW : zW D A s.heap H locs (wj [(mw Y ad_m (sA 65 x_history_51 (sA 64 (fun _ => nI (u1 + 1)) (sA 59 unow_5 g_m))) w_m)]) := hW.join
          refine z_vret ((unow_5, x_history_51, u1 + 1) : (Nat → Int32) × (Nat → Int32) × (Nat)) hx hb hr hlocks hW rfl dX12_keeps_97 ?_
          show KN kn τ (pushU U σ) unow_5 x_history_51 (u1 + 1)
          have ek2 : k2 = 120 := by omega
          exact hKN.push hkn (hMT.copy hkn hp_4) (by rw [hu1]; split <;> omega) (fun i j hi hj => hh4 i j (by omega) hj) (fun j hj => by rw [show u1 + 1 - 1 = u1 by omega]; exact hh5 j (by omega))
        · have c_2 : ¬ (120 ≤ k2) := fun hz_ => c_2 ((nI_leI (a := 120) (b := k2) (by omega) (by omega)).mpr hz_)
          refine lv_aload_n hx hb dX12_keeps_57 rfl (lv_at hl 1 rfl) ?_
          refine va_get (v := .ref (ad_m 65)) (C := RX12) (T := TX12) (N := 75) (ci := 11) hx hb hts in_X12 hown hK.1 hW.1 0 rfl rfl 65 (by decide) (hts _ q1701) (fun _ h9 => h9) rfl dX12_keeps_58 ?_
          refine lv_bipush (v := 120) hx hb dX12_keeps_61 (by decide) ?_
          refine lv_aload_n hx hb dX12_keeps_63 rfl (lv_at hl 1 rfl) ?_
          refine va_get (v := .int (nI u1)) (C := RX12) (T := TX12) (N := 75) (ci := 11) hx hb hts in_X12 hown hK.1 hW.1 0 rfl rfl 64 (by decide) (hts _ q1700) (fun _ h9 => h9) rfl dX12_keeps_64 ?_
          refine lv_imul hx hb dX12_keeps_67 ?_
          refine lv_topi (nm_r (e' := nI (120 * u1)) (pk_mul 120 u1) ?_)
          refine lv_iload_n hx hb dX12_keeps_68 rfl (lv_at hl 0 rfl) ?_
          refine lv_iadd hx hb dX12_keeps_69 ?_
          refine lv_topi (nm_r (e' := nI (120 * u1 + k2)) (nI_add (120 * u1) k2) ?_)
          refine lv_aload_n hx hb dX12_keeps_70 rfl (lv_at hl 1 rfl) ?_
          refine va_get (v := .ref (ad_m 59)) (C := RX12) (T := TX12) (N := 75) (ci := 11) hx hb hts in_X12 hown hK.1 hW.1 0 rfl rfl 59 (by decide) (hts _ q1695) (fun _ h9 => h9) rfl dX12_keeps_71 ?_
          refine lv_iload_n hx hb dX12_keeps_74 rfl (lv_at hl 0 rfl) ?_
          refine z_iald (v := (g_m 59) k2) (f := g_m 59) (j := k2) hx hb hK.1 hW.1 42 0 rfl rfl (vp_in_nI (n := k2) (by omega) (by decide)) (nI_clamp (n := k2) (by omega)) rfl dX12_keeps_75 ?_
          refine z_iast (x := (g_m 59) k2) (f := x_history_51) (j := 120 * u1 + k2) (wn := (wj [(mw Y ad_m (sA 65 (upd x_history_51 (120 * u1 + k2) ((g_m 59) k2)) (sA 64 (fun _ => nI u1) g_m)) w_m)])) hx hb hK.1 hW 46 0 rfl rfl (vp_in_nI (n := 120 * u1 + k2) (by omega) (by decide)) (nI_clamp (n := 120 * u1 + k2) (by omega)) dX12_keeps_76 rfl (fun H locs hW => ?_)
          refine lv_iinc (v := nI (k2 + 1)) (lv' := [(1, .int (nI (k2 + 1))), (0, .ref (ad_m 0))]) hx hb dX12_keeps_77 hl (k := 0) rfl (nI_add k2 1) (by decide) rfl (fun ls hl => ?_)
          refine lv_goto (tgt := 51) hx hb dX12_keeps_80 (by decide) ?_
          exact ih_51 (k2 + 1) (upd x_history_51 (120 * u1 + k2) ((g_m 59) k2)) (by omega) (by omega) (by intro i j hi hj; rw [← hh4 i j hi hj]; exact pk_un (by omega)) (by intro j hj; unfold upd; split <;> grind) _ _ hW _ (lv_sub hl [0, 1] rfl)
    exact loop_51 _ 0 x_history_49 (Nat.lt_succ_self _) (by omega) (by exact hh3) (by intro j hj; omega) _ _ hW _ (lv_sub hl [0, 1] rfl)
  refine lv_icmp_ne (tgt := 49) hx hb dX12_keeps_6 (by decide) (fun c_6 => ?_) (fun c_6 => ?_)
  · have c_6 : ¬ (un = 40) := fun hz_ => c_6 ((nI_eq (a := un) (b := 40) (by omega) (by omega)).mpr hz_)
    exact join_49 (g_m 65) un (by split <;> omega) (by intro i j hi hj; split <;> first | rfl | omega | (rw [hh1 _ (by omega)]; congr 1; omega)) _ _ hW _ (lv_sub hl [0] rfl)
  · have c_6 : un = 40 := (nI_eq (a := un) (b := 40) (by omega) (by omega)).mp c_6
    refine lv_iconst (v := 0) hx hb dX12_keeps_9 (by decide) ?_
    refine lv_istore_n (lv' := [(1, .int 0), (0, .ref (ad_m 0))]) hx hb dX12_keeps_10 rfl hl (by decide) rfl (fun ls hl => ?_)
    have loop_11 : ∀ (n : Nat) (k : Nat) (x_history_11 : Nat → Int32), 4680 - k < n → (k ≤ 4680) → (∀ j, j < k → x_history_11 j = (g_m 65) (j + 120)) → (∀ j, k ≤ j → x_history_11 j = (g_m 65) j) → ∀ (H : Heap) (locs : List Loc), zW D A s.heap H locs (wj [(mw Y ad_m (sA 65 x_history_11 (sA 64 (fun _ => nI un) g_m)) w_m)]) → ∀ (ls : Array Slot), lv_has ls 2 [(1, .int (nI k)), (0, .ref (ad_m 0))] → W p l e (headSpec (ws_ yX12_keeps cX12_keeps 2 none) ({ frames := 2, cells := 0, slots := 0, locals := 33 })).room s m ([.ref (ad_m 0)] : List Value).toArray below meth c H locs 0 0 (MQ below (va_Qv (fun (u : (Nat → Int32) × (Nat → Int32) × (Nat)) => KN kn τ (pushU U σ) u.1 u.2.1 u.2.2) (zB D (fun (u : (Nat → Int32) × (Nat → Int32) × (Nat)) => (wj [(mw Y ad_m (sA 65 u.2.1 (sA 64 (fun _ => nI u.2.2) (sA 59 u.1 g_m))) w_m)])) A) A) ([.ref (ad_m 0)] : List Value).toArray s 0 0 A) (F0 m 11 ls []) := by
      intro n
      induction n with
      | zero =>
        intro k x_history_11 hmz
        exact absurd hmz (Nat.not_lt_zero _)
      | succ n ih =>
        intro k x_history_11 hm_11 hk hh1 hh2 H locs hW ls hl
        have ih_11 := ih
        clear ih
        refine lv_iload_n hx hb dX12_keeps_11 rfl (lv_at hl 0 rfl) ?_
        refine lv_sipush (v := 4680) hx hb dX12_keeps_12 (by decide) ?_
        refine lv_icmp_ge (tgt := 39) hx hb dX12_keeps_15 (by decide) (fun c_7 => ?_) (fun c_7 => ?_)
        · have c_7 : 4680 ≤ k := (nI_leI (a := 4680) (b := k) (by omega) (by omega)).mp c_7
          refine lv_aload_n hx hb dX12_keeps_39 rfl (lv_at hl 1 rfl) ?_
          refine lv_dup hx hb dX12_keeps_40 rfl ?_
          refine va_get (v := .int (nI un)) (C := RX12) (T := TX12) (N := 75) (ci := 11) hx hb hts in_X12 hown hK.1 hW.1 0 rfl rfl 64 (by decide) (hts _ q1700) (fun _ h9 => h9) rfl dX12_keeps_41 ?_
          refine lv_iconst (v := 1) hx hb dX12_keeps_44 (by decide) ?_
          refine lv_isub hx hb dX12_keeps_45 ?_
          refine lv_topi (nm_r (e' := nI (un - 1)) (pk_sub (a := un) (b := 1) (by omega)) ?_)
          refine z_put (v := .int (nI (un - 1))) (C := RX12) (T := TX12) (N := 75) (ci := 11) (wn := (wj [(mw Y ad_m (sA 65 x_history_11 (sA 64 (fun _ => nI (un - 1)) g_m)) w_m)])) hx hb hts in_X12 tyX12 tyX12_ok nmX12 hown hK.1 hW 0 rfl rfl 64 (by decide) (hts _ q1700) (fun _ h9 => h9) rfl rfl rfl (Nat.le_of_ble_eq_true rfl) dX12_keeps_46 rfl (fun H locs hW => ?_)
          exact join_49 x_history_11 (un - 1) (by split <;> omega) (by intro i j hi hj; split <;> first | rfl | omega | (rw [hh1 _ (by omega)]; congr 1; omega)) _ _ hW _ (lv_sub hl [1] rfl)
        · have c_7 : ¬ (4680 ≤ k) := fun hz_ => c_7 ((nI_leI (a := 4680) (b := k) (by omega) (by omega)).mpr hz_)
          refine lv_aload_n hx hb dX12_keeps_18 rfl (lv_at hl 1 rfl) ?_
          refine va_get (v := .ref (ad_m 65)) (C := RX12) (T := TX12) (N := 75) (ci := 11) hx hb hts in_X12 hown hK.1 hW.1 0 rfl rfl 65 (by decide) (hts _ q1701) (fun _ h9 => h9) rfl dX12_keeps_19 ?_
          refine lv_iload_n hx hb dX12_keeps_22 rfl (lv_at hl 0 rfl) ?_
          refine lv_aload_n hx hb dX12_keeps_23 rfl (lv_at hl 1 rfl) ?_
          refine va_get (v := .ref (ad_m 65)) (C := RX12) (T := TX12) (N := 75) (ci := 11) hx hb hts in_X12 hown hK.1 hW.1 0 rfl rfl 65 (by decide) (hts _ q1701) (fun _ h9 => h9) rfl dX12_keeps_24 ?_
          refine lv_iload_n hx hb dX12_keeps_27 rfl (lv_at hl 0 rfl) ?_
          refine lv_bipush (v := 120) hx hb dX12_keeps_28 (by decide) ?_
          refine lv_iadd hx hb dX12_keeps_30 ?_
          refine lv_topi (nm_r (e' := nI (k + 120)) (nI_add k 120) ?_)
          refine z_iald (v := x_history_11 (k + 120)) (f := x_history_11) (j := k + 120) hx hb hK.1 hW.1 46 0 rfl rfl (vp_in_nI (n := k + 120) (by omega) (by decide)) (nI_clamp (n := k + 120) (by omega)) rfl dX12_keeps_31 ?_
          refine z_iast (x := x_history_11 (k + 120)) (f := x_history_11) (j := k) (wn := (wj [(mw Y ad_m (sA 65 (upd x_history_11 k (x_history_11 (k + 120))) (sA 64 (fun _ => nI un) g_m)) w_m)])) hx hb hK.1 hW 46 0 rfl rfl (vp_in_nI (n := k) (by omega) (by decide)) (nI_clamp (n := k) (by omega)) dX12_keeps_32 rfl (fun H locs hW => ?_)
          refine lv_iinc (v := nI (k + 1)) (lv' := [(1, .int (nI (k + 1))), (0, .ref (ad_m 0))]) hx hb dX12_keeps_33 hl (k := 0) rfl (nI_add k 1) (by decide) rfl (fun ls hl => ?_)
          refine lv_goto (tgt := 11) hx hb dX12_keeps_36 (by decide) ?_
          exact ih_11 (k + 1) (upd x_history_11 k (x_history_11 (k + 120))) (by omega) (by omega) (by intro j hj; unfold upd; split <;> grind) (by intro j hj; unfold upd; split <;> grind) _ _ hW _ (lv_sub hl [0, 1] rfl)
    exact loop_11 _ 0 (g_m 65) (Nat.lt_succ_self _) (by omega) (by intro j hj; omega) (by intro j hj; rfl) _ _ hW _ (lv_sub hl [0, 1] rfl)
set_option maxHeartbeats 4000000 in
set_option maxRecDepth 100000 in
theorem m_X12_pour (l : Launch) (D : va_G) (Y : Nat → ClassId) (ad_m : Nat → Nat) (g_m : Nat → Nat → Int32) (w_m : Nat → Nat → Int64) (lv : Nat) (cn : Nat → Nat) (t : tab) (lw : Nat → Option LAW) (σ : tab) (U : List tab) (un : Nat) (B_ : Int) (gx : Int32) (kx : Int32) (sz : Nat) (hlv : lv < 2) (hTW : TW cn t lw) (hTM : TM lv cn t lw g_m) (hKN : KN (cn 2) σ U (g_m 59) (g_m 65) un) (hF1 : ∀ h, h < cn 1 → σ 1 h = t 2 h) (hF2 : σ 18 0 = t 12 2) (hWF : WF cn B_ σ) : Met l yX12_pour (ws_ yX12_pour cX12_pour 3 (some .int)) ({ frames := 3, cells := 0, slots := 0, locals := 55 }) (zPc D Y [.ref (ad_m 0), .int gx, .int kx] sz (wj []) (wj [(mw Y ad_m (sA 64 (fun _ => nI un) (sA 18 (fun _ => nI lv) g_m)) w_m)])) (va_Qi (fun (r : Int32) (u : (Nat → Int32) × (Nat → Int32) × (Nat) × (Nat → Int32) × (Int32) × (Nat → Int32)) => r = (pourO cn σ U gx kx).1 ∧ KN (cn 2) (pourO cn σ U gx kx).2.1 (pourO cn σ U gx kx).2.2 u.1 u.2.1 u.2.2.1) (zB D (fun (u : (Nat → Int32) × (Nat → Int32) × (Nat) × (Nat → Int32) × (Int32) × (Nat → Int32)) => (wj [(mw Y ad_m (sA 65 u.2.1 (sA 64 (fun _ => nI u.2.2.1) (sA 62 u.2.2.2.2.2 (sA 61 (fun _ => u.2.2.2.2.1) (sA 60 u.2.2.2.1 (sA 59 u.1 (sA 18 (fun _ => nI lv) g_m))))))) w_m)])) (va_A (wj [(mw Y ad_m (sA 64 (fun _ => nI un) (sA 18 (fun _ => nI lv) g_m)) w_m)]) sz)) (va_A (wj [(mw Y ad_m (sA 64 (fun _ => nI un) (sA 18 (fun _ => nI lv) g_m)) w_m)]) sz)) 0 0 (va_A (wj [(mw Y ad_m (sA 64 (fun _ => nI un) (sA 18 (fun _ => nI lv) g_m)) w_m)]) sz) := by
  refine Met.ofW (cc := cX12_pour) (maxL := 3) (ret := (some .int)) (by decide) rfl ?_
  intro p e s m args below meth c s₁ B hml hv
  obtain ⟨rfl, hsz, hW, hR, hK, hA⟩ := zEntry hv
  subst hsz
  have hx := B.exec
  have hb := B.bytes
  have hr := B.returns
  have hlocks := B.notSynchronized
  have hts : ∀ w ∈ lw_all, w.before _ s = true := fun w h => atoms_spec (ws := (ws_ yX12_pour cX12_pour 3 (some .int))) B.pre w (List.mem_cons_of_mem _ h)
  have hown : s.vm.findClass RX12 = some m.cls := findClass_of_methodNamed B.named
  generalize hAe : va_A (wj [(mw Y ad_m (sA 64 (fun _ => nI un) (sA 18 (fun _ => nI lv) g_m)) w_m)]) s.heap.size = A at hW hR hA ⊢
  have hl := lv_entry ([.ref (ad_m 0), .int gx, .int kx]) (n := 3) (Nat.le_of_ble_eq_true rfl)
  rw [lg_entry_eq]
  generalize (lg_sl ([.ref (ad_m 0), .int gx, .int kx]) ++ List.replicate (3 - (lg_sl ([.ref (ad_m 0), .int gx, .int kx])).length) Slot.unset).toArray = ls at hl ⊢
  have hl : lv_has ls 3 [(0, .ref (ad_m 0)), (1, .int gx), (2, .int kx)] := hl
  have hk8 := hTW.n2
  have hk6 := hTW.n1
  have hk60 := hTW.n0
  have hk5 := hTW.n3
  refine lv_aload_n hx hb dX12_pour_0 rfl (lv_at hl 0 rfl) ?_
  refine lv_iload_n hx hb dX12_pour_1 rfl (lv_at hl 1 rfl) ?_
  refine z_calli (wc := wj [(mw Y ad_m (sA 64 (fun _ => nI un) (sA 18 (fun _ => nI lv) g_m)) w_m)]) (wr := wj []) (va_runV (As := [.int gx]) (rest := []) ⟨hx, hb, hml, hown, hts⟩ (m_X12_isGrain l D Y ad_m (sA 64 (fun _ => nI un) (sA 18 (fun _ => nI lv) g_m)) w_m lv cn t lw gx s.heap.size (show lv < 2 from by exact hlv) (show TW cn t lw from by exact hTW) (show TM lv cn t lw (sA 64 (fun _ => nI un) (sA 18 (fun _ => nI lv) g_m)) from by exact hTM)) (cwV 1 hts (lw_V q1993 q1995 qs83 q133 q1996) rfl rfl rfl (by decide +kernel) ⟨Nat.le_of_ble_eq_true rfl, Nat.le_of_ble_eq_true rfl⟩) (zPreV hK hW hR (wj_split3 (B := [(mw Y ad_m (sA 64 (fun _ => nI un) (sA 18 (fun _ => nI lv) g_m)) w_m)]) (R := []) (C := [(mw Y ad_m (sA 64 (fun _ => nI un) (sA 18 (fun _ => nI lv) g_m)) w_m)]) (O := []) (X := []) (List.Perm.refl _)) (va_recv hK.1 hW.1 (ci := 11) (q0 := 0) rfl rfl)) rfl rfl hl.1 rfl (lv_room (Nat.le_of_ble_eq_true rfl)) dX12_pour_2 ⟨Nat.le_refl _, Nat.le_refl _⟩) hW hA (wj_split (B := [(mw Y ad_m (sA 64 (fun _ => nI un) (sA 18 (fun _ => nI lv) g_m)) w_m)]) (C := [(mw Y ad_m (sA 64 (fun _ => nI un) (sA 18 (fun _ => nI lv) g_m)) w_m)]) (R := []) (List.Perm.refl _)) (fun r_1 u H locs hp_2 hW => ?_)
  have hp_2 : r_1 = zb (vp_in gx (cn 0)) := hp_2
  have hW : zW D A s.heap H locs (wj [(mw Y ad_m (sA 64 (fun _ => nI un) (sA 18 (fun _ => nI lv) g_m)) w_m)]) := hW.join
  refine lv_if_eq (tgt := 33) hx hb dX12_pour_5 (by decide) (fun c_3 => ?_) (fun c_3 => ?_)
  · have c_3 : ¬ (vp_in gx (cn 0)) := zb_eq hp_2 c_3
    refine lv_iconst (v := (-1)) hx hb dX12_pour_33 (by decide) ?_
    refine z_ireti ((g_m 59, g_m 65, un, g_m 60, g_m 61 0, g_m 62) : (Nat → Int32) × (Nat → Int32) × (Nat) × (Nat → Int32) × (Int32) × (Nat → Int32)) hx hb hr hlocks rfl hW rfl dX12_pour_34 ?_
    show (-1) = (pourO cn σ U gx kx).1 ∧ KN (cn 2) (pourO cn σ U gx kx).2.1 (pourO cn σ U gx kx).2.2 (g_m 59) (g_m 65) un
    have e : pourO cn σ U gx kx = _ := zi_f (by first | (intro hq; exact absurd hq.1 (by assumption)) | (intro hq; exact absurd hq.2.1 (by assumption)) | (rw [cgn]; intro hq; exact absurd hq.2.2 (by assumption))) _ _
    rw [e]
    exact ⟨rfl, hKN⟩
  · have c_3 : vp_in gx (cn 0) := zb_ne hp_2 c_3
    obtain ⟨gn, hgn, egn⟩ := vp_in_of c_3 (by omega)
    have cgn : gx.toNatClampNeg = gn := by rw [egn]; exact nI_clamp (by omega)
    refine lv_iload_n hx hb dX12_pour_8 rfl (lv_at hl 2 rfl) ?_
    refine lv_iconst (v := 1) hx hb dX12_pour_9 (by decide) ?_
    refine lv_sipush (v := 9999) hx hb dX12_pour_10 (by decide) ?_
    refine z_calli (wc := wj []) (wr := wj [(mw Y ad_m (sA 64 (fun _ => nI un) (sA 18 (fun _ => nI lv) g_m)) w_m)]) (va_runS (As := [.int kx, .int 1, .int 9999]) (rest := []) ⟨hx, hb, hml, hown, hts⟩ (m_X12_in l D Y kx 1 9999 H.size) (va_cwS 3 hts (lw_S q1997 q1998 q133 q1999) rfl rfl rfl (by decide +kernel) ⟨Nat.le_of_ble_eq_true rfl, Nat.le_of_ble_eq_true rfl⟩) (zPre hK hW hR (wj_split3 (B := [(mw Y ad_m (sA 64 (fun _ => nI un) (sA 18 (fun _ => nI lv) g_m)) w_m)]) (R := []) (C := []) (O := []) (X := [(mw Y ad_m (sA 64 (fun _ => nI un) (sA 18 (fun _ => nI lv) g_m)) w_m)]) (List.Perm.refl _))) rfl rfl hl.1 rfl (lv_room (Nat.le_of_ble_eq_true rfl)) dX12_pour_13 ⟨Nat.le_refl _, Nat.le_refl _⟩) hW hA (wj_split (B := [(mw Y ad_m (sA 64 (fun _ => nI un) (sA 18 (fun _ => nI lv) g_m)) w_m)]) (C := []) (R := [(mw Y ad_m (sA 64 (fun _ => nI un) (sA 18 (fun _ => nI lv) g_m)) w_m)]) (List.Perm.refl _)) (fun r_4 u H locs hp_5 hW => ?_)
    have hp_5 : r_4 = zb (¬ kx < 1 ∧ ¬ 9999 < kx) := hp_5
    have hW : zW D A s.heap H locs (wj [(mw Y ad_m (sA 64 (fun _ => nI un) (sA 18 (fun _ => nI lv) g_m)) w_m)]) := hW.join
    refine lv_if_eq (tgt := 33) hx hb dX12_pour_16 (by decide) (fun c_6 => ?_) (fun c_6 => ?_)
    · have c_6 : ¬ (¬ kx < 1 ∧ ¬ 9999 < kx) := zb_eq hp_5 c_6
      refine lv_iconst (v := (-1)) hx hb dX12_pour_33 (by decide) ?_
      refine z_ireti ((g_m 59, g_m 65, un, g_m 60, g_m 61 0, g_m 62) : (Nat → Int32) × (Nat → Int32) × (Nat) × (Nat → Int32) × (Int32) × (Nat → Int32)) hx hb hr hlocks rfl hW rfl dX12_pour_34 ?_
      show (-1) = (pourO cn σ U gx kx).1 ∧ KN (cn 2) (pourO cn σ U gx kx).2.1 (pourO cn σ U gx kx).2.2 (g_m 59) (g_m 65) un
      have e : pourO cn σ U gx kx = _ := zi_f (by first | (intro hq; exact absurd hq.1 (by assumption)) | (intro hq; exact absurd hq.2.1 (by assumption)) | (rw [cgn]; intro hq; exact absurd hq.2.2 (by assumption))) _ _
      rw [e]
      exact ⟨rfl, hKN⟩
    · have c_6 : ¬ kx < 1 ∧ ¬ 9999 < kx := zb_ne hp_5 c_6
      refine lv_aload_n hx hb dX12_pour_19 rfl (lv_at hl 0 rfl) ?_
      refine va_get (v := .ref (ad_m 59)) (C := RX12) (T := TX12) (N := 75) (ci := 11) hx hb hts in_X12 hown hK.1 hW.1 0 rfl rfl 59 (by decide) (hts _ q1695) (fun _ h9 => h9) rfl dX12_pour_20 ?_
      refine lv_iload_n hx hb dX12_pour_23 rfl (lv_at hl 1 rfl) ?_
      refine lv_topi (nm_r (e' := nI gn) egn ?_)
      refine z_iald (v := σ 0 gn) (f := g_m 59) (j := gn) hx hb hK.1 hW.1 42 0 rfl rfl (vp_in_nI (n := gn) (by omega) (by decide)) (nI_clamp (n := gn) (by omega)) (MR.heap hKN.mr (g := gn) (by omega)) dX12_pour_24 ?_
      refine lv_iload_n hx hb dX12_pour_25 rfl (lv_at hl 2 rfl) ?_
      refine lv_iadd hx hb dX12_pour_26 ?_
      refine lv_sipush (v := 9999) hx hb dX12_pour_27 (by decide) ?_
      refine lv_icmp_le (tgt := 35) hx hb dX12_pour_30 (by decide) (fun c_7 => ?_) (fun c_7 => ?_)
      · refine lv_aload_n hx hb dX12_pour_35 rfl (lv_at hl 0 rfl) ?_
        refine z_callv (wc := wj [(mw Y ad_m (sA 64 (fun _ => nI un) (sA 18 (fun _ => nI lv) g_m)) w_m)]) (wr := wj []) (va_runV (As := []) (rest := []) ⟨hx, hb, hml, hown, hts⟩ (m_X12_copies l D Y ad_m (sA 64 (fun _ => nI un) (sA 18 (fun _ => nI lv) g_m)) w_m lv cn t lw σ H.size (show lv < 2 from by exact hlv) (show TW cn t lw from by exact hTW) (show TM lv cn t lw (sA 64 (fun _ => nI un) (sA 18 (fun _ => nI lv) g_m)) from by exact hTM) (show MR (cn 2) σ (g_m 59) from by exact hKN.mr) (show ∀ h, h < cn 1 → σ 1 h = t 2 h from by exact hF1) (show σ 18 0 = t 12 2 from by exact hF2)) (cwV 0 hts (lw_V q2020 q2022 qs86 q133 q2023) rfl rfl rfl (by decide +kernel) ⟨Nat.le_of_ble_eq_true rfl, Nat.le_of_ble_eq_true rfl⟩) (zPreV hK hW hR (wj_split3 (B := [(mw Y ad_m (sA 64 (fun _ => nI un) (sA 18 (fun _ => nI lv) g_m)) w_m)]) (R := []) (C := [(mw Y ad_m (sA 64 (fun _ => nI un) (sA 18 (fun _ => nI lv) g_m)) w_m)]) (O := []) (X := []) (List.Perm.refl _)) (va_recv hK.1 hW.1 (ci := 11) (q0 := 0) rfl rfl)) rfl rfl hl.1 rfl (lv_room (Nat.le_of_ble_eq_true rfl)) dX12_pour_36 ⟨Nat.le_refl _, Nat.le_refl _⟩) hW hA (wj_split (B := [(mw Y ad_m (sA 64 (fun _ => nI un) (sA 18 (fun _ => nI lv) g_m)) w_m)]) (C := [(mw Y ad_m (sA 64 (fun _ => nI un) (sA 18 (fun _ => nI lv) g_m)) w_m)]) (R := []) (List.Perm.refl _)) (fun  u H locs hp_9 hW => ?_)
        obtain ⟨urow_10, ulots_11, ufarNow_12⟩ := u
        have hp_9 : RS cn σ urow_10 ufarNow_12 ulots_11 := hp_9
        have hW : zW D A s.heap H locs (wj [(mw Y ad_m (sA 64 (fun _ => nI un) (sA 62 ufarNow_12 (sA 61 (fun _ => ulots_11) (sA 60 urow_10 (sA 18 (fun _ => nI lv) g_m))))) w_m)]) := hW.join
        refine lv_aload_n hx hb dX12_pour_39 rfl (lv_at hl 0 rfl) ?_
        refine va_get (v := .ref (ad_m 60)) (C := RX12) (T := TX12) (N := 75) (ci := 11) hx hb hts in_X12 hown hK.1 hW.1 0 rfl rfl 60 (by decide) (hts _ q1696) (fun _ h9 => h9) rfl dX12_pour_40 ?_
        refine lv_iload_n hx hb dX12_pour_43 rfl (lv_at hl 1 rfl) ?_
        refine lv_topi (nm_r (e' := nI gn) egn ?_)
        refine lv_dup2_11 hx hb dX12_pour_44 rfl rfl ?_
        refine z_iald (v := σ 0 gn) (f := urow_10) (j := gn) hx hb hK.1 hW.1 43 0 rfl rfl (vp_in_nI (n := gn) (by omega) (by decide)) (nI_clamp (n := gn) (by omega)) (MR.heap hp_9.1 (g := gn) (by omega)) dX12_pour_45 ?_
        refine lv_iload_n hx hb dX12_pour_46 rfl (lv_at hl 2 rfl) ?_
        refine lv_iadd hx hb dX12_pour_47 ?_
        refine z_iast (x := (σ 0 gn) + kx) (f := urow_10) (j := gn) (wn := (wj [(mw Y ad_m (sA 64 (fun _ => nI un) (sA 62 ufarNow_12 (sA 61 (fun _ => ulots_11) (sA 60 (upd urow_10 gn ((σ 0 gn) + kx)) (sA 18 (fun _ => nI lv) g_m))))) w_m)])) hx hb hK.1 hW 43 0 rfl rfl (vp_in_nI (n := gn) (by omega) (by decide)) (nI_clamp (n := gn) (by omega)) dX12_pour_48 rfl (fun H locs hW => ?_)
        refine lv_aload_n hx hb dX12_pour_49 rfl (lv_at hl 0 rfl) ?_
        refine z_callv (wc := wj [(mw Y ad_m (sA 64 (fun _ => nI un) (sA 62 ufarNow_12 (sA 61 (fun _ => ulots_11) (sA 60 (upd urow_10 gn ((σ 0 gn) + kx)) (sA 18 (fun _ => nI lv) g_m))))) w_m)]) (wr := wj []) (va_runV (As := []) (rest := []) ⟨hx, hb, hml, hown, hts⟩ (m_X12_keeps l D Y ad_m (sA 64 (fun _ => nI un) (sA 62 ufarNow_12 (sA 61 (fun _ => ulots_11) (sA 60 (upd urow_10 gn ((σ 0 gn) + kx)) (sA 18 (fun _ => nI lv) g_m))))) w_m un (cn 2) σ (sU 0 gn ((σ 0 gn) + kx) σ) U H.size (show (cn 2) ≤ 8 from by exact hk8) (show KN (cn 2) σ U (g_m 59) (g_m 65) un from by exact hKN) (show MR (cn 2) (sU 0 gn ((σ 0 gn) + kx) σ) (upd urow_10 gn ((σ 0 gn) + kx)) from by exact ((RS.mk' hp_9 (MR.uheap hk8 hp_9.1 (g := gn) (by omega) ((σ 0 gn) + kx)) (by rw [sU_ne (by omega)]) (by rw [sU_ne (by omega)]))).1)) (cwV 0 hts (lw_V q2078 q2080 qs96 q133 q2081) rfl rfl rfl (by decide +kernel) ⟨Nat.le_of_ble_eq_true rfl, Nat.le_of_ble_eq_true rfl⟩) (zPreV hK hW hR (wj_split3 (B := [(mw Y ad_m (sA 64 (fun _ => nI un) (sA 62 ufarNow_12 (sA 61 (fun _ => ulots_11) (sA 60 (upd urow_10 gn ((σ 0 gn) + kx)) (sA 18 (fun _ => nI lv) g_m))))) w_m)]) (R := []) (C := [(mw Y ad_m (sA 64 (fun _ => nI un) (sA 62 ufarNow_12 (sA 61 (fun _ => ulots_11) (sA 60 (upd urow_10 gn ((σ 0 gn) + kx)) (sA 18 (fun _ => nI lv) g_m))))) w_m)]) (O := []) (X := []) (List.Perm.refl _)) (va_recv hK.1 hW.1 (ci := 11) (q0 := 0) rfl rfl)) rfl rfl hl.1 rfl (lv_room (Nat.le_of_ble_eq_true rfl)) dX12_pour_50 ⟨Nat.le_refl _, Nat.le_refl _⟩) hW hA (wj_split (B := [(mw Y ad_m (sA 64 (fun _ => nI un) (sA 62 ufarNow_12 (sA 61 (fun _ => ulots_11) (sA 60 (upd urow_10 gn ((σ 0 gn) + kx)) (sA 18 (fun _ => nI lv) g_m))))) w_m)]) (C := [(mw Y ad_m (sA 64 (fun _ => nI un) (sA 62 ufarNow_12 (sA 61 (fun _ => ulots_11) (sA 60 (upd urow_10 gn ((σ 0 gn) + kx)) (sA 18 (fun _ => nI lv) g_m))))) w_m)]) (R := []) (List.Perm.refl _)) (fun  u H locs hp_14 hW => ?_)
        obtain ⟨unow_15, uhistory_16, uundos_17⟩ := u
        have hp_14 : KN (cn 2) (sU 0 gn ((σ 0 gn) + kx) σ) (pushU U σ) unow_15 uhistory_16 uundos_17 := hp_14
        have hW : zW D A s.heap H locs (wj [(mw Y ad_m (sA 65 uhistory_16 (sA 64 (fun _ => nI uundos_17) (sA 62 ufarNow_12 (sA 61 (fun _ => ulots_11) (sA 60 (upd urow_10 gn ((σ 0 gn) + kx)) (sA 59 unow_15 (sA 18 (fun _ => nI lv) g_m))))))) w_m)]) := hW.join
        refine lv_aload_n hx hb dX12_pour_53 rfl (lv_at hl 0 rfl) ?_
        refine va_get (v := .ref (ad_m 59)) (C := RX12) (T := TX12) (N := 75) (ci := 11) hx hb hts in_X12 hown hK.1 hW.1 0 rfl rfl 59 (by decide) (hts _ q1695) (fun _ h9 => h9) rfl dX12_pour_54 ?_
        refine lv_iload_n hx hb dX12_pour_57 rfl (lv_at hl 1 rfl) ?_
        refine lv_topi (nm_r (e' := nI gn) egn ?_)
        refine z_iald (v := (sU 0 gn ((σ 0 gn) + kx) σ) 0 gn) (f := unow_15) (j := gn) hx hb hK.1 hW.1 42 0 rfl rfl (vp_in_nI (n := gn) (by omega) (by decide)) (nI_clamp (n := gn) (by omega)) (MR.heap hp_14.mr (g := gn) (by omega)) dX12_pour_58 ?_
        refine z_ireti ((unow_15, uhistory_16, uundos_17, upd urow_10 gn ((σ 0 gn) + kx), ulots_11, ufarNow_12) : (Nat → Int32) × (Nat → Int32) × (Nat) × (Nat → Int32) × (Int32) × (Nat → Int32)) hx hb hr hlocks rfl hW rfl dX12_pour_59 ?_
        show ((sU 0 gn ((σ 0 gn) + kx) σ) 0 gn) = (pourO cn σ U gx kx).1 ∧ KN (cn 2) (pourO cn σ U gx kx).2.1 (pourO cn σ U gx kx).2.2 unow_15 uhistory_16 uundos_17
        have e : pourO cn σ U gx kx = _ := zi_t (by rw [cgn]; exact ⟨c_3, c_6, c_7⟩) _ _
        rw [e]
        refine ⟨by rw [cgn]; simp [kp, sU_if], ?_⟩
        have hkk := hp_14
        simp only [kp, cgn, pourT]; exact hkk
      · refine lv_iconst (v := (-1)) hx hb dX12_pour_33 (by decide) ?_
        refine z_ireti ((g_m 59, g_m 65, un, g_m 60, g_m 61 0, g_m 62) : (Nat → Int32) × (Nat → Int32) × (Nat) × (Nat → Int32) × (Int32) × (Nat → Int32)) hx hb hr hlocks rfl hW rfl dX12_pour_34 ?_
        show (-1) = (pourO cn σ U gx kx).1 ∧ KN (cn 2) (pourO cn σ U gx kx).2.1 (pourO cn σ U gx kx).2.2 (g_m 59) (g_m 65) un
        have e : pourO cn σ U gx kx = _ := zi_f (by first | (intro hq; exact absurd hq.1 (by assumption)) | (intro hq; exact absurd hq.2.1 (by assumption)) | (rw [cgn]; intro hq; exact absurd hq.2.2 (by assumption))) _ _
        rw [e]
        exact ⟨rfl, hKN⟩
set_option maxHeartbeats 4000000 in
set_option maxRecDepth 100000 in
theorem m_X12_swap (l : Launch) (D : va_G) (Y : Nat → ClassId) (ad_m : Nat → Nat) (g_m : Nat → Nat → Int32) (w_m : Nat → Nat → Int64) (lv : Nat) (cn : Nat → Nat) (t : tab) (lw : Nat → Option LAW) (σ : tab) (U : List tab) (un : Nat) (B_ : Int) (ax : Int32) (bx : Int32) (sz : Nat) (hlv : lv < 2) (hTW : TW cn t lw) (hTM : TM lv cn t lw g_m) (hKN : KN (cn 2) σ U (g_m 59) (g_m 65) un) (hF1 : ∀ h, h < cn 1 → σ 1 h = t 2 h) (hF2 : σ 18 0 = t 12 2) (hWF : WF cn B_ σ) : Met l yX12_swap (ws_ yX12_swap cX12_swap 3 (some .boolean)) ({ frames := 3, cells := 0, slots := 0, locals := 55 }) (zPc D Y [.ref (ad_m 0), .int ax, .int bx] sz (wj []) (wj [(mw Y ad_m (sA 64 (fun _ => nI un) (sA 18 (fun _ => nI lv) g_m)) w_m)])) (va_Qi (fun (r : Int32) (u : (Nat → Int32) × (Nat → Int32) × (Nat) × (Nat → Int32) × (Int32) × (Nat → Int32)) => r = (swapO cn σ U ax bx).1 ∧ KN (cn 2) (swapO cn σ U ax bx).2.1 (swapO cn σ U ax bx).2.2 u.1 u.2.1 u.2.2.1) (zB D (fun (u : (Nat → Int32) × (Nat → Int32) × (Nat) × (Nat → Int32) × (Int32) × (Nat → Int32)) => (wj [(mw Y ad_m (sA 65 u.2.1 (sA 64 (fun _ => nI u.2.2.1) (sA 62 u.2.2.2.2.2 (sA 61 (fun _ => u.2.2.2.2.1) (sA 60 u.2.2.2.1 (sA 59 u.1 (sA 18 (fun _ => nI lv) g_m))))))) w_m)])) (va_A (wj [(mw Y ad_m (sA 64 (fun _ => nI un) (sA 18 (fun _ => nI lv) g_m)) w_m)]) sz)) (va_A (wj [(mw Y ad_m (sA 64 (fun _ => nI un) (sA 18 (fun _ => nI lv) g_m)) w_m)]) sz)) 0 0 (va_A (wj [(mw Y ad_m (sA 64 (fun _ => nI un) (sA 18 (fun _ => nI lv) g_m)) w_m)]) sz) := by
  refine Met.ofW (cc := cX12_swap) (maxL := 3) (ret := (some .boolean)) (by decide) rfl ?_
  intro p e s m args below meth c s₁ B hml hv
  obtain ⟨rfl, hsz, hW, hR, hK, hA⟩ := zEntry hv
  subst hsz
  have hx := B.exec
  have hb := B.bytes
  have hr := B.returns
  have hlocks := B.notSynchronized
  have hts : ∀ w ∈ lw_all, w.before _ s = true := fun w h => atoms_spec (ws := (ws_ yX12_swap cX12_swap 3 (some .boolean))) B.pre w (List.mem_cons_of_mem _ h)
  have hown : s.vm.findClass RX12 = some m.cls := findClass_of_methodNamed B.named
  generalize hAe : va_A (wj [(mw Y ad_m (sA 64 (fun _ => nI un) (sA 18 (fun _ => nI lv) g_m)) w_m)]) s.heap.size = A at hW hR hA ⊢
  have hl := lv_entry ([.ref (ad_m 0), .int ax, .int bx]) (n := 3) (Nat.le_of_ble_eq_true rfl)
  rw [lg_entry_eq]
  generalize (lg_sl ([.ref (ad_m 0), .int ax, .int bx]) ++ List.replicate (3 - (lg_sl ([.ref (ad_m 0), .int ax, .int bx])).length) Slot.unset).toArray = ls at hl ⊢
  have hl : lv_has ls 3 [(0, .ref (ad_m 0)), (1, .int ax), (2, .int bx)] := hl
  have hk8 := hTW.n2
  have hk6 := hTW.n1
  have hk60 := hTW.n0
  have hk5 := hTW.n3
  refine lv_aload_n hx hb dX12_swap_0 rfl (lv_at hl 0 rfl) ?_
  refine lv_iload_n hx hb dX12_swap_1 rfl (lv_at hl 1 rfl) ?_
  refine z_calli (wc := wj [(mw Y ad_m (sA 64 (fun _ => nI un) (sA 18 (fun _ => nI lv) g_m)) w_m)]) (wr := wj []) (va_runV (As := [.int ax]) (rest := []) ⟨hx, hb, hml, hown, hts⟩ (m_X12_isHole l D Y ad_m (sA 64 (fun _ => nI un) (sA 18 (fun _ => nI lv) g_m)) w_m lv cn t lw ax s.heap.size (show lv < 2 from by exact hlv) (show TW cn t lw from by exact hTW) (show TM lv cn t lw (sA 64 (fun _ => nI un) (sA 18 (fun _ => nI lv) g_m)) from by exact hTM)) (cwV 1 hts (lw_V q2004 q2006 qs84 q133 q2007) rfl rfl rfl (by decide +kernel) ⟨Nat.le_of_ble_eq_true rfl, Nat.le_of_ble_eq_true rfl⟩) (zPreV hK hW hR (wj_split3 (B := [(mw Y ad_m (sA 64 (fun _ => nI un) (sA 18 (fun _ => nI lv) g_m)) w_m)]) (R := []) (C := [(mw Y ad_m (sA 64 (fun _ => nI un) (sA 18 (fun _ => nI lv) g_m)) w_m)]) (O := []) (X := []) (List.Perm.refl _)) (va_recv hK.1 hW.1 (ci := 11) (q0 := 0) rfl rfl)) rfl rfl hl.1 rfl (lv_room (Nat.le_of_ble_eq_true rfl)) dX12_swap_2 ⟨Nat.le_refl _, Nat.le_refl _⟩) hW hA (wj_split (B := [(mw Y ad_m (sA 64 (fun _ => nI un) (sA 18 (fun _ => nI lv) g_m)) w_m)]) (C := [(mw Y ad_m (sA 64 (fun _ => nI un) (sA 18 (fun _ => nI lv) g_m)) w_m)]) (R := []) (List.Perm.refl _)) (fun r_1 u H locs hp_2 hW => ?_)
  have hp_2 : r_1 = zb (vp_in ax (cn 1)) := hp_2
  have hW : zW D A s.heap H locs (wj [(mw Y ad_m (sA 64 (fun _ => nI un) (sA 18 (fun _ => nI lv) g_m)) w_m)]) := hW.join
  refine lv_if_eq (tgt := 21) hx hb dX12_swap_5 (by decide) (fun c_3 => ?_) (fun c_3 => ?_)
  · have c_3 : ¬ (vp_in ax (cn 1)) := zb_eq hp_2 c_3
    refine lv_iconst (v := 0) hx hb dX12_swap_21 (by decide) ?_
    refine z_ireti ((g_m 59, g_m 65, un, g_m 60, g_m 61 0, g_m 62) : (Nat → Int32) × (Nat → Int32) × (Nat) × (Nat → Int32) × (Int32) × (Nat → Int32)) hx hb hr hlocks rfl hW rfl dX12_swap_22 ?_
    show 0 = (swapO cn σ U ax bx).1 ∧ KN (cn 2) (swapO cn σ U ax bx).2.1 (swapO cn σ U ax bx).2.2 (g_m 59) (g_m 65) un
    have e : swapO cn σ U ax bx = _ := zi_f (by first | (intro hq; exact absurd hq.1 (by assumption)) | (intro hq; exact absurd hq.2.1 (by assumption)) | (rw [ean, ebn]; intro hq; exact hq.2.2 ((nI_eq (by omega) (by omega)).mpr rfl))) _ _
    rw [e]
    exact ⟨rfl, hKN⟩
  · have c_3 : vp_in ax (cn 1) := zb_ne hp_2 c_3
    obtain ⟨an, han, ean⟩ := vp_in_of c_3 (by omega)
    have can : ax.toNatClampNeg = an := by rw [ean]; exact nI_clamp (by omega)
    refine lv_aload_n hx hb dX12_swap_8 rfl (lv_at hl 0 rfl) ?_
    refine lv_iload_n hx hb dX12_swap_9 rfl (lv_at hl 2 rfl) ?_
    refine z_calli (wc := wj [(mw Y ad_m (sA 64 (fun _ => nI un) (sA 18 (fun _ => nI lv) g_m)) w_m)]) (wr := wj []) (va_runV (As := [.int bx]) (rest := []) ⟨hx, hb, hml, hown, hts⟩ (m_X12_isHole l D Y ad_m (sA 64 (fun _ => nI un) (sA 18 (fun _ => nI lv) g_m)) w_m lv cn t lw bx H.size (show lv < 2 from by exact hlv) (show TW cn t lw from by exact hTW) (show TM lv cn t lw (sA 64 (fun _ => nI un) (sA 18 (fun _ => nI lv) g_m)) from by exact hTM)) (cwV 1 hts (lw_V q2004 q2006 qs84 q133 q2007) rfl rfl rfl (by decide +kernel) ⟨Nat.le_of_ble_eq_true rfl, Nat.le_of_ble_eq_true rfl⟩) (zPreV hK hW hR (wj_split3 (B := [(mw Y ad_m (sA 64 (fun _ => nI un) (sA 18 (fun _ => nI lv) g_m)) w_m)]) (R := []) (C := [(mw Y ad_m (sA 64 (fun _ => nI un) (sA 18 (fun _ => nI lv) g_m)) w_m)]) (O := []) (X := []) (List.Perm.refl _)) (va_recv hK.1 hW.1 (ci := 11) (q0 := 0) rfl rfl)) rfl rfl hl.1 rfl (lv_room (Nat.le_of_ble_eq_true rfl)) dX12_swap_10 ⟨Nat.le_refl _, Nat.le_refl _⟩) hW hA (wj_split (B := [(mw Y ad_m (sA 64 (fun _ => nI un) (sA 18 (fun _ => nI lv) g_m)) w_m)]) (C := [(mw Y ad_m (sA 64 (fun _ => nI un) (sA 18 (fun _ => nI lv) g_m)) w_m)]) (R := []) (List.Perm.refl _)) (fun r_4 u H locs hp_5 hW => ?_)
    have hp_5 : r_4 = zb (vp_in bx (cn 1)) := hp_5
    have hW : zW D A s.heap H locs (wj [(mw Y ad_m (sA 64 (fun _ => nI un) (sA 18 (fun _ => nI lv) g_m)) w_m)]) := hW.join
    refine lv_if_eq (tgt := 21) hx hb dX12_swap_13 (by decide) (fun c_6 => ?_) (fun c_6 => ?_)
    · have c_6 : ¬ (vp_in bx (cn 1)) := zb_eq hp_5 c_6
      refine lv_iconst (v := 0) hx hb dX12_swap_21 (by decide) ?_
      refine z_ireti ((g_m 59, g_m 65, un, g_m 60, g_m 61 0, g_m 62) : (Nat → Int32) × (Nat → Int32) × (Nat) × (Nat → Int32) × (Int32) × (Nat → Int32)) hx hb hr hlocks rfl hW rfl dX12_swap_22 ?_
      show 0 = (swapO cn σ U ax bx).1 ∧ KN (cn 2) (swapO cn σ U ax bx).2.1 (swapO cn σ U ax bx).2.2 (g_m 59) (g_m 65) un
      have e : swapO cn σ U ax bx = _ := zi_f (by first | (intro hq; exact absurd hq.1 (by assumption)) | (intro hq; exact absurd hq.2.1 (by assumption)) | (rw [ean, ebn]; intro hq; exact hq.2.2 ((nI_eq (by omega) (by omega)).mpr rfl))) _ _
      rw [e]
      exact ⟨rfl, hKN⟩
    · have c_6 : vp_in bx (cn 1) := zb_ne hp_5 c_6
      obtain ⟨bn, hbn, ebn⟩ := vp_in_of c_6 (by omega)
      have cbn : bx.toNatClampNeg = bn := by rw [ebn]; exact nI_clamp (by omega)
      refine lv_iload_n hx hb dX12_swap_16 rfl (lv_at hl 1 rfl) ?_
      refine lv_topi (nm_r (e' := nI an) ean ?_)
      refine lv_iload_n hx hb dX12_swap_17 rfl (lv_at hl 2 rfl) ?_
      refine lv_topi (nm_r (e' := nI bn) ebn ?_)
      refine lv_icmp_ne (tgt := 23) hx hb dX12_swap_18 (by decide) (fun c_7 => ?_) (fun c_7 => ?_)
      · have c_7 : ¬ (an = bn) := fun hz_ => c_7 ((nI_eq (a := an) (b := bn) (by omega) (by omega)).mpr hz_)
        refine lv_aload_n hx hb dX12_swap_23 rfl (lv_at hl 0 rfl) ?_
        refine z_callv (wc := wj [(mw Y ad_m (sA 64 (fun _ => nI un) (sA 18 (fun _ => nI lv) g_m)) w_m)]) (wr := wj []) (va_runV (As := []) (rest := []) ⟨hx, hb, hml, hown, hts⟩ (m_X12_copies l D Y ad_m (sA 64 (fun _ => nI un) (sA 18 (fun _ => nI lv) g_m)) w_m lv cn t lw σ H.size (show lv < 2 from by exact hlv) (show TW cn t lw from by exact hTW) (show TM lv cn t lw (sA 64 (fun _ => nI un) (sA 18 (fun _ => nI lv) g_m)) from by exact hTM) (show MR (cn 2) σ (g_m 59) from by exact hKN.mr) (show ∀ h, h < cn 1 → σ 1 h = t 2 h from by exact hF1) (show σ 18 0 = t 12 2 from by exact hF2)) (cwV 0 hts (lw_V q2020 q2022 qs86 q133 q2023) rfl rfl rfl (by decide +kernel) ⟨Nat.le_of_ble_eq_true rfl, Nat.le_of_ble_eq_true rfl⟩) (zPreV hK hW hR (wj_split3 (B := [(mw Y ad_m (sA 64 (fun _ => nI un) (sA 18 (fun _ => nI lv) g_m)) w_m)]) (R := []) (C := [(mw Y ad_m (sA 64 (fun _ => nI un) (sA 18 (fun _ => nI lv) g_m)) w_m)]) (O := []) (X := []) (List.Perm.refl _)) (va_recv hK.1 hW.1 (ci := 11) (q0 := 0) rfl rfl)) rfl rfl hl.1 rfl (lv_room (Nat.le_of_ble_eq_true rfl)) dX12_swap_24 ⟨Nat.le_refl _, Nat.le_refl _⟩) hW hA (wj_split (B := [(mw Y ad_m (sA 64 (fun _ => nI un) (sA 18 (fun _ => nI lv) g_m)) w_m)]) (C := [(mw Y ad_m (sA 64 (fun _ => nI un) (sA 18 (fun _ => nI lv) g_m)) w_m)]) (R := []) (List.Perm.refl _)) (fun  u H locs hp_9 hW => ?_)
        obtain ⟨urow_10, ulots_11, ufarNow_12⟩ := u
        have hp_9 : RS cn σ urow_10 ufarNow_12 ulots_11 := hp_9
        have hW : zW D A s.heap H locs (wj [(mw Y ad_m (sA 64 (fun _ => nI un) (sA 62 ufarNow_12 (sA 61 (fun _ => ulots_11) (sA 60 urow_10 (sA 18 (fun _ => nI lv) g_m))))) w_m)]) := hW.join
        refine lv_aload_n hx hb dX12_swap_27 rfl (lv_at hl 0 rfl) ?_
        refine lv_iload_n hx hb dX12_swap_28 rfl (lv_at hl 1 rfl) ?_
        refine lv_topi (nm_r (e' := nI an) ean ?_)
        refine lv_iload_n hx hb dX12_swap_29 rfl (lv_at hl 2 rfl) ?_
        refine lv_topi (nm_r (e' := nI bn) ebn ?_)
        refine z_callv (wc := wj [(mw Y ad_m (sA 64 (fun _ => nI un) (sA 62 ufarNow_12 (sA 61 (fun _ => ulots_11) (sA 60 urow_10 (sA 18 (fun _ => nI lv) g_m))))) w_m)]) (wr := wj []) (va_runV (As := [.int (nI an), .int (nI bn)]) (rest := []) ⟨hx, hb, hml, hown, hts⟩ (m_X12_swaps l D Y ad_m (sA 64 (fun _ => nI un) (sA 62 ufarNow_12 (sA 61 (fun _ => ulots_11) (sA 60 urow_10 (sA 18 (fun _ => nI lv) g_m))))) w_m lv cn t lw σ an bn H.size (show lv < 2 from by exact hlv) (show TW cn t lw from by exact hTW) (show TM lv cn t lw (sA 64 (fun _ => nI un) (sA 62 ufarNow_12 (sA 61 (fun _ => ulots_11) (sA 60 urow_10 (sA 18 (fun _ => nI lv) g_m))))) from by exact hTM) (show RS cn σ urow_10 ufarNow_12 ulots_11 from by exact hp_9) (show an < 6 from by first | assumption | omega | grind) (show bn < 6 from by first | assumption | omega | grind)) (cwV 2 hts (lw_V q2090 q2092 qs97 q133 q2093) rfl rfl rfl (by decide +kernel) ⟨Nat.le_of_ble_eq_true rfl, Nat.le_of_ble_eq_true rfl⟩) (zPreV hK hW hR (wj_split3 (B := [(mw Y ad_m (sA 64 (fun _ => nI un) (sA 62 ufarNow_12 (sA 61 (fun _ => ulots_11) (sA 60 urow_10 (sA 18 (fun _ => nI lv) g_m))))) w_m)]) (R := []) (C := [(mw Y ad_m (sA 64 (fun _ => nI un) (sA 62 ufarNow_12 (sA 61 (fun _ => ulots_11) (sA 60 urow_10 (sA 18 (fun _ => nI lv) g_m))))) w_m)]) (O := []) (X := []) (List.Perm.refl _)) (va_recv hK.1 hW.1 (ci := 11) (q0 := 0) rfl rfl)) rfl rfl hl.1 rfl (lv_room (Nat.le_of_ble_eq_true rfl)) dX12_swap_30 ⟨Nat.le_refl _, Nat.le_refl _⟩) hW hA (wj_split (B := [(mw Y ad_m (sA 64 (fun _ => nI un) (sA 62 ufarNow_12 (sA 61 (fun _ => ulots_11) (sA 60 urow_10 (sA 18 (fun _ => nI lv) g_m))))) w_m)]) (C := [(mw Y ad_m (sA 64 (fun _ => nI un) (sA 62 ufarNow_12 (sA 61 (fun _ => ulots_11) (sA 60 urow_10 (sA 18 (fun _ => nI lv) g_m))))) w_m)]) (R := []) (List.Perm.refl _)) (fun  u H locs hp_14 hW => ?_)
        obtain ⟨urow_15, rfl⟩ : ∃ z, z = u := ⟨_, rfl⟩
        have hp_14 : RS cn (swapTo σ an bn 6) urow_15 ufarNow_12 ulots_11 := hp_14
        have hW : zW D A s.heap H locs (wj [(mw Y ad_m (sA 64 (fun _ => nI un) (sA 62 ufarNow_12 (sA 61 (fun _ => ulots_11) (sA 60 urow_15 (sA 18 (fun _ => nI lv) g_m))))) w_m)]) := hW.join
        refine lv_aload_n hx hb dX12_swap_33 rfl (lv_at hl 0 rfl) ?_
        refine z_callv (wc := wj [(mw Y ad_m (sA 64 (fun _ => nI un) (sA 62 ufarNow_12 (sA 61 (fun _ => ulots_11) (sA 60 urow_15 (sA 18 (fun _ => nI lv) g_m))))) w_m)]) (wr := wj []) (va_runV (As := []) (rest := []) ⟨hx, hb, hml, hown, hts⟩ (m_X12_keeps l D Y ad_m (sA 64 (fun _ => nI un) (sA 62 ufarNow_12 (sA 61 (fun _ => ulots_11) (sA 60 urow_15 (sA 18 (fun _ => nI lv) g_m))))) w_m un (cn 2) σ (swapTo σ an bn 6) U H.size (show (cn 2) ≤ 8 from by exact hk8) (show KN (cn 2) σ U (g_m 59) (g_m 65) un from by exact hKN) (show MR (cn 2) (swapTo σ an bn 6) urow_15 from by exact (hp_14).1)) (cwV 0 hts (lw_V q2078 q2080 qs96 q133 q2081) rfl rfl rfl (by decide +kernel) ⟨Nat.le_of_ble_eq_true rfl, Nat.le_of_ble_eq_true rfl⟩) (zPreV hK hW hR (wj_split3 (B := [(mw Y ad_m (sA 64 (fun _ => nI un) (sA 62 ufarNow_12 (sA 61 (fun _ => ulots_11) (sA 60 urow_15 (sA 18 (fun _ => nI lv) g_m))))) w_m)]) (R := []) (C := [(mw Y ad_m (sA 64 (fun _ => nI un) (sA 62 ufarNow_12 (sA 61 (fun _ => ulots_11) (sA 60 urow_15 (sA 18 (fun _ => nI lv) g_m))))) w_m)]) (O := []) (X := []) (List.Perm.refl _)) (va_recv hK.1 hW.1 (ci := 11) (q0 := 0) rfl rfl)) rfl rfl hl.1 rfl (lv_room (Nat.le_of_ble_eq_true rfl)) dX12_swap_34 ⟨Nat.le_refl _, Nat.le_refl _⟩) hW hA (wj_split (B := [(mw Y ad_m (sA 64 (fun _ => nI un) (sA 62 ufarNow_12 (sA 61 (fun _ => ulots_11) (sA 60 urow_15 (sA 18 (fun _ => nI lv) g_m))))) w_m)]) (C := [(mw Y ad_m (sA 64 (fun _ => nI un) (sA 62 ufarNow_12 (sA 61 (fun _ => ulots_11) (sA 60 urow_15 (sA 18 (fun _ => nI lv) g_m))))) w_m)]) (R := []) (List.Perm.refl _)) (fun  u H locs hp_17 hW => ?_)
        obtain ⟨unow_18, uhistory_19, uundos_20⟩ := u
        have hp_17 : KN (cn 2) (swapTo σ an bn 6) (pushU U σ) unow_18 uhistory_19 uundos_20 := hp_17
        have hW : zW D A s.heap H locs (wj [(mw Y ad_m (sA 65 uhistory_19 (sA 64 (fun _ => nI uundos_20) (sA 62 ufarNow_12 (sA 61 (fun _ => ulots_11) (sA 60 urow_15 (sA 59 unow_18 (sA 18 (fun _ => nI lv) g_m))))))) w_m)]) := hW.join
        refine lv_iconst (v := 1) hx hb dX12_swap_37 (by decide) ?_
        refine z_ireti ((unow_18, uhistory_19, uundos_20, urow_15, ulots_11, ufarNow_12) : (Nat → Int32) × (Nat → Int32) × (Nat) × (Nat → Int32) × (Int32) × (Nat → Int32)) hx hb hr hlocks rfl hW rfl dX12_swap_38 ?_
        show 1 = (swapO cn σ U ax bx).1 ∧ KN (cn 2) (swapO cn σ U ax bx).2.1 (swapO cn σ U ax bx).2.2 unow_18 uhistory_19 uundos_20
        have e : swapO cn σ U ax bx = _ := zi_t (⟨c_3, c_6, by rw [ean, ebn]; exact fun hq => absurd ((nI_eq (by omega) (by omega)).mp hq) c_7⟩) _ _
        rw [e]
        refine ⟨rfl, ?_⟩
        have hkk := hp_17
        simp only [kp, can, cbn]; exact hkk
      · have c_7 : an = bn := (nI_eq (a := an) (b := bn) (by omega) (by omega)).mp c_7
        refine lv_iconst (v := 0) hx hb dX12_swap_21 (by decide) ?_
        refine z_ireti ((g_m 59, g_m 65, un, g_m 60, g_m 61 0, g_m 62) : (Nat → Int32) × (Nat → Int32) × (Nat) × (Nat → Int32) × (Int32) × (Nat → Int32)) hx hb hr hlocks rfl hW rfl dX12_swap_22 ?_
        show 0 = (swapO cn σ U ax bx).1 ∧ KN (cn 2) (swapO cn σ U ax bx).2.1 (swapO cn σ U ax bx).2.2 (g_m 59) (g_m 65) un
        have e : swapO cn σ U ax bx = _ := zi_f (by first | (intro hq; exact absurd hq.1 (by assumption)) | (intro hq; exact absurd hq.2.1 (by assumption)) | (rw [ean, ebn]; intro hq; exact hq.2.2 ((nI_eq (by omega) (by omega)).mpr c_7))) _ _
        rw [e]
        exact ⟨rfl, hKN⟩
set_option maxHeartbeats 4000000 in
set_option maxRecDepth 100000 in
theorem m_X12_teach (l : Launch) (D : va_G) (Y : Nat → ClassId) (ad_m : Nat → Nat) (g_m : Nat → Nat → Int32) (w_m : Nat → Nat → Int64) (lv : Nat) (cn : Nat → Nat) (t : tab) (lw : Nat → Option LAW) (σ : tab) (U : List tab) (un : Nat) (B_ : Int) (rx : Int32) (gx : Int32) (sz : Nat) (hlv : lv < 2) (hTW : TW cn t lw) (hTM : TM lv cn t lw g_m) (hKN : KN (cn 2) σ U (g_m 59) (g_m 65) un) (hF1 : ∀ h, h < cn 1 → σ 1 h = t 2 h) (hF2 : σ 18 0 = t 12 2) (hWF : WF cn B_ σ) : Met l yX12_teach (ws_ yX12_teach cX12_teach 3 (some .boolean)) ({ frames := 3, cells := 0, slots := 0, locals := 55 }) (zPc D Y [.ref (ad_m 0), .int rx, .int gx] sz (wj []) (wj [(mw Y ad_m (sA 64 (fun _ => nI un) (sA 18 (fun _ => nI lv) g_m)) w_m)])) (va_Qi (fun (r : Int32) (u : (Nat → Int32) × (Nat → Int32) × (Nat) × (Nat → Int32) × (Int32) × (Nat → Int32)) => r = (teachO cn σ U rx gx).1 ∧ KN (cn 2) (teachO cn σ U rx gx).2.1 (teachO cn σ U rx gx).2.2 u.1 u.2.1 u.2.2.1) (zB D (fun (u : (Nat → Int32) × (Nat → Int32) × (Nat) × (Nat → Int32) × (Int32) × (Nat → Int32)) => (wj [(mw Y ad_m (sA 65 u.2.1 (sA 64 (fun _ => nI u.2.2.1) (sA 62 u.2.2.2.2.2 (sA 61 (fun _ => u.2.2.2.2.1) (sA 60 u.2.2.2.1 (sA 59 u.1 (sA 18 (fun _ => nI lv) g_m))))))) w_m)])) (va_A (wj [(mw Y ad_m (sA 64 (fun _ => nI un) (sA 18 (fun _ => nI lv) g_m)) w_m)]) sz)) (va_A (wj [(mw Y ad_m (sA 64 (fun _ => nI un) (sA 18 (fun _ => nI lv) g_m)) w_m)]) sz)) 0 0 (va_A (wj [(mw Y ad_m (sA 64 (fun _ => nI un) (sA 18 (fun _ => nI lv) g_m)) w_m)]) sz) := by
  refine Met.ofW (cc := cX12_teach) (maxL := 3) (ret := (some .boolean)) (by decide) rfl ?_
  intro p e s m args below meth c s₁ B hml hv
  obtain ⟨rfl, hsz, hW, hR, hK, hA⟩ := zEntry hv
  subst hsz
  have hx := B.exec
  have hb := B.bytes
  have hr := B.returns
  have hlocks := B.notSynchronized
  have hts : ∀ w ∈ lw_all, w.before _ s = true := fun w h => atoms_spec (ws := (ws_ yX12_teach cX12_teach 3 (some .boolean))) B.pre w (List.mem_cons_of_mem _ h)
  have hown : s.vm.findClass RX12 = some m.cls := findClass_of_methodNamed B.named
  generalize hAe : va_A (wj [(mw Y ad_m (sA 64 (fun _ => nI un) (sA 18 (fun _ => nI lv) g_m)) w_m)]) s.heap.size = A at hW hR hA ⊢
  have hl := lv_entry ([.ref (ad_m 0), .int rx, .int gx]) (n := 3) (Nat.le_of_ble_eq_true rfl)
  rw [lg_entry_eq]
  generalize (lg_sl ([.ref (ad_m 0), .int rx, .int gx]) ++ List.replicate (3 - (lg_sl ([.ref (ad_m 0), .int rx, .int gx])).length) Slot.unset).toArray = ls at hl ⊢
  have hl : lv_has ls 3 [(0, .ref (ad_m 0)), (1, .int rx), (2, .int gx)] := hl
  have hk8 := hTW.n2
  have hk6 := hTW.n1
  have hk60 := hTW.n0
  have hk5 := hTW.n3
  refine lv_aload_n hx hb dX12_teach_0 rfl (lv_at hl 0 rfl) ?_
  refine lv_iload_n hx hb dX12_teach_1 rfl (lv_at hl 1 rfl) ?_
  refine z_calli (wc := wj [(mw Y ad_m (sA 64 (fun _ => nI un) (sA 18 (fun _ => nI lv) g_m)) w_m)]) (wr := wj []) (va_runV (As := [.int rx]) (rest := []) ⟨hx, hb, hml, hown, hts⟩ (m_X12_isRat l D Y ad_m (sA 64 (fun _ => nI un) (sA 18 (fun _ => nI lv) g_m)) w_m lv cn t lw rx s.heap.size (show lv < 2 from by exact hlv) (show TW cn t lw from by exact hTW) (show TM lv cn t lw (sA 64 (fun _ => nI un) (sA 18 (fun _ => nI lv) g_m)) from by exact hTM)) (cwV 1 hts (lw_V q2012 q2014 qs85 q133 q2015) rfl rfl rfl (by decide +kernel) ⟨Nat.le_of_ble_eq_true rfl, Nat.le_of_ble_eq_true rfl⟩) (zPreV hK hW hR (wj_split3 (B := [(mw Y ad_m (sA 64 (fun _ => nI un) (sA 18 (fun _ => nI lv) g_m)) w_m)]) (R := []) (C := [(mw Y ad_m (sA 64 (fun _ => nI un) (sA 18 (fun _ => nI lv) g_m)) w_m)]) (O := []) (X := []) (List.Perm.refl _)) (va_recv hK.1 hW.1 (ci := 11) (q0 := 0) rfl rfl)) rfl rfl hl.1 rfl (lv_room (Nat.le_of_ble_eq_true rfl)) dX12_teach_2 ⟨Nat.le_refl _, Nat.le_refl _⟩) hW hA (wj_split (B := [(mw Y ad_m (sA 64 (fun _ => nI un) (sA 18 (fun _ => nI lv) g_m)) w_m)]) (C := [(mw Y ad_m (sA 64 (fun _ => nI un) (sA 18 (fun _ => nI lv) g_m)) w_m)]) (R := []) (List.Perm.refl _)) (fun r_1 u H locs hp_2 hW => ?_)
  have hp_2 : r_1 = zb (vp_in rx (cn 2)) := hp_2
  have hW : zW D A s.heap H locs (wj [(mw Y ad_m (sA 64 (fun _ => nI un) (sA 18 (fun _ => nI lv) g_m)) w_m)]) := hW.join
  refine lv_if_eq (tgt := 29) hx hb dX12_teach_5 (by decide) (fun c_3 => ?_) (fun c_3 => ?_)
  · have c_3 : ¬ (vp_in rx (cn 2)) := zb_eq hp_2 c_3
    refine lv_iconst (v := 0) hx hb dX12_teach_29 (by decide) ?_
    refine z_ireti ((g_m 59, g_m 65, un, g_m 60, g_m 61 0, g_m 62) : (Nat → Int32) × (Nat → Int32) × (Nat) × (Nat → Int32) × (Int32) × (Nat → Int32)) hx hb hr hlocks rfl hW rfl dX12_teach_30 ?_
    show 0 = (teachO cn σ U rx gx).1 ∧ KN (cn 2) (teachO cn σ U rx gx).2.1 (teachO cn σ U rx gx).2.2 (g_m 59) (g_m 65) un
    have e : teachO cn σ U rx gx = _ := zi_f (by first | (intro hq; exact absurd hq.1 (by assumption)) | (intro hq; exact absurd hq.2.1 (by assumption)) | (rw [crn, egn]; intro hq; exact hq.2.2 (by assumption))) _ _
    rw [e]
    exact ⟨rfl, hKN⟩
  · have c_3 : vp_in rx (cn 2) := zb_ne hp_2 c_3
    obtain ⟨rn, hrn, ern⟩ := vp_in_of c_3 (by omega)
    have crn : rx.toNatClampNeg = rn := by rw [ern]; exact nI_clamp (by omega)
    refine lv_aload_n hx hb dX12_teach_8 rfl (lv_at hl 0 rfl) ?_
    refine lv_iload_n hx hb dX12_teach_9 rfl (lv_at hl 2 rfl) ?_
    refine z_calli (wc := wj [(mw Y ad_m (sA 64 (fun _ => nI un) (sA 18 (fun _ => nI lv) g_m)) w_m)]) (wr := wj []) (va_runV (As := [.int gx]) (rest := []) ⟨hx, hb, hml, hown, hts⟩ (m_X12_isGrain l D Y ad_m (sA 64 (fun _ => nI un) (sA 18 (fun _ => nI lv) g_m)) w_m lv cn t lw gx H.size (show lv < 2 from by exact hlv) (show TW cn t lw from by exact hTW) (show TM lv cn t lw (sA 64 (fun _ => nI un) (sA 18 (fun _ => nI lv) g_m)) from by exact hTM)) (cwV 1 hts (lw_V q1993 q1995 qs83 q133 q1996) rfl rfl rfl (by decide +kernel) ⟨Nat.le_of_ble_eq_true rfl, Nat.le_of_ble_eq_true rfl⟩) (zPreV hK hW hR (wj_split3 (B := [(mw Y ad_m (sA 64 (fun _ => nI un) (sA 18 (fun _ => nI lv) g_m)) w_m)]) (R := []) (C := [(mw Y ad_m (sA 64 (fun _ => nI un) (sA 18 (fun _ => nI lv) g_m)) w_m)]) (O := []) (X := []) (List.Perm.refl _)) (va_recv hK.1 hW.1 (ci := 11) (q0 := 0) rfl rfl)) rfl rfl hl.1 rfl (lv_room (Nat.le_of_ble_eq_true rfl)) dX12_teach_10 ⟨Nat.le_refl _, Nat.le_refl _⟩) hW hA (wj_split (B := [(mw Y ad_m (sA 64 (fun _ => nI un) (sA 18 (fun _ => nI lv) g_m)) w_m)]) (C := [(mw Y ad_m (sA 64 (fun _ => nI un) (sA 18 (fun _ => nI lv) g_m)) w_m)]) (R := []) (List.Perm.refl _)) (fun r_4 u H locs hp_5 hW => ?_)
    have hp_5 : r_4 = zb (vp_in gx (cn 0)) := hp_5
    have hW : zW D A s.heap H locs (wj [(mw Y ad_m (sA 64 (fun _ => nI un) (sA 18 (fun _ => nI lv) g_m)) w_m)]) := hW.join
    refine lv_if_eq (tgt := 29) hx hb dX12_teach_13 (by decide) (fun c_6 => ?_) (fun c_6 => ?_)
    · have c_6 : ¬ (vp_in gx (cn 0)) := zb_eq hp_5 c_6
      refine lv_iconst (v := 0) hx hb dX12_teach_29 (by decide) ?_
      refine z_ireti ((g_m 59, g_m 65, un, g_m 60, g_m 61 0, g_m 62) : (Nat → Int32) × (Nat → Int32) × (Nat) × (Nat → Int32) × (Int32) × (Nat → Int32)) hx hb hr hlocks rfl hW rfl dX12_teach_30 ?_
      show 0 = (teachO cn σ U rx gx).1 ∧ KN (cn 2) (teachO cn σ U rx gx).2.1 (teachO cn σ U rx gx).2.2 (g_m 59) (g_m 65) un
      have e : teachO cn σ U rx gx = _ := zi_f (by first | (intro hq; exact absurd hq.1 (by assumption)) | (intro hq; exact absurd hq.2.1 (by assumption)) | (rw [crn, egn]; intro hq; exact hq.2.2 (by assumption))) _ _
      rw [e]
      exact ⟨rfl, hKN⟩
    · have c_6 : vp_in gx (cn 0) := zb_ne hp_5 c_6
      obtain ⟨gn, hgn, egn⟩ := vp_in_of c_6 (by omega)
      have cgn : gx.toNatClampNeg = gn := by rw [egn]; exact nI_clamp (by omega)
      refine lv_aload_n hx hb dX12_teach_16 rfl (lv_at hl 0 rfl) ?_
      refine va_get (v := .ref (ad_m 59)) (C := RX12) (T := TX12) (N := 75) (ci := 11) hx hb hts in_X12 hown hK.1 hW.1 0 rfl rfl 59 (by decide) (hts _ q1695) (fun _ h9 => h9) rfl dX12_teach_17 ?_
      refine lv_bipush (v := 90) hx hb dX12_teach_20 (by decide) ?_
      refine lv_iload_n hx hb dX12_teach_22 rfl (lv_at hl 1 rfl) ?_
      refine lv_topi (nm_r (e' := nI rn) ern ?_)
      refine lv_iadd hx hb dX12_teach_23 ?_
      refine lv_topi (nm_r (e' := nI (90 + rn)) (nI_add 90 rn) ?_)
      refine z_iald (v := σ 10 rn) (f := g_m 59) (j := 90 + rn) hx hb hK.1 hW.1 42 0 rfl rfl (vp_in_nI (n := 90 + rn) (by omega) (by decide)) (nI_clamp (n := 90 + rn) (by omega)) (MR.r10 hKN.mr (r := rn) (by omega)) dX12_teach_24 ?_
      refine lv_iload_n hx hb dX12_teach_25 rfl (lv_at hl 2 rfl) ?_
      refine lv_topi (nm_r (e' := nI gn) egn ?_)
      refine lv_icmp_ne (tgt := 31) hx hb dX12_teach_26 (by decide) (fun c_7 => ?_) (fun c_7 => ?_)
      · refine lv_aload_n hx hb dX12_teach_31 rfl (lv_at hl 0 rfl) ?_
        refine z_callv (wc := wj [(mw Y ad_m (sA 64 (fun _ => nI un) (sA 18 (fun _ => nI lv) g_m)) w_m)]) (wr := wj []) (va_runV (As := []) (rest := []) ⟨hx, hb, hml, hown, hts⟩ (m_X12_copies l D Y ad_m (sA 64 (fun _ => nI un) (sA 18 (fun _ => nI lv) g_m)) w_m lv cn t lw σ H.size (show lv < 2 from by exact hlv) (show TW cn t lw from by exact hTW) (show TM lv cn t lw (sA 64 (fun _ => nI un) (sA 18 (fun _ => nI lv) g_m)) from by exact hTM) (show MR (cn 2) σ (g_m 59) from by exact hKN.mr) (show ∀ h, h < cn 1 → σ 1 h = t 2 h from by exact hF1) (show σ 18 0 = t 12 2 from by exact hF2)) (cwV 0 hts (lw_V q2020 q2022 qs86 q133 q2023) rfl rfl rfl (by decide +kernel) ⟨Nat.le_of_ble_eq_true rfl, Nat.le_of_ble_eq_true rfl⟩) (zPreV hK hW hR (wj_split3 (B := [(mw Y ad_m (sA 64 (fun _ => nI un) (sA 18 (fun _ => nI lv) g_m)) w_m)]) (R := []) (C := [(mw Y ad_m (sA 64 (fun _ => nI un) (sA 18 (fun _ => nI lv) g_m)) w_m)]) (O := []) (X := []) (List.Perm.refl _)) (va_recv hK.1 hW.1 (ci := 11) (q0 := 0) rfl rfl)) rfl rfl hl.1 rfl (lv_room (Nat.le_of_ble_eq_true rfl)) dX12_teach_32 ⟨Nat.le_refl _, Nat.le_refl _⟩) hW hA (wj_split (B := [(mw Y ad_m (sA 64 (fun _ => nI un) (sA 18 (fun _ => nI lv) g_m)) w_m)]) (C := [(mw Y ad_m (sA 64 (fun _ => nI un) (sA 18 (fun _ => nI lv) g_m)) w_m)]) (R := []) (List.Perm.refl _)) (fun  u H locs hp_9 hW => ?_)
        obtain ⟨urow_10, ulots_11, ufarNow_12⟩ := u
        have hp_9 : RS cn σ urow_10 ufarNow_12 ulots_11 := hp_9
        have hW : zW D A s.heap H locs (wj [(mw Y ad_m (sA 64 (fun _ => nI un) (sA 62 ufarNow_12 (sA 61 (fun _ => ulots_11) (sA 60 urow_10 (sA 18 (fun _ => nI lv) g_m))))) w_m)]) := hW.join
        refine lv_aload_n hx hb dX12_teach_35 rfl (lv_at hl 0 rfl) ?_
        refine va_get (v := .ref (ad_m 60)) (C := RX12) (T := TX12) (N := 75) (ci := 11) hx hb hts in_X12 hown hK.1 hW.1 0 rfl rfl 60 (by decide) (hts _ q1696) (fun _ h9 => h9) rfl dX12_teach_36 ?_
        refine lv_bipush (v := 90) hx hb dX12_teach_39 (by decide) ?_
        refine lv_iload_n hx hb dX12_teach_41 rfl (lv_at hl 1 rfl) ?_
        refine lv_topi (nm_r (e' := nI rn) ern ?_)
        refine lv_iadd hx hb dX12_teach_42 ?_
        refine lv_topi (nm_r (e' := nI (90 + rn)) (nI_add 90 rn) ?_)
        refine lv_iload_n hx hb dX12_teach_43 rfl (lv_at hl 2 rfl) ?_
        refine lv_topi (nm_r (e' := nI gn) egn ?_)
        refine z_iast (x := nI gn) (f := urow_10) (j := 90 + rn) (wn := (wj [(mw Y ad_m (sA 64 (fun _ => nI un) (sA 62 ufarNow_12 (sA 61 (fun _ => ulots_11) (sA 60 (upd urow_10 (90 + rn) (nI gn)) (sA 18 (fun _ => nI lv) g_m))))) w_m)])) hx hb hK.1 hW 43 0 rfl rfl (vp_in_nI (n := 90 + rn) (by omega) (by decide)) (nI_clamp (n := 90 + rn) (by omega)) dX12_teach_44 rfl (fun H locs hW => ?_)
        refine lv_aload_n hx hb dX12_teach_45 rfl (lv_at hl 0 rfl) ?_
        refine z_callv (wc := wj [(mw Y ad_m (sA 64 (fun _ => nI un) (sA 62 ufarNow_12 (sA 61 (fun _ => ulots_11) (sA 60 (upd urow_10 (90 + rn) (nI gn)) (sA 18 (fun _ => nI lv) g_m))))) w_m)]) (wr := wj []) (va_runV (As := []) (rest := []) ⟨hx, hb, hml, hown, hts⟩ (m_X12_keeps l D Y ad_m (sA 64 (fun _ => nI un) (sA 62 ufarNow_12 (sA 61 (fun _ => ulots_11) (sA 60 (upd urow_10 (90 + rn) (nI gn)) (sA 18 (fun _ => nI lv) g_m))))) w_m un (cn 2) σ (sU 10 rn (nI gn) σ) U H.size (show (cn 2) ≤ 8 from by exact hk8) (show KN (cn 2) σ U (g_m 59) (g_m 65) un from by exact hKN) (show MR (cn 2) (sU 10 rn (nI gn) σ) (upd urow_10 (90 + rn) (nI gn)) from by exact ((RS.mk' hp_9 (MR.u10 hk8 hp_9.1 (r := rn) (by omega) (nI gn)) (by rw [sU_ne (by omega)]) (by rw [sU_ne (by omega)]))).1)) (cwV 0 hts (lw_V q2078 q2080 qs96 q133 q2081) rfl rfl rfl (by decide +kernel) ⟨Nat.le_of_ble_eq_true rfl, Nat.le_of_ble_eq_true rfl⟩) (zPreV hK hW hR (wj_split3 (B := [(mw Y ad_m (sA 64 (fun _ => nI un) (sA 62 ufarNow_12 (sA 61 (fun _ => ulots_11) (sA 60 (upd urow_10 (90 + rn) (nI gn)) (sA 18 (fun _ => nI lv) g_m))))) w_m)]) (R := []) (C := [(mw Y ad_m (sA 64 (fun _ => nI un) (sA 62 ufarNow_12 (sA 61 (fun _ => ulots_11) (sA 60 (upd urow_10 (90 + rn) (nI gn)) (sA 18 (fun _ => nI lv) g_m))))) w_m)]) (O := []) (X := []) (List.Perm.refl _)) (va_recv hK.1 hW.1 (ci := 11) (q0 := 0) rfl rfl)) rfl rfl hl.1 rfl (lv_room (Nat.le_of_ble_eq_true rfl)) dX12_teach_46 ⟨Nat.le_refl _, Nat.le_refl _⟩) hW hA (wj_split (B := [(mw Y ad_m (sA 64 (fun _ => nI un) (sA 62 ufarNow_12 (sA 61 (fun _ => ulots_11) (sA 60 (upd urow_10 (90 + rn) (nI gn)) (sA 18 (fun _ => nI lv) g_m))))) w_m)]) (C := [(mw Y ad_m (sA 64 (fun _ => nI un) (sA 62 ufarNow_12 (sA 61 (fun _ => ulots_11) (sA 60 (upd urow_10 (90 + rn) (nI gn)) (sA 18 (fun _ => nI lv) g_m))))) w_m)]) (R := []) (List.Perm.refl _)) (fun  u H locs hp_14 hW => ?_)
        obtain ⟨unow_15, uhistory_16, uundos_17⟩ := u
        have hp_14 : KN (cn 2) (sU 10 rn (nI gn) σ) (pushU U σ) unow_15 uhistory_16 uundos_17 := hp_14
        have hW : zW D A s.heap H locs (wj [(mw Y ad_m (sA 65 uhistory_16 (sA 64 (fun _ => nI uundos_17) (sA 62 ufarNow_12 (sA 61 (fun _ => ulots_11) (sA 60 (upd urow_10 (90 + rn) (nI gn)) (sA 59 unow_15 (sA 18 (fun _ => nI lv) g_m))))))) w_m)]) := hW.join
        refine lv_iconst (v := 1) hx hb dX12_teach_49 (by decide) ?_
        refine z_ireti ((unow_15, uhistory_16, uundos_17, upd urow_10 (90 + rn) (nI gn), ulots_11, ufarNow_12) : (Nat → Int32) × (Nat → Int32) × (Nat) × (Nat → Int32) × (Int32) × (Nat → Int32)) hx hb hr hlocks rfl hW rfl dX12_teach_50 ?_
        show 1 = (teachO cn σ U rx gx).1 ∧ KN (cn 2) (teachO cn σ U rx gx).2.1 (teachO cn σ U rx gx).2.2 unow_15 uhistory_16 uundos_17
        have e : teachO cn σ U rx gx = _ := zi_t (⟨c_3, c_6, by rw [crn, egn]; exact c_7⟩) _ _
        rw [e]
        refine ⟨rfl, ?_⟩
        have hkk := hp_14
        simp only [kp, crn, egn]; exact hkk
      · refine lv_iconst (v := 0) hx hb dX12_teach_29 (by decide) ?_
        refine z_ireti ((g_m 59, g_m 65, un, g_m 60, g_m 61 0, g_m 62) : (Nat → Int32) × (Nat → Int32) × (Nat) × (Nat → Int32) × (Int32) × (Nat → Int32)) hx hb hr hlocks rfl hW rfl dX12_teach_30 ?_
        show 0 = (teachO cn σ U rx gx).1 ∧ KN (cn 2) (teachO cn σ U rx gx).2.1 (teachO cn σ U rx gx).2.2 (g_m 59) (g_m 65) un
        have e : teachO cn σ U rx gx = _ := zi_f (by first | (intro hq; exact absurd hq.1 (by assumption)) | (intro hq; exact absurd hq.2.1 (by assumption)) | (rw [crn, egn]; intro hq; exact hq.2.2 (by assumption))) _ _
        rw [e]
        exact ⟨rfl, hKN⟩
set_option maxHeartbeats 4000000 in
set_option maxRecDepth 100000 in
theorem m_X12_cat (l : Launch) (D : va_G) (Y : Nat → ClassId) (ad_m : Nat → Nat) (g_m : Nat → Nat → Int32) (w_m : Nat → Nat → Int64) (lv : Nat) (cn : Nat → Nat) (t : tab) (lw : Nat → Option LAW) (σ : tab) (U : List tab) (un : Nat) (B_ : Int) (kx : Int32) (sz : Nat) (hlv : lv < 2) (hTW : TW cn t lw) (hTM : TM lv cn t lw g_m) (hKN : KN (cn 2) σ U (g_m 59) (g_m 65) un) (hF1 : ∀ h, h < cn 1 → σ 1 h = t 2 h) (hF2 : σ 18 0 = t 12 2) (hWF : WF cn B_ σ) : Met l yX12_cat (ws_ yX12_cat cX12_cat 2 (some .int)) ({ frames := 3, cells := 0, slots := 0, locals := 54 }) (zPc D Y [.ref (ad_m 0), .int kx] sz (wj []) (wj [(mw Y ad_m (sA 64 (fun _ => nI un) (sA 18 (fun _ => nI lv) g_m)) w_m)])) (va_Qi (fun (r : Int32) (u : (Nat → Int32) × (Nat → Int32) × (Nat) × (Nat → Int32) × (Int32) × (Nat → Int32)) => r = (catO σ U kx).1 ∧ KN (cn 2) (catO σ U kx).2.1 (catO σ U kx).2.2 u.1 u.2.1 u.2.2.1) (zB D (fun (u : (Nat → Int32) × (Nat → Int32) × (Nat) × (Nat → Int32) × (Int32) × (Nat → Int32)) => (wj [(mw Y ad_m (sA 65 u.2.1 (sA 64 (fun _ => nI u.2.2.1) (sA 62 u.2.2.2.2.2 (sA 61 (fun _ => u.2.2.2.2.1) (sA 60 u.2.2.2.1 (sA 59 u.1 (sA 18 (fun _ => nI lv) g_m))))))) w_m)])) (va_A (wj [(mw Y ad_m (sA 64 (fun _ => nI un) (sA 18 (fun _ => nI lv) g_m)) w_m)]) sz)) (va_A (wj [(mw Y ad_m (sA 64 (fun _ => nI un) (sA 18 (fun _ => nI lv) g_m)) w_m)]) sz)) 0 0 (va_A (wj [(mw Y ad_m (sA 64 (fun _ => nI un) (sA 18 (fun _ => nI lv) g_m)) w_m)]) sz) := by
  refine Met.ofW (cc := cX12_cat) (maxL := 2) (ret := (some .int)) (by decide) rfl ?_
  intro p e s m args below meth c s₁ B hml hv
  obtain ⟨rfl, hsz, hW, hR, hK, hA⟩ := zEntry hv
  subst hsz
  have hx := B.exec
  have hb := B.bytes
  have hr := B.returns
  have hlocks := B.notSynchronized
  have hts : ∀ w ∈ lw_all, w.before _ s = true := fun w h => atoms_spec (ws := (ws_ yX12_cat cX12_cat 2 (some .int))) B.pre w (List.mem_cons_of_mem _ h)
  have hown : s.vm.findClass RX12 = some m.cls := findClass_of_methodNamed B.named
  generalize hAe : va_A (wj [(mw Y ad_m (sA 64 (fun _ => nI un) (sA 18 (fun _ => nI lv) g_m)) w_m)]) s.heap.size = A at hW hR hA ⊢
  have hl := lv_entry ([.ref (ad_m 0), .int kx]) (n := 2) (Nat.le_of_ble_eq_true rfl)
  rw [lg_entry_eq]
  generalize (lg_sl ([.ref (ad_m 0), .int kx]) ++ List.replicate (2 - (lg_sl ([.ref (ad_m 0), .int kx])).length) Slot.unset).toArray = ls at hl ⊢
  have hl : lv_has ls 2 [(0, .ref (ad_m 0)), (1, .int kx)] := hl
  have hk8 := hTW.n2
  have hk6 := hTW.n1
  have hk60 := hTW.n0
  have hk5 := hTW.n3
  refine lv_iload_n hx hb dX12_cat_0 rfl (lv_at hl 1 rfl) ?_
  refine lv_iconst (v := 1) hx hb dX12_cat_1 (by decide) ?_
  refine lv_bipush (v := 99) hx hb dX12_cat_2 (by decide) ?_
  refine z_calli (wc := wj []) (wr := wj [(mw Y ad_m (sA 64 (fun _ => nI un) (sA 18 (fun _ => nI lv) g_m)) w_m)]) (va_runS (As := [.int kx, .int 1, .int 99]) (rest := []) ⟨hx, hb, hml, hown, hts⟩ (m_X12_in l D Y kx 1 99 s.heap.size) (va_cwS 3 hts (lw_S q1997 q1998 q133 q1999) rfl rfl rfl (by decide +kernel) ⟨Nat.le_of_ble_eq_true rfl, Nat.le_of_ble_eq_true rfl⟩) (zPre hK hW hR (wj_split3 (B := [(mw Y ad_m (sA 64 (fun _ => nI un) (sA 18 (fun _ => nI lv) g_m)) w_m)]) (R := []) (C := []) (O := []) (X := [(mw Y ad_m (sA 64 (fun _ => nI un) (sA 18 (fun _ => nI lv) g_m)) w_m)]) (List.Perm.refl _))) rfl rfl hl.1 rfl (lv_room (Nat.le_of_ble_eq_true rfl)) dX12_cat_4 ⟨Nat.le_refl _, Nat.le_refl _⟩) hW hA (wj_split (B := [(mw Y ad_m (sA 64 (fun _ => nI un) (sA 18 (fun _ => nI lv) g_m)) w_m)]) (C := []) (R := [(mw Y ad_m (sA 64 (fun _ => nI un) (sA 18 (fun _ => nI lv) g_m)) w_m)]) (List.Perm.refl _)) (fun r_1 u H locs hp_2 hW => ?_)
  have hp_2 : r_1 = zb (¬ kx < 1 ∧ ¬ 99 < kx) := hp_2
  have hW : zW D A s.heap H locs (wj [(mw Y ad_m (sA 64 (fun _ => nI un) (sA 18 (fun _ => nI lv) g_m)) w_m)]) := hW.join
  refine lv_if_eq (tgt := 25) hx hb dX12_cat_7 (by decide) (fun c_3 => ?_) (fun c_3 => ?_)
  · have c_3 : ¬ (¬ kx < 1 ∧ ¬ 99 < kx) := zb_eq hp_2 c_3
    refine lv_iconst (v := (-1)) hx hb dX12_cat_25 (by decide) ?_
    refine z_ireti ((g_m 59, g_m 65, un, g_m 60, g_m 61 0, g_m 62) : (Nat → Int32) × (Nat → Int32) × (Nat) × (Nat → Int32) × (Int32) × (Nat → Int32)) hx hb hr hlocks rfl hW rfl dX12_cat_26 ?_
    show (-1) = (catO σ U kx).1 ∧ KN (cn 2) (catO σ U kx).2.1 (catO σ U kx).2.2 (g_m 59) (g_m 65) un
    have e : catO σ U kx = _ := zi_f (by first | assumption | (intro hq; exact absurd hq.1 (by assumption)) | (intro hq; exact absurd hq.2.1 (by assumption)) | (intro hq; exact absurd hq.2.2 (by assumption)) | grind) _ _
    rw [e]
    exact ⟨rfl, hKN⟩
  · have c_3 : ¬ kx < 1 ∧ ¬ 99 < kx := zb_ne hp_2 c_3
    refine lv_aload_n hx hb dX12_cat_10 rfl (lv_at hl 0 rfl) ?_
    refine va_get (v := .ref (ad_m 59)) (C := RX12) (T := TX12) (N := 75) (ci := 11) hx hb hts in_X12 hown hK.1 hW.1 0 rfl rfl 59 (by decide) (hts _ q1695) (fun _ h9 => h9) rfl dX12_cat_11 ?_
    refine lv_bipush (v := 118) hx hb dX12_cat_14 (by decide) ?_
    refine z_iald (v := σ 12 0) (f := g_m 59) (j := 118) hx hb hK.1 hW.1 42 0 rfl rfl (vp_in_nI (n := 118) (by omega) (by decide)) (by decide) (MR.s12 hKN.mr) dX12_cat_16 ?_
    refine lv_iload_n hx hb dX12_cat_17 rfl (lv_at hl 1 rfl) ?_
    refine lv_iadd hx hb dX12_cat_18 ?_
    refine lv_sipush (v := 999) hx hb dX12_cat_19 (by decide) ?_
    refine lv_icmp_le (tgt := 27) hx hb dX12_cat_22 (by decide) (fun c_4 => ?_) (fun c_4 => ?_)
    · refine lv_aload_n hx hb dX12_cat_27 rfl (lv_at hl 0 rfl) ?_
      refine z_callv (wc := wj [(mw Y ad_m (sA 64 (fun _ => nI un) (sA 18 (fun _ => nI lv) g_m)) w_m)]) (wr := wj []) (va_runV (As := []) (rest := []) ⟨hx, hb, hml, hown, hts⟩ (m_X12_copies l D Y ad_m (sA 64 (fun _ => nI un) (sA 18 (fun _ => nI lv) g_m)) w_m lv cn t lw σ H.size (show lv < 2 from by exact hlv) (show TW cn t lw from by exact hTW) (show TM lv cn t lw (sA 64 (fun _ => nI un) (sA 18 (fun _ => nI lv) g_m)) from by exact hTM) (show MR (cn 2) σ (g_m 59) from by exact hKN.mr) (show ∀ h, h < cn 1 → σ 1 h = t 2 h from by exact hF1) (show σ 18 0 = t 12 2 from by exact hF2)) (cwV 0 hts (lw_V q2020 q2022 qs86 q133 q2023) rfl rfl rfl (by decide +kernel) ⟨Nat.le_of_ble_eq_true rfl, Nat.le_of_ble_eq_true rfl⟩) (zPreV hK hW hR (wj_split3 (B := [(mw Y ad_m (sA 64 (fun _ => nI un) (sA 18 (fun _ => nI lv) g_m)) w_m)]) (R := []) (C := [(mw Y ad_m (sA 64 (fun _ => nI un) (sA 18 (fun _ => nI lv) g_m)) w_m)]) (O := []) (X := []) (List.Perm.refl _)) (va_recv hK.1 hW.1 (ci := 11) (q0 := 0) rfl rfl)) rfl rfl hl.1 rfl (lv_room (Nat.le_of_ble_eq_true rfl)) dX12_cat_28 ⟨Nat.le_refl _, Nat.le_refl _⟩) hW hA (wj_split (B := [(mw Y ad_m (sA 64 (fun _ => nI un) (sA 18 (fun _ => nI lv) g_m)) w_m)]) (C := [(mw Y ad_m (sA 64 (fun _ => nI un) (sA 18 (fun _ => nI lv) g_m)) w_m)]) (R := []) (List.Perm.refl _)) (fun  u H locs hp_6 hW => ?_)
      obtain ⟨urow_7, ulots_8, ufarNow_9⟩ := u
      have hp_6 : RS cn σ urow_7 ufarNow_9 ulots_8 := hp_6
      have hW : zW D A s.heap H locs (wj [(mw Y ad_m (sA 64 (fun _ => nI un) (sA 62 ufarNow_9 (sA 61 (fun _ => ulots_8) (sA 60 urow_7 (sA 18 (fun _ => nI lv) g_m))))) w_m)]) := hW.join
      refine lv_aload_n hx hb dX12_cat_31 rfl (lv_at hl 0 rfl) ?_
      refine va_get (v := .ref (ad_m 60)) (C := RX12) (T := TX12) (N := 75) (ci := 11) hx hb hts in_X12 hown hK.1 hW.1 0 rfl rfl 60 (by decide) (hts _ q1696) (fun _ h9 => h9) rfl dX12_cat_32 ?_
      refine lv_bipush (v := 118) hx hb dX12_cat_35 (by decide) ?_
      refine lv_dup2_11 hx hb dX12_cat_37 rfl rfl ?_
      refine z_iald (v := σ 12 0) (f := urow_7) (j := 118) hx hb hK.1 hW.1 43 0 rfl rfl (vp_in_nI (n := 118) (by omega) (by decide)) (by decide) (MR.s12 hp_6.1) dX12_cat_38 ?_
      refine lv_iload_n hx hb dX12_cat_39 rfl (lv_at hl 1 rfl) ?_
      refine lv_iadd hx hb dX12_cat_40 ?_
      refine z_iast (x := (σ 12 0) + kx) (f := urow_7) (j := 118) (wn := (wj [(mw Y ad_m (sA 64 (fun _ => nI un) (sA 62 ufarNow_9 (sA 61 (fun _ => ulots_8) (sA 60 (upd urow_7 118 ((σ 12 0) + kx)) (sA 18 (fun _ => nI lv) g_m))))) w_m)])) hx hb hK.1 hW 43 0 rfl rfl (vp_in_nI (n := 118) (by omega) (by decide)) (by decide) dX12_cat_41 rfl (fun H locs hW => ?_)
      refine lv_aload_n hx hb dX12_cat_42 rfl (lv_at hl 0 rfl) ?_
      refine z_callv (wc := wj [(mw Y ad_m (sA 64 (fun _ => nI un) (sA 62 ufarNow_9 (sA 61 (fun _ => ulots_8) (sA 60 (upd urow_7 118 ((σ 12 0) + kx)) (sA 18 (fun _ => nI lv) g_m))))) w_m)]) (wr := wj []) (va_runV (As := []) (rest := []) ⟨hx, hb, hml, hown, hts⟩ (m_X12_keeps l D Y ad_m (sA 64 (fun _ => nI un) (sA 62 ufarNow_9 (sA 61 (fun _ => ulots_8) (sA 60 (upd urow_7 118 ((σ 12 0) + kx)) (sA 18 (fun _ => nI lv) g_m))))) w_m un (cn 2) σ (sS 12 ((σ 12 0) + kx) σ) U H.size (show (cn 2) ≤ 8 from by exact hk8) (show KN (cn 2) σ U (g_m 59) (g_m 65) un from by exact hKN) (show MR (cn 2) (sS 12 ((σ 12 0) + kx) σ) (upd urow_7 118 ((σ 12 0) + kx)) from by exact ((RS.mk' hp_6 (MR.v12 hk8 hp_6.1 ((σ 12 0) + kx)) (by rw [sS_ne (by omega)]) (by rw [sS_ne (by omega)]))).1)) (cwV 0 hts (lw_V q2078 q2080 qs96 q133 q2081) rfl rfl rfl (by decide +kernel) ⟨Nat.le_of_ble_eq_true rfl, Nat.le_of_ble_eq_true rfl⟩) (zPreV hK hW hR (wj_split3 (B := [(mw Y ad_m (sA 64 (fun _ => nI un) (sA 62 ufarNow_9 (sA 61 (fun _ => ulots_8) (sA 60 (upd urow_7 118 ((σ 12 0) + kx)) (sA 18 (fun _ => nI lv) g_m))))) w_m)]) (R := []) (C := [(mw Y ad_m (sA 64 (fun _ => nI un) (sA 62 ufarNow_9 (sA 61 (fun _ => ulots_8) (sA 60 (upd urow_7 118 ((σ 12 0) + kx)) (sA 18 (fun _ => nI lv) g_m))))) w_m)]) (O := []) (X := []) (List.Perm.refl _)) (va_recv hK.1 hW.1 (ci := 11) (q0 := 0) rfl rfl)) rfl rfl hl.1 rfl (lv_room (Nat.le_of_ble_eq_true rfl)) dX12_cat_43 ⟨Nat.le_refl _, Nat.le_refl _⟩) hW hA (wj_split (B := [(mw Y ad_m (sA 64 (fun _ => nI un) (sA 62 ufarNow_9 (sA 61 (fun _ => ulots_8) (sA 60 (upd urow_7 118 ((σ 12 0) + kx)) (sA 18 (fun _ => nI lv) g_m))))) w_m)]) (C := [(mw Y ad_m (sA 64 (fun _ => nI un) (sA 62 ufarNow_9 (sA 61 (fun _ => ulots_8) (sA 60 (upd urow_7 118 ((σ 12 0) + kx)) (sA 18 (fun _ => nI lv) g_m))))) w_m)]) (R := []) (List.Perm.refl _)) (fun  u H locs hp_11 hW => ?_)
      obtain ⟨unow_12, uhistory_13, uundos_14⟩ := u
      have hp_11 : KN (cn 2) (sS 12 ((σ 12 0) + kx) σ) (pushU U σ) unow_12 uhistory_13 uundos_14 := hp_11
      have hW : zW D A s.heap H locs (wj [(mw Y ad_m (sA 65 uhistory_13 (sA 64 (fun _ => nI uundos_14) (sA 62 ufarNow_9 (sA 61 (fun _ => ulots_8) (sA 60 (upd urow_7 118 ((σ 12 0) + kx)) (sA 59 unow_12 (sA 18 (fun _ => nI lv) g_m))))))) w_m)]) := hW.join
      refine lv_aload_n hx hb dX12_cat_46 rfl (lv_at hl 0 rfl) ?_
      refine va_get (v := .ref (ad_m 59)) (C := RX12) (T := TX12) (N := 75) (ci := 11) hx hb hts in_X12 hown hK.1 hW.1 0 rfl rfl 59 (by decide) (hts _ q1695) (fun _ h9 => h9) rfl dX12_cat_47 ?_
      refine lv_bipush (v := 118) hx hb dX12_cat_50 (by decide) ?_
      refine z_iald (v := (sS 12 ((σ 12 0) + kx) σ) 12 0) (f := unow_12) (j := 118) hx hb hK.1 hW.1 42 0 rfl rfl (vp_in_nI (n := 118) (by omega) (by decide)) (by decide) (MR.s12 hp_11.mr) dX12_cat_52 ?_
      refine z_ireti ((unow_12, uhistory_13, uundos_14, upd urow_7 118 ((σ 12 0) + kx), ulots_8, ufarNow_9) : (Nat → Int32) × (Nat → Int32) × (Nat) × (Nat → Int32) × (Int32) × (Nat → Int32)) hx hb hr hlocks rfl hW rfl dX12_cat_53 ?_
      show ((sS 12 ((σ 12 0) + kx) σ) 12 0) = (catO σ U kx).1 ∧ KN (cn 2) (catO σ U kx).2.1 (catO σ U kx).2.2 unow_12 uhistory_13 uundos_14
      have e : catO σ U kx = _ := zi_t (⟨c_3, c_4⟩) _ _
      rw [e]
      refine ⟨rfl, ?_⟩
      have hkk := hp_11
      exact hkk
    · refine lv_iconst (v := (-1)) hx hb dX12_cat_25 (by decide) ?_
      refine z_ireti ((g_m 59, g_m 65, un, g_m 60, g_m 61 0, g_m 62) : (Nat → Int32) × (Nat → Int32) × (Nat) × (Nat → Int32) × (Int32) × (Nat → Int32)) hx hb hr hlocks rfl hW rfl dX12_cat_26 ?_
      show (-1) = (catO σ U kx).1 ∧ KN (cn 2) (catO σ U kx).2.1 (catO σ U kx).2.2 (g_m 59) (g_m 65) un
      have e : catO σ U kx = _ := zi_f (by first | assumption | (intro hq; exact absurd hq.1 (by assumption)) | (intro hq; exact absurd hq.2.1 (by assumption)) | (intro hq; exact absurd hq.2.2 (by assumption)) | grind) _ _
      rw [e]
      exact ⟨rfl, hKN⟩
set_option maxHeartbeats 4000000 in
set_option maxRecDepth 100000 in
theorem m_X12_minutes (l : Launch) (D : va_G) (Y : Nat → ClassId) (ad_m : Nat → Nat) (g_m : Nat → Nat → Int32) (w_m : Nat → Nat → Int64) (lv : Nat) (cn : Nat → Nat) (t : tab) (lw : Nat → Option LAW) (σ : tab) (U : List tab) (un : Nat) (B_ : Int) (kx : Int32) (sz : Nat) (hlv : lv < 2) (hTW : TW cn t lw) (hTM : TM lv cn t lw g_m) (hKN : KN (cn 2) σ U (g_m 59) (g_m 65) un) (hF1 : ∀ h, h < cn 1 → σ 1 h = t 2 h) (hF2 : σ 18 0 = t 12 2) (hWF : WF cn B_ σ) : Met l yX12_minutes (ws_ yX12_minutes cX12_minutes 2 (some .int)) ({ frames := 6, cells := 0, slots := 0, locals := 141 }) (zPc D Y [.ref (ad_m 0), .int kx] sz (wj []) (wj [(mw Y ad_m (sA 64 (fun _ => nI un) (sA 18 (fun _ => nI lv) g_m)) w_m)])) (va_Qi (fun (r : Int32) (u : (Nat → Int32) × (Nat → Int32) × (Nat) × (Nat → Int32) × (Nat → Int32) × (Nat → Int32) × (Nat → Int32) × (Int32) × (Int32) × (Nat → Int32)) => r = (minutesO cn lw t σ U kx).1 ∧ KN (cn 2) (minutesO cn lw t σ U kx).2.1 (minutesO cn lw t σ U kx).2.2 u.1 u.2.1 u.2.2.1) (zB D (fun (u : (Nat → Int32) × (Nat → Int32) × (Nat) × (Nat → Int32) × (Nat → Int32) × (Nat → Int32) × (Nat → Int32) × (Int32) × (Int32) × (Nat → Int32)) => (wj [(mw Y ad_m (sA 65 u.2.1 (sA 64 (fun _ => nI u.2.2.1) (sA 63 u.2.2.2.2.1 (sA 62 u.2.2.2.2.2.2.2.2.2 (sA 61 (fun _ => u.2.2.2.2.2.2.2.2.1) (sA 60 u.2.2.2.1 (sA 59 u.1 (sA 58 (fun _ => u.2.2.2.2.2.2.2.1) (sA 57 u.2.2.2.2.2.2.1 (sA 56 u.2.2.2.2.2.1 (sA 18 (fun _ => nI lv) g_m))))))))))) w_m)])) (va_A (wj [(mw Y ad_m (sA 64 (fun _ => nI un) (sA 18 (fun _ => nI lv) g_m)) w_m)]) sz)) (va_A (wj [(mw Y ad_m (sA 64 (fun _ => nI un) (sA 18 (fun _ => nI lv) g_m)) w_m)]) sz)) 0 0 (va_A (wj [(mw Y ad_m (sA 64 (fun _ => nI un) (sA 18 (fun _ => nI lv) g_m)) w_m)]) sz) := by
  refine Met.ofW (cc := cX12_minutes) (maxL := 2) (ret := (some .int)) (by decide) rfl ?_
  intro p e s m args below meth c s₁ B hml hv
  obtain ⟨rfl, hsz, hW, hR, hK, hA⟩ := zEntry hv
  subst hsz
  have hx := B.exec
  have hb := B.bytes
  have hr := B.returns
  have hlocks := B.notSynchronized
  have hts : ∀ w ∈ lw_all, w.before _ s = true := fun w h => atoms_spec (ws := (ws_ yX12_minutes cX12_minutes 2 (some .int))) B.pre w (List.mem_cons_of_mem _ h)
  have hown : s.vm.findClass RX12 = some m.cls := findClass_of_methodNamed B.named
  generalize hAe : va_A (wj [(mw Y ad_m (sA 64 (fun _ => nI un) (sA 18 (fun _ => nI lv) g_m)) w_m)]) s.heap.size = A at hW hR hA ⊢
  have hl := lv_entry ([.ref (ad_m 0), .int kx]) (n := 2) (Nat.le_of_ble_eq_true rfl)
  rw [lg_entry_eq]
  generalize (lg_sl ([.ref (ad_m 0), .int kx]) ++ List.replicate (2 - (lg_sl ([.ref (ad_m 0), .int kx])).length) Slot.unset).toArray = ls at hl ⊢
  have hl : lv_has ls 2 [(0, .ref (ad_m 0)), (1, .int kx)] := hl
  have hk8 := hTW.n2
  have hk6 := hTW.n1
  have hk60 := hTW.n0
  have hk5 := hTW.n3
  refine lv_iload_n hx hb dX12_minutes_0 rfl (lv_at hl 1 rfl) ?_
  refine lv_iconst (v := 0) hx hb dX12_minutes_1 (by decide) ?_
  refine lv_sipush (v := 600) hx hb dX12_minutes_2 (by decide) ?_
  refine z_calli (wc := wj []) (wr := wj [(mw Y ad_m (sA 64 (fun _ => nI un) (sA 18 (fun _ => nI lv) g_m)) w_m)]) (va_runS (As := [.int kx, .int 0, .int 600]) (rest := []) ⟨hx, hb, hml, hown, hts⟩ (m_X12_in l D Y kx 0 600 s.heap.size) (va_cwS 3 hts (lw_S q1997 q1998 q133 q1999) rfl rfl rfl (by decide +kernel) ⟨Nat.le_of_ble_eq_true rfl, Nat.le_of_ble_eq_true rfl⟩) (zPre hK hW hR (wj_split3 (B := [(mw Y ad_m (sA 64 (fun _ => nI un) (sA 18 (fun _ => nI lv) g_m)) w_m)]) (R := []) (C := []) (O := []) (X := [(mw Y ad_m (sA 64 (fun _ => nI un) (sA 18 (fun _ => nI lv) g_m)) w_m)]) (List.Perm.refl _))) rfl rfl hl.1 rfl (lv_room (Nat.le_of_ble_eq_true rfl)) dX12_minutes_5 ⟨Nat.le_refl _, Nat.le_refl _⟩) hW hA (wj_split (B := [(mw Y ad_m (sA 64 (fun _ => nI un) (sA 18 (fun _ => nI lv) g_m)) w_m)]) (C := []) (R := [(mw Y ad_m (sA 64 (fun _ => nI un) (sA 18 (fun _ => nI lv) g_m)) w_m)]) (List.Perm.refl _)) (fun r_1 u H locs hp_2 hW => ?_)
  have hp_2 : r_1 = zb (¬ kx < 0 ∧ ¬ 600 < kx) := hp_2
  have hW : zW D A s.heap H locs (wj [(mw Y ad_m (sA 64 (fun _ => nI un) (sA 18 (fun _ => nI lv) g_m)) w_m)]) := hW.join
  refine lv_if_ne (tgt := 13) hx hb dX12_minutes_8 (by decide) (fun c_3 => ?_) (fun c_3 => ?_)
  · have c_3 : ¬ kx < 0 ∧ ¬ 600 < kx := zb_ne hp_2 c_3
    refine lv_iload_n hx hb dX12_minutes_13 rfl (lv_at hl 1 rfl) ?_
    refine lv_if_ne (tgt := 25) hx hb dX12_minutes_14 (by decide) (fun c_4 => ?_) (fun c_4 => ?_)
    · obtain ⟨kq, lkq, hkq, ekq⟩ := inP_nat (x := kx) (a := 0) (b := 600) c_3 (by omega) (by omega)
      have ckq : kx.toNatClampNeg = kq := by rw [ekq]; exact nI_clamp (by omega)
      refine lv_aload_n hx hb dX12_minutes_25 rfl (lv_at hl 0 rfl) ?_
      refine z_callv (wc := wj [(mw Y ad_m (sA 64 (fun _ => nI un) (sA 18 (fun _ => nI lv) g_m)) w_m)]) (wr := wj []) (va_runV (As := []) (rest := []) ⟨hx, hb, hml, hown, hts⟩ (m_X12_copies l D Y ad_m (sA 64 (fun _ => nI un) (sA 18 (fun _ => nI lv) g_m)) w_m lv cn t lw σ H.size (show lv < 2 from by exact hlv) (show TW cn t lw from by exact hTW) (show TM lv cn t lw (sA 64 (fun _ => nI un) (sA 18 (fun _ => nI lv) g_m)) from by exact hTM) (show MR (cn 2) σ (g_m 59) from by exact hKN.mr) (show ∀ h, h < cn 1 → σ 1 h = t 2 h from by exact hF1) (show σ 18 0 = t 12 2 from by exact hF2)) (cwV 0 hts (lw_V q2020 q2022 qs86 q133 q2023) rfl rfl rfl (by decide +kernel) ⟨Nat.le_of_ble_eq_true rfl, Nat.le_of_ble_eq_true rfl⟩) (zPreV hK hW hR (wj_split3 (B := [(mw Y ad_m (sA 64 (fun _ => nI un) (sA 18 (fun _ => nI lv) g_m)) w_m)]) (R := []) (C := [(mw Y ad_m (sA 64 (fun _ => nI un) (sA 18 (fun _ => nI lv) g_m)) w_m)]) (O := []) (X := []) (List.Perm.refl _)) (va_recv hK.1 hW.1 (ci := 11) (q0 := 0) rfl rfl)) rfl rfl hl.1 rfl (lv_room (Nat.le_of_ble_eq_true rfl)) dX12_minutes_26 ⟨Nat.le_refl _, Nat.le_refl _⟩) hW hA (wj_split (B := [(mw Y ad_m (sA 64 (fun _ => nI un) (sA 18 (fun _ => nI lv) g_m)) w_m)]) (C := [(mw Y ad_m (sA 64 (fun _ => nI un) (sA 18 (fun _ => nI lv) g_m)) w_m)]) (R := []) (List.Perm.refl _)) (fun  u H locs hp_6 hW => ?_)
      obtain ⟨urow_7, ulots_8, ufarNow_9⟩ := u
      have hp_6 : RS cn σ urow_7 ufarNow_9 ulots_8 := hp_6
      have hW : zW D A s.heap H locs (wj [(mw Y ad_m (sA 64 (fun _ => nI un) (sA 62 ufarNow_9 (sA 61 (fun _ => ulots_8) (sA 60 urow_7 (sA 18 (fun _ => nI lv) g_m))))) w_m)]) := hW.join
      refine lv_aload_n hx hb dX12_minutes_29 rfl (lv_at hl 0 rfl) ?_
      refine lv_iload_n hx hb dX12_minutes_30 rfl (lv_at hl 1 rfl) ?_
      refine lv_topi (nm_r (e' := nI kq) ekq ?_)
      refine z_callv (wc := wj [(mw Y ad_m (sA 64 (fun _ => nI un) (sA 62 ufarNow_9 (sA 61 (fun _ => ulots_8) (sA 60 urow_7 (sA 18 (fun _ => nI lv) g_m))))) w_m)]) (wr := wj []) (va_runV (As := [.int (nI kq)]) (rest := []) ⟨hx, hb, hml, hown, hts⟩ (m_X12_goes l D Y ad_m (sA 64 (fun _ => nI un) (sA 62 ufarNow_9 (sA 61 (fun _ => ulots_8) (sA 60 urow_7 (sA 18 (fun _ => nI lv) g_m))))) w_m lv cn t lw σ B_ kq H.size (show lv < 2 from by exact hlv) (show TW cn t lw from by exact hTW) (show TM lv cn t lw (sA 64 (fun _ => nI un) (sA 62 ufarNow_9 (sA 61 (fun _ => ulots_8) (sA 60 urow_7 (sA 18 (fun _ => nI lv) g_m))))) from by exact hTM) (show RS cn σ urow_7 ufarNow_9 ulots_8 from by exact hp_6) (show WF cn B_ σ from by exact hWF) (show kq < 2000 from by first | assumption | omega | grind)) (cwV 1 hts (lw_V q2039 q2041 qs88 q133 q2042) rfl rfl rfl (by decide +kernel) ⟨Nat.le_of_ble_eq_true rfl, Nat.le_of_ble_eq_true rfl⟩) (zPreV hK hW hR (wj_split3 (B := [(mw Y ad_m (sA 64 (fun _ => nI un) (sA 62 ufarNow_9 (sA 61 (fun _ => ulots_8) (sA 60 urow_7 (sA 18 (fun _ => nI lv) g_m))))) w_m)]) (R := []) (C := [(mw Y ad_m (sA 64 (fun _ => nI un) (sA 62 ufarNow_9 (sA 61 (fun _ => ulots_8) (sA 60 urow_7 (sA 18 (fun _ => nI lv) g_m))))) w_m)]) (O := []) (X := []) (List.Perm.refl _)) (va_recv hK.1 hW.1 (ci := 11) (q0 := 0) rfl rfl)) rfl rfl hl.1 rfl (lv_room (Nat.le_of_ble_eq_true rfl)) dX12_minutes_31 ⟨Nat.le_refl _, Nat.le_refl _⟩) hW hA (wj_split (B := [(mw Y ad_m (sA 64 (fun _ => nI un) (sA 62 ufarNow_9 (sA 61 (fun _ => ulots_8) (sA 60 urow_7 (sA 18 (fun _ => nI lv) g_m))))) w_m)]) (C := [(mw Y ad_m (sA 64 (fun _ => nI un) (sA 62 ufarNow_9 (sA 61 (fun _ => ulots_8) (sA 60 urow_7 (sA 18 (fun _ => nI lv) g_m))))) w_m)]) (R := []) (List.Perm.refl _)) (fun  u H locs hp_11 hW => ?_)
      obtain ⟨urow_12, uisLoaded_13, uvariables_14, upile_15, uisBroken_16⟩ := u
      have hp_11 : RS cn (runsP cn lw t σ kq) urow_12 ufarNow_9 ulots_8 := hp_11
      have hW : zW D A s.heap H locs (wj [(mw Y ad_m (sA 64 (fun _ => nI un) (sA 63 uisLoaded_13 (sA 62 ufarNow_9 (sA 61 (fun _ => ulots_8) (sA 60 urow_12 (sA 58 (fun _ => uisBroken_16) (sA 57 upile_15 (sA 56 uvariables_14 (sA 18 (fun _ => nI lv) g_m))))))))) w_m)]) := hW.join
      refine lv_aload_n hx hb dX12_minutes_34 rfl (lv_at hl 0 rfl) ?_
      refine z_callv (wc := wj [(mw Y ad_m (sA 64 (fun _ => nI un) (sA 63 uisLoaded_13 (sA 62 ufarNow_9 (sA 61 (fun _ => ulots_8) (sA 60 urow_12 (sA 58 (fun _ => uisBroken_16) (sA 57 upile_15 (sA 56 uvariables_14 (sA 18 (fun _ => nI lv) g_m))))))))) w_m)]) (wr := wj []) (va_runV (As := []) (rest := []) ⟨hx, hb, hml, hown, hts⟩ (m_X12_keeps l D Y ad_m (sA 64 (fun _ => nI un) (sA 63 uisLoaded_13 (sA 62 ufarNow_9 (sA 61 (fun _ => ulots_8) (sA 60 urow_12 (sA 58 (fun _ => uisBroken_16) (sA 57 upile_15 (sA 56 uvariables_14 (sA 18 (fun _ => nI lv) g_m))))))))) w_m un (cn 2) σ (runsP cn lw t σ kq) U H.size (show (cn 2) ≤ 8 from by exact hk8) (show KN (cn 2) σ U (g_m 59) (g_m 65) un from by exact hKN) (show MR (cn 2) (runsP cn lw t σ kq) urow_12 from by exact (hp_11).1)) (cwV 0 hts (lw_V q2078 q2080 qs96 q133 q2081) rfl rfl rfl (by decide +kernel) ⟨Nat.le_of_ble_eq_true rfl, Nat.le_of_ble_eq_true rfl⟩) (zPreV hK hW hR (wj_split3 (B := [(mw Y ad_m (sA 64 (fun _ => nI un) (sA 63 uisLoaded_13 (sA 62 ufarNow_9 (sA 61 (fun _ => ulots_8) (sA 60 urow_12 (sA 58 (fun _ => uisBroken_16) (sA 57 upile_15 (sA 56 uvariables_14 (sA 18 (fun _ => nI lv) g_m))))))))) w_m)]) (R := []) (C := [(mw Y ad_m (sA 64 (fun _ => nI un) (sA 63 uisLoaded_13 (sA 62 ufarNow_9 (sA 61 (fun _ => ulots_8) (sA 60 urow_12 (sA 58 (fun _ => uisBroken_16) (sA 57 upile_15 (sA 56 uvariables_14 (sA 18 (fun _ => nI lv) g_m))))))))) w_m)]) (O := []) (X := []) (List.Perm.refl _)) (va_recv hK.1 hW.1 (ci := 11) (q0 := 0) rfl rfl)) rfl rfl hl.1 rfl (lv_room (Nat.le_of_ble_eq_true rfl)) dX12_minutes_35 ⟨Nat.le_refl _, Nat.le_refl _⟩) hW hA (wj_split (B := [(mw Y ad_m (sA 64 (fun _ => nI un) (sA 63 uisLoaded_13 (sA 62 ufarNow_9 (sA 61 (fun _ => ulots_8) (sA 60 urow_12 (sA 58 (fun _ => uisBroken_16) (sA 57 upile_15 (sA 56 uvariables_14 (sA 18 (fun _ => nI lv) g_m))))))))) w_m)]) (C := [(mw Y ad_m (sA 64 (fun _ => nI un) (sA 63 uisLoaded_13 (sA 62 ufarNow_9 (sA 61 (fun _ => ulots_8) (sA 60 urow_12 (sA 58 (fun _ => uisBroken_16) (sA 57 upile_15 (sA 56 uvariables_14 (sA 18 (fun _ => nI lv) g_m))))))))) w_m)]) (R := []) (List.Perm.refl _)) (fun  u H locs hp_18 hW => ?_)
      obtain ⟨unow_19, uhistory_20, uundos_21⟩ := u
      have hp_18 : KN (cn 2) (runsP cn lw t σ kq) (pushU U σ) unow_19 uhistory_20 uundos_21 := hp_18
      have hW : zW D A s.heap H locs (wj [(mw Y ad_m (sA 65 uhistory_20 (sA 64 (fun _ => nI uundos_21) (sA 63 uisLoaded_13 (sA 62 ufarNow_9 (sA 61 (fun _ => ulots_8) (sA 60 urow_12 (sA 59 unow_19 (sA 58 (fun _ => uisBroken_16) (sA 57 upile_15 (sA 56 uvariables_14 (sA 18 (fun _ => nI lv) g_m))))))))))) w_m)]) := hW.join
      refine lv_aload_n hx hb dX12_minutes_38 rfl (lv_at hl 0 rfl) ?_
      refine va_get (v := .ref (ad_m 59)) (C := RX12) (T := TX12) (N := 75) (ci := 11) hx hb hts in_X12 hown hK.1 hW.1 0 rfl rfl 59 (by decide) (hts _ q1695) (fun _ h9 => h9) rfl dX12_minutes_39 ?_
      refine lv_bipush (v := 114) hx hb dX12_minutes_42 (by decide) ?_
      refine z_iald (v := (runsP cn lw t σ kq) 13 0) (f := unow_19) (j := 114) hx hb hK.1 hW.1 42 0 rfl rfl (vp_in_nI (n := 114) (by omega) (by decide)) (by decide) (MR.s13 hp_18.mr) dX12_minutes_44 ?_
      refine z_ireti ((unow_19, uhistory_20, uundos_21, urow_12, uisLoaded_13, uvariables_14, upile_15, uisBroken_16, ulots_8, ufarNow_9) : (Nat → Int32) × (Nat → Int32) × (Nat) × (Nat → Int32) × (Nat → Int32) × (Nat → Int32) × (Nat → Int32) × (Int32) × (Int32) × (Nat → Int32)) hx hb hr hlocks rfl hW rfl dX12_minutes_45 ?_
      show ((runsP cn lw t σ kq) 13 0) = (minutesO cn lw t σ U kx).1 ∧ KN (cn 2) (minutesO cn lw t σ U kx).2.1 (minutesO cn lw t σ U kx).2.2 unow_19 uhistory_20 uundos_21
      have e : minutesO cn lw t σ U kx = _ := (zi_t c_3 _ _).trans (zi_f c_4 _ _)
      rw [e]
      refine ⟨by rw [ckq]; rfl, ?_⟩
      simp only [kp, ckq]; exact hp_18
    · refine lv_aload_n hx hb dX12_minutes_17 rfl (lv_at hl 0 rfl) ?_
      refine va_get (v := .ref (ad_m 59)) (C := RX12) (T := TX12) (N := 75) (ci := 11) hx hb hts in_X12 hown hK.1 hW.1 0 rfl rfl 59 (by decide) (hts _ q1695) (fun _ h9 => h9) rfl dX12_minutes_18 ?_
      refine lv_bipush (v := 114) hx hb dX12_minutes_21 (by decide) ?_
      refine z_iald (v := σ 13 0) (f := g_m 59) (j := 114) hx hb hK.1 hW.1 42 0 rfl rfl (vp_in_nI (n := 114) (by omega) (by decide)) (by decide) (MR.s13 hKN.mr) dX12_minutes_23 ?_
      refine z_ireti ((g_m 59, g_m 65, un, g_m 60, g_m 63, g_m 56, g_m 57, g_m 58 0, g_m 61 0, g_m 62) : (Nat → Int32) × (Nat → Int32) × (Nat) × (Nat → Int32) × (Nat → Int32) × (Nat → Int32) × (Nat → Int32) × (Int32) × (Int32) × (Nat → Int32)) hx hb hr hlocks rfl hW rfl dX12_minutes_24 ?_
      show (σ 13 0) = (minutesO cn lw t σ U kx).1 ∧ KN (cn 2) (minutesO cn lw t σ U kx).2.1 (minutesO cn lw t σ U kx).2.2 (g_m 59) (g_m 65) un
      have e : minutesO cn lw t σ U kx = _ := (zi_t c_3 _ _).trans (zi_t c_4 _ _)
      rw [e]
      exact ⟨rfl, hKN⟩
  · have c_3 : ¬ (¬ kx < 0 ∧ ¬ 600 < kx) := zb_eq hp_2 c_3
    refine lv_iconst (v := (-1)) hx hb dX12_minutes_11 (by decide) ?_
    refine z_ireti ((g_m 59, g_m 65, un, g_m 60, g_m 63, g_m 56, g_m 57, g_m 58 0, g_m 61 0, g_m 62) : (Nat → Int32) × (Nat → Int32) × (Nat) × (Nat → Int32) × (Nat → Int32) × (Nat → Int32) × (Nat → Int32) × (Int32) × (Int32) × (Nat → Int32)) hx hb hr hlocks rfl hW rfl dX12_minutes_12 ?_
    show (-1) = (minutesO cn lw t σ U kx).1 ∧ KN (cn 2) (minutesO cn lw t σ U kx).2.1 (minutesO cn lw t σ U kx).2.2 (g_m 59) (g_m 65) un
    have e : minutesO cn lw t σ U kx = _ := zi_f (by first | assumption | (intro hq; exact absurd hq.1 (by assumption)) | (intro hq; exact absurd hq.2.1 (by assumption)) | (intro hq; exact absurd hq.2.2 (by assumption)) | grind) _ _
    rw [e]
    exact ⟨rfl, hKN⟩
set_option maxHeartbeats 4000000 in
set_option maxRecDepth 100000 in
theorem m_X12_give (l : Launch) (D : va_G) (Y : Nat → ClassId) (ad_m : Nat → Nat) (g_m : Nat → Nat → Int32) (w_m : Nat → Nat → Int64) (lv : Nat) (cn : Nat → Nat) (t : tab) (lw : Nat → Option LAW) (σ : tab) (U : List tab) (un : Nat) (B_ : Int) (rx : Int32) (gx : Int32) (kx : Int32) (sz : Nat) (hlv : lv < 2) (hTW : TW cn t lw) (hTM : TM lv cn t lw g_m) (hKN : KN (cn 2) σ U (g_m 59) (g_m 65) un) (hF1 : ∀ h, h < cn 1 → σ 1 h = t 2 h) (hF2 : σ 18 0 = t 12 2) (hWF : WF cn B_ σ) : Met l yX12_give (ws_ yX12_give cX12_give 4 (some .boolean)) ({ frames := 3, cells := 0, slots := 0, locals := 55 }) (zPc D Y [.ref (ad_m 0), .int rx, .int gx, .int kx] sz (wj []) (wj [(mw Y ad_m (sA 64 (fun _ => nI un) (sA 18 (fun _ => nI lv) g_m)) w_m)])) (va_Qi (fun (r : Int32) (u : (Nat → Int32) × (Nat → Int32) × (Nat) × (Nat → Int32) × (Int32) × (Nat → Int32)) => r = (giveO cn σ U rx gx kx).1 ∧ KN (cn 2) (giveO cn σ U rx gx kx).2.1 (giveO cn σ U rx gx kx).2.2 u.1 u.2.1 u.2.2.1) (zB D (fun (u : (Nat → Int32) × (Nat → Int32) × (Nat) × (Nat → Int32) × (Int32) × (Nat → Int32)) => (wj [(mw Y ad_m (sA 65 u.2.1 (sA 64 (fun _ => nI u.2.2.1) (sA 62 u.2.2.2.2.2 (sA 61 (fun _ => u.2.2.2.2.1) (sA 60 u.2.2.2.1 (sA 59 u.1 (sA 18 (fun _ => nI lv) g_m))))))) w_m)])) (va_A (wj [(mw Y ad_m (sA 64 (fun _ => nI un) (sA 18 (fun _ => nI lv) g_m)) w_m)]) sz)) (va_A (wj [(mw Y ad_m (sA 64 (fun _ => nI un) (sA 18 (fun _ => nI lv) g_m)) w_m)]) sz)) 0 0 (va_A (wj [(mw Y ad_m (sA 64 (fun _ => nI un) (sA 18 (fun _ => nI lv) g_m)) w_m)]) sz) := by
  refine Met.ofW (cc := cX12_give) (maxL := 4) (ret := (some .boolean)) (by decide) rfl ?_
  intro p e s m args below meth c s₁ B hml hv
  obtain ⟨rfl, hsz, hW, hR, hK, hA⟩ := zEntry hv
  subst hsz
  have hx := B.exec
  have hb := B.bytes
  have hr := B.returns
  have hlocks := B.notSynchronized
  have hts : ∀ w ∈ lw_all, w.before _ s = true := fun w h => atoms_spec (ws := (ws_ yX12_give cX12_give 4 (some .boolean))) B.pre w (List.mem_cons_of_mem _ h)
  have hown : s.vm.findClass RX12 = some m.cls := findClass_of_methodNamed B.named
  generalize hAe : va_A (wj [(mw Y ad_m (sA 64 (fun _ => nI un) (sA 18 (fun _ => nI lv) g_m)) w_m)]) s.heap.size = A at hW hR hA ⊢
  have hl := lv_entry ([.ref (ad_m 0), .int rx, .int gx, .int kx]) (n := 4) (Nat.le_of_ble_eq_true rfl)
  rw [lg_entry_eq]
  generalize (lg_sl ([.ref (ad_m 0), .int rx, .int gx, .int kx]) ++ List.replicate (4 - (lg_sl ([.ref (ad_m 0), .int rx, .int gx, .int kx])).length) Slot.unset).toArray = ls at hl ⊢
  have hl : lv_has ls 4 [(0, .ref (ad_m 0)), (1, .int rx), (2, .int gx), (3, .int kx)] := hl
  have hk8 := hTW.n2
  have hk6 := hTW.n1
  have hk60 := hTW.n0
  have hk5 := hTW.n3
  refine lv_aload_n hx hb dX12_give_0 rfl (lv_at hl 0 rfl) ?_
  refine lv_iload_n hx hb dX12_give_1 rfl (lv_at hl 1 rfl) ?_
  refine z_calli (wc := wj [(mw Y ad_m (sA 64 (fun _ => nI un) (sA 18 (fun _ => nI lv) g_m)) w_m)]) (wr := wj []) (va_runV (As := [.int rx]) (rest := []) ⟨hx, hb, hml, hown, hts⟩ (m_X12_isRat l D Y ad_m (sA 64 (fun _ => nI un) (sA 18 (fun _ => nI lv) g_m)) w_m lv cn t lw rx s.heap.size (show lv < 2 from by exact hlv) (show TW cn t lw from by exact hTW) (show TM lv cn t lw (sA 64 (fun _ => nI un) (sA 18 (fun _ => nI lv) g_m)) from by exact hTM)) (cwV 1 hts (lw_V q2012 q2014 qs85 q133 q2015) rfl rfl rfl (by decide +kernel) ⟨Nat.le_of_ble_eq_true rfl, Nat.le_of_ble_eq_true rfl⟩) (zPreV hK hW hR (wj_split3 (B := [(mw Y ad_m (sA 64 (fun _ => nI un) (sA 18 (fun _ => nI lv) g_m)) w_m)]) (R := []) (C := [(mw Y ad_m (sA 64 (fun _ => nI un) (sA 18 (fun _ => nI lv) g_m)) w_m)]) (O := []) (X := []) (List.Perm.refl _)) (va_recv hK.1 hW.1 (ci := 11) (q0 := 0) rfl rfl)) rfl rfl hl.1 rfl (lv_room (Nat.le_of_ble_eq_true rfl)) dX12_give_2 ⟨Nat.le_refl _, Nat.le_refl _⟩) hW hA (wj_split (B := [(mw Y ad_m (sA 64 (fun _ => nI un) (sA 18 (fun _ => nI lv) g_m)) w_m)]) (C := [(mw Y ad_m (sA 64 (fun _ => nI un) (sA 18 (fun _ => nI lv) g_m)) w_m)]) (R := []) (List.Perm.refl _)) (fun r_1 u H locs hp_2 hW => ?_)
  have hp_2 : r_1 = zb (vp_in rx (cn 2)) := hp_2
  have hW : zW D A s.heap H locs (wj [(mw Y ad_m (sA 64 (fun _ => nI un) (sA 18 (fun _ => nI lv) g_m)) w_m)]) := hW.join
  refine lv_if_eq (tgt := 43) hx hb dX12_give_5 (by decide) (fun c_3 => ?_) (fun c_3 => ?_)
  · have c_3 : ¬ (vp_in rx (cn 2)) := zb_eq hp_2 c_3
    refine lv_iconst (v := 0) hx hb dX12_give_43 (by decide) ?_
    refine z_ireti ((g_m 59, g_m 65, un, g_m 60, g_m 61 0, g_m 62) : (Nat → Int32) × (Nat → Int32) × (Nat) × (Nat → Int32) × (Int32) × (Nat → Int32)) hx hb hr hlocks rfl hW rfl dX12_give_44 ?_
    show 0 = (giveO cn σ U rx gx kx).1 ∧ KN (cn 2) (giveO cn σ U rx gx kx).2.1 (giveO cn σ U rx gx kx).2.2 (g_m 59) (g_m 65) un
    have e : giveO cn σ U rx gx kx = _ := zi_f (by first | (intro hq; exact absurd hq.1 (by assumption)) | (intro hq; exact absurd hq.2.1 (by assumption)) | (rw [crn, cgn]; intro hq; first | exact absurd hq.2.2.2 (by assumption) | exact hq.2.2.1.1 (by assumption) | exact hq.2.2.1.2 (by assumption))) _ _
    rw [e]
    exact ⟨rfl, hKN⟩
  · have c_3 : vp_in rx (cn 2) := zb_ne hp_2 c_3
    obtain ⟨rn, hrn, ern⟩ := vp_in_of c_3 (by omega)
    have crn : rx.toNatClampNeg = rn := by rw [ern]; exact nI_clamp (by omega)
    refine lv_aload_n hx hb dX12_give_8 rfl (lv_at hl 0 rfl) ?_
    refine lv_iload_n hx hb dX12_give_9 rfl (lv_at hl 2 rfl) ?_
    refine z_calli (wc := wj [(mw Y ad_m (sA 64 (fun _ => nI un) (sA 18 (fun _ => nI lv) g_m)) w_m)]) (wr := wj []) (va_runV (As := [.int gx]) (rest := []) ⟨hx, hb, hml, hown, hts⟩ (m_X12_isGrain l D Y ad_m (sA 64 (fun _ => nI un) (sA 18 (fun _ => nI lv) g_m)) w_m lv cn t lw gx H.size (show lv < 2 from by exact hlv) (show TW cn t lw from by exact hTW) (show TM lv cn t lw (sA 64 (fun _ => nI un) (sA 18 (fun _ => nI lv) g_m)) from by exact hTM)) (cwV 1 hts (lw_V q1993 q1995 qs83 q133 q1996) rfl rfl rfl (by decide +kernel) ⟨Nat.le_of_ble_eq_true rfl, Nat.le_of_ble_eq_true rfl⟩) (zPreV hK hW hR (wj_split3 (B := [(mw Y ad_m (sA 64 (fun _ => nI un) (sA 18 (fun _ => nI lv) g_m)) w_m)]) (R := []) (C := [(mw Y ad_m (sA 64 (fun _ => nI un) (sA 18 (fun _ => nI lv) g_m)) w_m)]) (O := []) (X := []) (List.Perm.refl _)) (va_recv hK.1 hW.1 (ci := 11) (q0 := 0) rfl rfl)) rfl rfl hl.1 rfl (lv_room (Nat.le_of_ble_eq_true rfl)) dX12_give_10 ⟨Nat.le_refl _, Nat.le_refl _⟩) hW hA (wj_split (B := [(mw Y ad_m (sA 64 (fun _ => nI un) (sA 18 (fun _ => nI lv) g_m)) w_m)]) (C := [(mw Y ad_m (sA 64 (fun _ => nI un) (sA 18 (fun _ => nI lv) g_m)) w_m)]) (R := []) (List.Perm.refl _)) (fun r_4 u H locs hp_5 hW => ?_)
    have hp_5 : r_4 = zb (vp_in gx (cn 0)) := hp_5
    have hW : zW D A s.heap H locs (wj [(mw Y ad_m (sA 64 (fun _ => nI un) (sA 18 (fun _ => nI lv) g_m)) w_m)]) := hW.join
    refine lv_if_eq (tgt := 43) hx hb dX12_give_13 (by decide) (fun c_6 => ?_) (fun c_6 => ?_)
    · have c_6 : ¬ (vp_in gx (cn 0)) := zb_eq hp_5 c_6
      refine lv_iconst (v := 0) hx hb dX12_give_43 (by decide) ?_
      refine z_ireti ((g_m 59, g_m 65, un, g_m 60, g_m 61 0, g_m 62) : (Nat → Int32) × (Nat → Int32) × (Nat) × (Nat → Int32) × (Int32) × (Nat → Int32)) hx hb hr hlocks rfl hW rfl dX12_give_44 ?_
      show 0 = (giveO cn σ U rx gx kx).1 ∧ KN (cn 2) (giveO cn σ U rx gx kx).2.1 (giveO cn σ U rx gx kx).2.2 (g_m 59) (g_m 65) un
      have e : giveO cn σ U rx gx kx = _ := zi_f (by first | (intro hq; exact absurd hq.1 (by assumption)) | (intro hq; exact absurd hq.2.1 (by assumption)) | (rw [crn, cgn]; intro hq; first | exact absurd hq.2.2.2 (by assumption) | exact hq.2.2.1.1 (by assumption) | exact hq.2.2.1.2 (by assumption))) _ _
      rw [e]
      exact ⟨rfl, hKN⟩
    · have c_6 : vp_in gx (cn 0) := zb_ne hp_5 c_6
      obtain ⟨gn, hgn, egn⟩ := vp_in_of c_6 (by omega)
      have cgn : gx.toNatClampNeg = gn := by rw [egn]; exact nI_clamp (by omega)
      refine lv_iload_n hx hb dX12_give_16 rfl (lv_at hl 3 rfl) ?_
      refine lv_iconst (v := 1) hx hb dX12_give_17 (by decide) ?_
      refine lv_icmp_lt (tgt := 43) hx hb dX12_give_18 (by decide) (fun c_7 => ?_) (fun c_7 => ?_)
      · refine lv_iconst (v := 0) hx hb dX12_give_43 (by decide) ?_
        refine z_ireti ((g_m 59, g_m 65, un, g_m 60, g_m 61 0, g_m 62) : (Nat → Int32) × (Nat → Int32) × (Nat) × (Nat → Int32) × (Int32) × (Nat → Int32)) hx hb hr hlocks rfl hW rfl dX12_give_44 ?_
        show 0 = (giveO cn σ U rx gx kx).1 ∧ KN (cn 2) (giveO cn σ U rx gx kx).2.1 (giveO cn σ U rx gx kx).2.2 (g_m 59) (g_m 65) un
        have e : giveO cn σ U rx gx kx = _ := zi_f (by first | (intro hq; exact absurd hq.1 (by assumption)) | (intro hq; exact absurd hq.2.1 (by assumption)) | (rw [crn, cgn]; intro hq; first | exact absurd hq.2.2.2 (by assumption) | exact hq.2.2.1.1 (by assumption) | exact hq.2.2.1.2 (by assumption))) _ _
        rw [e]
        exact ⟨rfl, hKN⟩
      · refine lv_iload_n hx hb dX12_give_21 rfl (lv_at hl 3 rfl) ?_
        refine lv_aload_n hx hb dX12_give_22 rfl (lv_at hl 0 rfl) ?_
        refine va_get (v := .ref (ad_m 59)) (C := RX12) (T := TX12) (N := 75) (ci := 11) hx hb hts in_X12 hown hK.1 hW.1 0 rfl rfl 59 (by decide) (hts _ q1695) (fun _ h9 => h9) rfl dX12_give_23 ?_
        refine lv_iload_n hx hb dX12_give_26 rfl (lv_at hl 2 rfl) ?_
        refine lv_topi (nm_r (e' := nI gn) egn ?_)
        refine z_iald (v := σ 0 gn) (f := g_m 59) (j := gn) hx hb hK.1 hW.1 42 0 rfl rfl (vp_in_nI (n := gn) (by omega) (by decide)) (nI_clamp (n := gn) (by omega)) (MR.heap hKN.mr (g := gn) (by omega)) dX12_give_27 ?_
        refine lv_icmp_gt (tgt := 43) hx hb dX12_give_28 (by decide) (fun c_8 => ?_) (fun c_8 => ?_)
        · refine lv_iconst (v := 0) hx hb dX12_give_43 (by decide) ?_
          refine z_ireti ((g_m 59, g_m 65, un, g_m 60, g_m 61 0, g_m 62) : (Nat → Int32) × (Nat → Int32) × (Nat) × (Nat → Int32) × (Int32) × (Nat → Int32)) hx hb hr hlocks rfl hW rfl dX12_give_44 ?_
          show 0 = (giveO cn σ U rx gx kx).1 ∧ KN (cn 2) (giveO cn σ U rx gx kx).2.1 (giveO cn σ U rx gx kx).2.2 (g_m 59) (g_m 65) un
          have e : giveO cn σ U rx gx kx = _ := zi_f (by first | (intro hq; exact absurd hq.1 (by assumption)) | (intro hq; exact absurd hq.2.1 (by assumption)) | (rw [crn, cgn]; intro hq; first | exact absurd hq.2.2.2 (by assumption) | exact hq.2.2.1.1 (by assumption) | exact hq.2.2.1.2 (by assumption))) _ _
          rw [e]
          exact ⟨rfl, hKN⟩
        · refine lv_aload_n hx hb dX12_give_31 rfl (lv_at hl 0 rfl) ?_
          refine va_get (v := .ref (ad_m 59)) (C := RX12) (T := TX12) (N := 75) (ci := 11) hx hb hts in_X12 hown hK.1 hW.1 0 rfl rfl 59 (by decide) (hts _ q1695) (fun _ h9 => h9) rfl dX12_give_32 ?_
          refine lv_bipush (v := 42) hx hb dX12_give_35 (by decide) ?_
          refine lv_iload_n hx hb dX12_give_37 rfl (lv_at hl 1 rfl) ?_
          refine lv_topi (nm_r (e' := nI rn) ern ?_)
          refine lv_iadd hx hb dX12_give_38 ?_
          refine lv_topi (nm_r (e' := nI (42 + rn)) (nI_add 42 rn) ?_)
          refine z_iald (v := σ 3 rn) (f := g_m 59) (j := 42 + rn) hx hb hK.1 hW.1 42 0 rfl rfl (vp_in_nI (n := 42 + rn) (by omega) (by decide)) (nI_clamp (n := 42 + rn) (by omega)) (MR.r3 hKN.mr (r := rn) (by omega)) dX12_give_39 ?_
          refine lv_if_eq (tgt := 45) hx hb dX12_give_40 (by decide) (fun c_9 => ?_) (fun c_9 => ?_)
          · refine lv_aload_n hx hb dX12_give_45 rfl (lv_at hl 0 rfl) ?_
            refine z_callv (wc := wj [(mw Y ad_m (sA 64 (fun _ => nI un) (sA 18 (fun _ => nI lv) g_m)) w_m)]) (wr := wj []) (va_runV (As := []) (rest := []) ⟨hx, hb, hml, hown, hts⟩ (m_X12_copies l D Y ad_m (sA 64 (fun _ => nI un) (sA 18 (fun _ => nI lv) g_m)) w_m lv cn t lw σ H.size (show lv < 2 from by exact hlv) (show TW cn t lw from by exact hTW) (show TM lv cn t lw (sA 64 (fun _ => nI un) (sA 18 (fun _ => nI lv) g_m)) from by exact hTM) (show MR (cn 2) σ (g_m 59) from by exact hKN.mr) (show ∀ h, h < cn 1 → σ 1 h = t 2 h from by exact hF1) (show σ 18 0 = t 12 2 from by exact hF2)) (cwV 0 hts (lw_V q2020 q2022 qs86 q133 q2023) rfl rfl rfl (by decide +kernel) ⟨Nat.le_of_ble_eq_true rfl, Nat.le_of_ble_eq_true rfl⟩) (zPreV hK hW hR (wj_split3 (B := [(mw Y ad_m (sA 64 (fun _ => nI un) (sA 18 (fun _ => nI lv) g_m)) w_m)]) (R := []) (C := [(mw Y ad_m (sA 64 (fun _ => nI un) (sA 18 (fun _ => nI lv) g_m)) w_m)]) (O := []) (X := []) (List.Perm.refl _)) (va_recv hK.1 hW.1 (ci := 11) (q0 := 0) rfl rfl)) rfl rfl hl.1 rfl (lv_room (Nat.le_of_ble_eq_true rfl)) dX12_give_46 ⟨Nat.le_refl _, Nat.le_refl _⟩) hW hA (wj_split (B := [(mw Y ad_m (sA 64 (fun _ => nI un) (sA 18 (fun _ => nI lv) g_m)) w_m)]) (C := [(mw Y ad_m (sA 64 (fun _ => nI un) (sA 18 (fun _ => nI lv) g_m)) w_m)]) (R := []) (List.Perm.refl _)) (fun  u H locs hp_11 hW => ?_)
            obtain ⟨urow_12, ulots_13, ufarNow_14⟩ := u
            have hp_11 : RS cn σ urow_12 ufarNow_14 ulots_13 := hp_11
            have hW : zW D A s.heap H locs (wj [(mw Y ad_m (sA 64 (fun _ => nI un) (sA 62 ufarNow_14 (sA 61 (fun _ => ulots_13) (sA 60 urow_12 (sA 18 (fun _ => nI lv) g_m))))) w_m)]) := hW.join
            refine lv_aload_n hx hb dX12_give_49 rfl (lv_at hl 0 rfl) ?_
            refine va_get (v := .ref (ad_m 60)) (C := RX12) (T := TX12) (N := 75) (ci := 11) hx hb hts in_X12 hown hK.1 hW.1 0 rfl rfl 60 (by decide) (hts _ q1696) (fun _ h9 => h9) rfl dX12_give_50 ?_
            refine lv_iload_n hx hb dX12_give_53 rfl (lv_at hl 2 rfl) ?_
            refine lv_topi (nm_r (e' := nI gn) egn ?_)
            refine lv_dup2_11 hx hb dX12_give_54 rfl rfl ?_
            refine z_iald (v := σ 0 gn) (f := urow_12) (j := gn) hx hb hK.1 hW.1 43 0 rfl rfl (vp_in_nI (n := gn) (by omega) (by decide)) (nI_clamp (n := gn) (by omega)) (MR.heap hp_11.1 (g := gn) (by omega)) dX12_give_55 ?_
            refine lv_iload_n hx hb dX12_give_56 rfl (lv_at hl 3 rfl) ?_
            refine lv_isub hx hb dX12_give_57 ?_
            refine z_iast (x := (σ 0 gn) - kx) (f := urow_12) (j := gn) (wn := (wj [(mw Y ad_m (sA 64 (fun _ => nI un) (sA 62 ufarNow_14 (sA 61 (fun _ => ulots_13) (sA 60 (upd urow_12 gn ((σ 0 gn) - kx)) (sA 18 (fun _ => nI lv) g_m))))) w_m)])) hx hb hK.1 hW 43 0 rfl rfl (vp_in_nI (n := gn) (by omega) (by decide)) (nI_clamp (n := gn) (by omega)) dX12_give_58 rfl (fun H locs hW => ?_)
            refine lv_aload_n hx hb dX12_give_59 rfl (lv_at hl 0 rfl) ?_
            refine va_get (v := .ref (ad_m 60)) (C := RX12) (T := TX12) (N := 75) (ci := 11) hx hb hts in_X12 hown hK.1 hW.1 0 rfl rfl 60 (by decide) (hts _ q1696) (fun _ h9 => h9) rfl dX12_give_60 ?_
            refine lv_bipush (v := 115) hx hb dX12_give_63 (by decide) ?_
            refine lv_dup2_11 hx hb dX12_give_65 rfl rfl ?_
            refine z_iald (v := σ 14 0) (f := upd urow_12 gn ((σ 0 gn) - kx)) (j := 115) hx hb hK.1 hW.1 43 0 rfl rfl (vp_in_nI (n := 115) (by omega) (by decide)) (by decide) (Eq.trans (pk_un (by omega)) (MR.s14 hp_11.1)) dX12_give_66 ?_
            refine lv_iload_n hx hb dX12_give_67 rfl (lv_at hl 3 rfl) ?_
            refine lv_iadd hx hb dX12_give_68 ?_
            refine z_iast (x := (σ 14 0) + kx) (f := upd urow_12 gn ((σ 0 gn) - kx)) (j := 115) (wn := (wj [(mw Y ad_m (sA 64 (fun _ => nI un) (sA 62 ufarNow_14 (sA 61 (fun _ => ulots_13) (sA 60 (upd (upd urow_12 gn ((σ 0 gn) - kx)) 115 ((σ 14 0) + kx)) (sA 18 (fun _ => nI lv) g_m))))) w_m)])) hx hb hK.1 hW 43 0 rfl rfl (vp_in_nI (n := 115) (by omega) (by decide)) (by decide) dX12_give_69 rfl (fun H locs hW => ?_)
            refine lv_aload_n hx hb dX12_give_70 rfl (lv_at hl 0 rfl) ?_
            refine va_get (v := .ref (ad_m 60)) (C := RX12) (T := TX12) (N := 75) (ci := 11) hx hb hts in_X12 hown hK.1 hW.1 0 rfl rfl 60 (by decide) (hts _ q1696) (fun _ h9 => h9) rfl dX12_give_71 ?_
            refine lv_bipush (v := 74) hx hb dX12_give_74 (by decide) ?_
            refine lv_iload_n hx hb dX12_give_76 rfl (lv_at hl 1 rfl) ?_
            refine lv_topi (nm_r (e' := nI rn) ern ?_)
            refine lv_iadd hx hb dX12_give_77 ?_
            refine lv_topi (nm_r (e' := nI (74 + rn)) (nI_add 74 rn) ?_)
            refine lv_iconst (v := 0) hx hb dX12_give_78 (by decide) ?_
            refine z_iast (x := 0) (f := upd (upd urow_12 gn ((σ 0 gn) - kx)) 115 ((σ 14 0) + kx)) (j := 74 + rn) (wn := (wj [(mw Y ad_m (sA 64 (fun _ => nI un) (sA 62 ufarNow_14 (sA 61 (fun _ => ulots_13) (sA 60 (upd (upd (upd urow_12 gn ((σ 0 gn) - kx)) 115 ((σ 14 0) + kx)) (74 + rn) 0) (sA 18 (fun _ => nI lv) g_m))))) w_m)])) hx hb hK.1 hW 43 0 rfl rfl (vp_in_nI (n := 74 + rn) (by omega) (by decide)) (nI_clamp (n := 74 + rn) (by omega)) dX12_give_79 rfl (fun H locs hW => ?_)
            refine lv_aload_n hx hb dX12_give_80 rfl (lv_at hl 0 rfl) ?_
            refine va_get (v := .ref (ad_m 60)) (C := RX12) (T := TX12) (N := 75) (ci := 11) hx hb hts in_X12 hown hK.1 hW.1 0 rfl rfl 60 (by decide) (hts _ q1696) (fun _ h9 => h9) rfl dX12_give_81 ?_
            refine lv_bipush (v := 82) hx hb dX12_give_84 (by decide) ?_
            refine lv_iload_n hx hb dX12_give_86 rfl (lv_at hl 1 rfl) ?_
            refine lv_topi (nm_r (e' := nI rn) ern ?_)
            refine lv_iadd hx hb dX12_give_87 ?_
            refine lv_topi (nm_r (e' := nI (82 + rn)) (nI_add 82 rn) ?_)
            refine z_iald (v := σ 9 rn) (f := upd (upd (upd urow_12 gn ((σ 0 gn) - kx)) 115 ((σ 14 0) + kx)) (74 + rn) 0) (j := 82 + rn) hx hb hK.1 hW.1 43 0 rfl rfl (vp_in_nI (n := 82 + rn) (by omega) (by decide)) (nI_clamp (n := 82 + rn) (by omega)) (Eq.trans (pk_un (by omega)) (Eq.trans (pk_un (by omega)) (Eq.trans (pk_un (by omega)) (MR.r9 hp_11.1 (r := rn) (by omega))))) dX12_give_88 ?_
            refine lv_bipush (v := 9) hx hb dX12_give_89 (by decide) ?_
            refine lv_icmp_ge (tgt := 107) hx hb dX12_give_91 (by decide) (fun c_15 => ?_) (fun c_15 => ?_)
            · refine lv_aload_n hx hb dX12_give_107 rfl (lv_at hl 0 rfl) ?_
              refine z_callv (wc := wj [(mw Y ad_m (sA 64 (fun _ => nI un) (sA 62 ufarNow_14 (sA 61 (fun _ => ulots_13) (sA 60 (upd (upd (upd urow_12 gn ((σ 0 gn) - kx)) 115 ((σ 14 0) + kx)) (74 + rn) 0) (sA 18 (fun _ => nI lv) g_m))))) w_m)]) (wr := wj []) (va_runV (As := []) (rest := []) ⟨hx, hb, hml, hown, hts⟩ (m_X12_keeps l D Y ad_m (sA 64 (fun _ => nI un) (sA 62 ufarNow_14 (sA 61 (fun _ => ulots_13) (sA 60 (upd (upd (upd urow_12 gn ((σ 0 gn) - kx)) 115 ((σ 14 0) + kx)) (74 + rn) 0) (sA 18 (fun _ => nI lv) g_m))))) w_m un (cn 2) σ (sU 8 rn 0 (sS 14 ((σ 14 0) + kx) (sU 0 gn ((σ 0 gn) - kx) σ))) U H.size (show (cn 2) ≤ 8 from by exact hk8) (show KN (cn 2) σ U (g_m 59) (g_m 65) un from by exact hKN) (show MR (cn 2) (sU 8 rn 0 (sS 14 ((σ 14 0) + kx) (sU 0 gn ((σ 0 gn) - kx) σ))) (upd (upd (upd urow_12 gn ((σ 0 gn) - kx)) 115 ((σ 14 0) + kx)) (74 + rn) 0) from by exact ((RS.mk' hp_11 (MR.u8 hk8 (MR.v14 hk8 (MR.uheap hk8 hp_11.1 (g := gn) (by omega) ((σ 0 gn) - kx)) ((σ 14 0) + kx)) (r := rn) (by omega) 0) (by rw [sU_ne (by omega), sS_ne (by omega), sU_ne (by omega)]) (by rw [sU_ne (by omega), sS_ne (by omega), sU_ne (by omega)]))).1)) (cwV 0 hts (lw_V q2078 q2080 qs96 q133 q2081) rfl rfl rfl (by decide +kernel) ⟨Nat.le_of_ble_eq_true rfl, Nat.le_of_ble_eq_true rfl⟩) (zPreV hK hW hR (wj_split3 (B := [(mw Y ad_m (sA 64 (fun _ => nI un) (sA 62 ufarNow_14 (sA 61 (fun _ => ulots_13) (sA 60 (upd (upd (upd urow_12 gn ((σ 0 gn) - kx)) 115 ((σ 14 0) + kx)) (74 + rn) 0) (sA 18 (fun _ => nI lv) g_m))))) w_m)]) (R := []) (C := [(mw Y ad_m (sA 64 (fun _ => nI un) (sA 62 ufarNow_14 (sA 61 (fun _ => ulots_13) (sA 60 (upd (upd (upd urow_12 gn ((σ 0 gn) - kx)) 115 ((σ 14 0) + kx)) (74 + rn) 0) (sA 18 (fun _ => nI lv) g_m))))) w_m)]) (O := []) (X := []) (List.Perm.refl _)) (va_recv hK.1 hW.1 (ci := 11) (q0 := 0) rfl rfl)) rfl rfl hl.1 rfl (lv_room (Nat.le_of_ble_eq_true rfl)) dX12_give_108 ⟨Nat.le_refl _, Nat.le_refl _⟩) hW hA (wj_split (B := [(mw Y ad_m (sA 64 (fun _ => nI un) (sA 62 ufarNow_14 (sA 61 (fun _ => ulots_13) (sA 60 (upd (upd (upd urow_12 gn ((σ 0 gn) - kx)) 115 ((σ 14 0) + kx)) (74 + rn) 0) (sA 18 (fun _ => nI lv) g_m))))) w_m)]) (C := [(mw Y ad_m (sA 64 (fun _ => nI un) (sA 62 ufarNow_14 (sA 61 (fun _ => ulots_13) (sA 60 (upd (upd (upd urow_12 gn ((σ 0 gn) - kx)) 115 ((σ 14 0) + kx)) (74 + rn) 0) (sA 18 (fun _ => nI lv) g_m))))) w_m)]) (R := []) (List.Perm.refl _)) (fun  u H locs hp_17 hW => ?_)
              obtain ⟨unow_18, uhistory_19, uundos_20⟩ := u
              have hp_17 : KN (cn 2) (sU 8 rn 0 (sS 14 ((σ 14 0) + kx) (sU 0 gn ((σ 0 gn) - kx) σ))) (pushU U σ) unow_18 uhistory_19 uundos_20 := hp_17
              have hW : zW D A s.heap H locs (wj [(mw Y ad_m (sA 65 uhistory_19 (sA 64 (fun _ => nI uundos_20) (sA 62 ufarNow_14 (sA 61 (fun _ => ulots_13) (sA 60 (upd (upd (upd urow_12 gn ((σ 0 gn) - kx)) 115 ((σ 14 0) + kx)) (74 + rn) 0) (sA 59 unow_18 (sA 18 (fun _ => nI lv) g_m))))))) w_m)]) := hW.join
              refine lv_iconst (v := 1) hx hb dX12_give_111 (by decide) ?_
              refine z_ireti ((unow_18, uhistory_19, uundos_20, upd (upd (upd urow_12 gn ((σ 0 gn) - kx)) 115 ((σ 14 0) + kx)) (74 + rn) 0, ulots_13, ufarNow_14) : (Nat → Int32) × (Nat → Int32) × (Nat) × (Nat → Int32) × (Int32) × (Nat → Int32)) hx hb hr hlocks rfl hW rfl dX12_give_112 ?_
              show 1 = (giveO cn σ U rx gx kx).1 ∧ KN (cn 2) (giveO cn σ U rx gx kx).2.1 (giveO cn σ U rx gx kx).2.2 unow_18 uhistory_19 uundos_20
              have e : giveO cn σ U rx gx kx = _ := zi_t (by rw [crn, cgn]; exact ⟨c_3, c_6, ⟨c_7, c_8⟩, c_9⟩) _ _
              rw [e]
              refine ⟨rfl, ?_⟩
              have hkk := hp_17
              have et : giveT σ rn gn kx = sU 8 rn 0 (sS 14 ((σ 14 0) + kx) (sU 0 gn ((σ 0 gn) - kx) σ)) := by
                unfold giveT
                first | (rw [if_neg (Int32.not_lt.mpr c_15)]; done) | (rw [if_neg (Int32.not_lt.mpr c_15)]; funext a_ b_; simp only [sU_if, sS_if]; grind)
              simp only [kp, crn, cgn]; rw [et]; exact hkk
            · refine lv_aload_n hx hb dX12_give_94 rfl (lv_at hl 0 rfl) ?_
              refine va_get (v := .ref (ad_m 60)) (C := RX12) (T := TX12) (N := 75) (ci := 11) hx hb hts in_X12 hown hK.1 hW.1 0 rfl rfl 60 (by decide) (hts _ q1696) (fun _ h9 => h9) rfl dX12_give_95 ?_
              refine lv_bipush (v := 82) hx hb dX12_give_98 (by decide) ?_
              refine lv_iload_n hx hb dX12_give_100 rfl (lv_at hl 1 rfl) ?_
              refine lv_topi (nm_r (e' := nI rn) ern ?_)
              refine lv_iadd hx hb dX12_give_101 ?_
              refine lv_topi (nm_r (e' := nI (82 + rn)) (nI_add 82 rn) ?_)
              refine lv_dup2_11 hx hb dX12_give_102 rfl rfl ?_
              refine z_iald (v := σ 9 rn) (f := upd (upd (upd urow_12 gn ((σ 0 gn) - kx)) 115 ((σ 14 0) + kx)) (74 + rn) 0) (j := 82 + rn) hx hb hK.1 hW.1 43 0 rfl rfl (vp_in_nI (n := 82 + rn) (by omega) (by decide)) (nI_clamp (n := 82 + rn) (by omega)) (Eq.trans (pk_un (by omega)) (Eq.trans (pk_un (by omega)) (Eq.trans (pk_un (by omega)) (MR.r9 hp_11.1 (r := rn) (by omega))))) dX12_give_103 ?_
              refine lv_iconst (v := 1) hx hb dX12_give_104 (by decide) ?_
              refine lv_iadd hx hb dX12_give_105 ?_
              refine z_iast (x := (σ 9 rn) + 1) (f := upd (upd (upd urow_12 gn ((σ 0 gn) - kx)) 115 ((σ 14 0) + kx)) (74 + rn) 0) (j := 82 + rn) (wn := (wj [(mw Y ad_m (sA 64 (fun _ => nI un) (sA 62 ufarNow_14 (sA 61 (fun _ => ulots_13) (sA 60 (upd (upd (upd (upd urow_12 gn ((σ 0 gn) - kx)) 115 ((σ 14 0) + kx)) (74 + rn) 0) (82 + rn) ((σ 9 rn) + 1)) (sA 18 (fun _ => nI lv) g_m))))) w_m)])) hx hb hK.1 hW 43 0 rfl rfl (vp_in_nI (n := 82 + rn) (by omega) (by decide)) (nI_clamp (n := 82 + rn) (by omega)) dX12_give_106 rfl (fun H locs hW => ?_)
              refine lv_aload_n hx hb dX12_give_107 rfl (lv_at hl 0 rfl) ?_
              refine z_callv (wc := wj [(mw Y ad_m (sA 64 (fun _ => nI un) (sA 62 ufarNow_14 (sA 61 (fun _ => ulots_13) (sA 60 (upd (upd (upd (upd urow_12 gn ((σ 0 gn) - kx)) 115 ((σ 14 0) + kx)) (74 + rn) 0) (82 + rn) ((σ 9 rn) + 1)) (sA 18 (fun _ => nI lv) g_m))))) w_m)]) (wr := wj []) (va_runV (As := []) (rest := []) ⟨hx, hb, hml, hown, hts⟩ (m_X12_keeps l D Y ad_m (sA 64 (fun _ => nI un) (sA 62 ufarNow_14 (sA 61 (fun _ => ulots_13) (sA 60 (upd (upd (upd (upd urow_12 gn ((σ 0 gn) - kx)) 115 ((σ 14 0) + kx)) (74 + rn) 0) (82 + rn) ((σ 9 rn) + 1)) (sA 18 (fun _ => nI lv) g_m))))) w_m un (cn 2) σ (sU 9 rn ((σ 9 rn) + 1) (sU 8 rn 0 (sS 14 ((σ 14 0) + kx) (sU 0 gn ((σ 0 gn) - kx) σ)))) U H.size (show (cn 2) ≤ 8 from by exact hk8) (show KN (cn 2) σ U (g_m 59) (g_m 65) un from by exact hKN) (show MR (cn 2) (sU 9 rn ((σ 9 rn) + 1) (sU 8 rn 0 (sS 14 ((σ 14 0) + kx) (sU 0 gn ((σ 0 gn) - kx) σ)))) (upd (upd (upd (upd urow_12 gn ((σ 0 gn) - kx)) 115 ((σ 14 0) + kx)) (74 + rn) 0) (82 + rn) ((σ 9 rn) + 1)) from by exact ((RS.mk' hp_11 (MR.u9 hk8 (MR.u8 hk8 (MR.v14 hk8 (MR.uheap hk8 hp_11.1 (g := gn) (by omega) ((σ 0 gn) - kx)) ((σ 14 0) + kx)) (r := rn) (by omega) 0) (r := rn) (by omega) ((σ 9 rn) + 1)) (by rw [sU_ne (by omega), sU_ne (by omega), sS_ne (by omega), sU_ne (by omega)]) (by rw [sU_ne (by omega), sU_ne (by omega), sS_ne (by omega), sU_ne (by omega)]))).1)) (cwV 0 hts (lw_V q2078 q2080 qs96 q133 q2081) rfl rfl rfl (by decide +kernel) ⟨Nat.le_of_ble_eq_true rfl, Nat.le_of_ble_eq_true rfl⟩) (zPreV hK hW hR (wj_split3 (B := [(mw Y ad_m (sA 64 (fun _ => nI un) (sA 62 ufarNow_14 (sA 61 (fun _ => ulots_13) (sA 60 (upd (upd (upd (upd urow_12 gn ((σ 0 gn) - kx)) 115 ((σ 14 0) + kx)) (74 + rn) 0) (82 + rn) ((σ 9 rn) + 1)) (sA 18 (fun _ => nI lv) g_m))))) w_m)]) (R := []) (C := [(mw Y ad_m (sA 64 (fun _ => nI un) (sA 62 ufarNow_14 (sA 61 (fun _ => ulots_13) (sA 60 (upd (upd (upd (upd urow_12 gn ((σ 0 gn) - kx)) 115 ((σ 14 0) + kx)) (74 + rn) 0) (82 + rn) ((σ 9 rn) + 1)) (sA 18 (fun _ => nI lv) g_m))))) w_m)]) (O := []) (X := []) (List.Perm.refl _)) (va_recv hK.1 hW.1 (ci := 11) (q0 := 0) rfl rfl)) rfl rfl hl.1 rfl (lv_room (Nat.le_of_ble_eq_true rfl)) dX12_give_108 ⟨Nat.le_refl _, Nat.le_refl _⟩) hW hA (wj_split (B := [(mw Y ad_m (sA 64 (fun _ => nI un) (sA 62 ufarNow_14 (sA 61 (fun _ => ulots_13) (sA 60 (upd (upd (upd (upd urow_12 gn ((σ 0 gn) - kx)) 115 ((σ 14 0) + kx)) (74 + rn) 0) (82 + rn) ((σ 9 rn) + 1)) (sA 18 (fun _ => nI lv) g_m))))) w_m)]) (C := [(mw Y ad_m (sA 64 (fun _ => nI un) (sA 62 ufarNow_14 (sA 61 (fun _ => ulots_13) (sA 60 (upd (upd (upd (upd urow_12 gn ((σ 0 gn) - kx)) 115 ((σ 14 0) + kx)) (74 + rn) 0) (82 + rn) ((σ 9 rn) + 1)) (sA 18 (fun _ => nI lv) g_m))))) w_m)]) (R := []) (List.Perm.refl _)) (fun  u H locs hp_22 hW => ?_)
              obtain ⟨unow_23, uhistory_24, uundos_25⟩ := u
              have hp_22 : KN (cn 2) (sU 9 rn ((σ 9 rn) + 1) (sU 8 rn 0 (sS 14 ((σ 14 0) + kx) (sU 0 gn ((σ 0 gn) - kx) σ)))) (pushU U σ) unow_23 uhistory_24 uundos_25 := hp_22
              have hW : zW D A s.heap H locs (wj [(mw Y ad_m (sA 65 uhistory_24 (sA 64 (fun _ => nI uundos_25) (sA 62 ufarNow_14 (sA 61 (fun _ => ulots_13) (sA 60 (upd (upd (upd (upd urow_12 gn ((σ 0 gn) - kx)) 115 ((σ 14 0) + kx)) (74 + rn) 0) (82 + rn) ((σ 9 rn) + 1)) (sA 59 unow_23 (sA 18 (fun _ => nI lv) g_m))))))) w_m)]) := hW.join
              refine lv_iconst (v := 1) hx hb dX12_give_111 (by decide) ?_
              refine z_ireti ((unow_23, uhistory_24, uundos_25, upd (upd (upd (upd urow_12 gn ((σ 0 gn) - kx)) 115 ((σ 14 0) + kx)) (74 + rn) 0) (82 + rn) ((σ 9 rn) + 1), ulots_13, ufarNow_14) : (Nat → Int32) × (Nat → Int32) × (Nat) × (Nat → Int32) × (Int32) × (Nat → Int32)) hx hb hr hlocks rfl hW rfl dX12_give_112 ?_
              show 1 = (giveO cn σ U rx gx kx).1 ∧ KN (cn 2) (giveO cn σ U rx gx kx).2.1 (giveO cn σ U rx gx kx).2.2 unow_23 uhistory_24 uundos_25
              have e : giveO cn σ U rx gx kx = _ := zi_t (by rw [crn, cgn]; exact ⟨c_3, c_6, ⟨c_7, c_8⟩, c_9⟩) _ _
              rw [e]
              refine ⟨rfl, ?_⟩
              have hkk := hp_22
              have et : giveT σ rn gn kx = sU 9 rn ((σ 9 rn) + 1) (sU 8 rn 0 (sS 14 ((σ 14 0) + kx) (sU 0 gn ((σ 0 gn) - kx) σ))) := by
                unfold giveT
                first | (rw [if_pos (Int32.not_le.mp c_15)]; done) | (rw [if_pos (Int32.not_le.mp c_15)]; funext a_ b_; simp only [sU_if, sS_if]; grind)
              simp only [kp, crn, cgn]; rw [et]; exact hkk
          · refine lv_iconst (v := 0) hx hb dX12_give_43 (by decide) ?_
            refine z_ireti ((g_m 59, g_m 65, un, g_m 60, g_m 61 0, g_m 62) : (Nat → Int32) × (Nat → Int32) × (Nat) × (Nat → Int32) × (Int32) × (Nat → Int32)) hx hb hr hlocks rfl hW rfl dX12_give_44 ?_
            show 0 = (giveO cn σ U rx gx kx).1 ∧ KN (cn 2) (giveO cn σ U rx gx kx).2.1 (giveO cn σ U rx gx kx).2.2 (g_m 59) (g_m 65) un
            have e : giveO cn σ U rx gx kx = _ := zi_f (by first | (intro hq; exact absurd hq.1 (by assumption)) | (intro hq; exact absurd hq.2.1 (by assumption)) | (rw [crn, cgn]; intro hq; first | exact absurd hq.2.2.2 (by assumption) | exact hq.2.2.1.1 (by assumption) | exact hq.2.2.1.2 (by assumption))) _ _
            rw [e]
            exact ⟨rfl, hKN⟩
set_option maxHeartbeats 4000000 in
set_option maxRecDepth 100000 in
theorem m_X12_send (l : Launch) (D : va_G) (Y : Nat → ClassId) (ad_m : Nat → Nat) (g_m : Nat → Nat → Int32) (w_m : Nat → Nat → Int64) (lv : Nat) (cn : Nat → Nat) (t : tab) (lw : Nat → Option LAW) (σ : tab) (U : List tab) (un : Nat) (B_ : Int) (rx : Int32) (bx : Int32) (sz : Nat) (hlv : lv < 2) (hTW : TW cn t lw) (hTM : TM lv cn t lw g_m) (hKN : KN (cn 2) σ U (g_m 59) (g_m 65) un) (hF1 : ∀ h, h < cn 1 → σ 1 h = t 2 h) (hF2 : σ 18 0 = t 12 2) (hWF : WF cn B_ σ) : Met l yX12_send (ws_ yX12_send cX12_send 3 (some .boolean)) ({ frames := 3, cells := 0, slots := 0, locals := 55 }) (zPc D Y [.ref (ad_m 0), .int rx, .int bx] sz (wj []) (wj [(mw Y ad_m (sA 64 (fun _ => nI un) (sA 18 (fun _ => nI lv) g_m)) w_m)])) (va_Qi (fun (r : Int32) (u : (Nat → Int32) × (Nat → Int32) × (Nat) × (Nat → Int32) × (Int32) × (Nat → Int32)) => r = (sendO cn σ U rx bx).1 ∧ KN (cn 2) (sendO cn σ U rx bx).2.1 (sendO cn σ U rx bx).2.2 u.1 u.2.1 u.2.2.1) (zB D (fun (u : (Nat → Int32) × (Nat → Int32) × (Nat) × (Nat → Int32) × (Int32) × (Nat → Int32)) => (wj [(mw Y ad_m (sA 65 u.2.1 (sA 64 (fun _ => nI u.2.2.1) (sA 62 u.2.2.2.2.2 (sA 61 (fun _ => u.2.2.2.2.1) (sA 60 u.2.2.2.1 (sA 59 u.1 (sA 18 (fun _ => nI lv) g_m))))))) w_m)])) (va_A (wj [(mw Y ad_m (sA 64 (fun _ => nI un) (sA 18 (fun _ => nI lv) g_m)) w_m)]) sz)) (va_A (wj [(mw Y ad_m (sA 64 (fun _ => nI un) (sA 18 (fun _ => nI lv) g_m)) w_m)]) sz)) 0 0 (va_A (wj [(mw Y ad_m (sA 64 (fun _ => nI un) (sA 18 (fun _ => nI lv) g_m)) w_m)]) sz) := by
  refine Met.ofW (cc := cX12_send) (maxL := 3) (ret := (some .boolean)) (by decide) rfl ?_
  intro p e s m args below meth c s₁ B hml hv
  obtain ⟨rfl, hsz, hW, hR, hK, hA⟩ := zEntry hv
  subst hsz
  have hx := B.exec
  have hb := B.bytes
  have hr := B.returns
  have hlocks := B.notSynchronized
  have hts : ∀ w ∈ lw_all, w.before _ s = true := fun w h => atoms_spec (ws := (ws_ yX12_send cX12_send 3 (some .boolean))) B.pre w (List.mem_cons_of_mem _ h)
  have hown : s.vm.findClass RX12 = some m.cls := findClass_of_methodNamed B.named
  generalize hAe : va_A (wj [(mw Y ad_m (sA 64 (fun _ => nI un) (sA 18 (fun _ => nI lv) g_m)) w_m)]) s.heap.size = A at hW hR hA ⊢
  have hl := lv_entry ([.ref (ad_m 0), .int rx, .int bx]) (n := 3) (Nat.le_of_ble_eq_true rfl)
  rw [lg_entry_eq]
  generalize (lg_sl ([.ref (ad_m 0), .int rx, .int bx]) ++ List.replicate (3 - (lg_sl ([.ref (ad_m 0), .int rx, .int bx])).length) Slot.unset).toArray = ls at hl ⊢
  have hl : lv_has ls 3 [(0, .ref (ad_m 0)), (1, .int rx), (2, .int bx)] := hl
  have hk8 := hTW.n2
  have hk6 := hTW.n1
  have hk60 := hTW.n0
  have hk5 := hTW.n3
  refine lv_aload_n hx hb dX12_send_0 rfl (lv_at hl 0 rfl) ?_
  refine lv_iload_n hx hb dX12_send_1 rfl (lv_at hl 1 rfl) ?_
  refine z_calli (wc := wj [(mw Y ad_m (sA 64 (fun _ => nI un) (sA 18 (fun _ => nI lv) g_m)) w_m)]) (wr := wj []) (va_runV (As := [.int rx]) (rest := []) ⟨hx, hb, hml, hown, hts⟩ (m_X12_isRat l D Y ad_m (sA 64 (fun _ => nI un) (sA 18 (fun _ => nI lv) g_m)) w_m lv cn t lw rx s.heap.size (show lv < 2 from by exact hlv) (show TW cn t lw from by exact hTW) (show TM lv cn t lw (sA 64 (fun _ => nI un) (sA 18 (fun _ => nI lv) g_m)) from by exact hTM)) (cwV 1 hts (lw_V q2012 q2014 qs85 q133 q2015) rfl rfl rfl (by decide +kernel) ⟨Nat.le_of_ble_eq_true rfl, Nat.le_of_ble_eq_true rfl⟩) (zPreV hK hW hR (wj_split3 (B := [(mw Y ad_m (sA 64 (fun _ => nI un) (sA 18 (fun _ => nI lv) g_m)) w_m)]) (R := []) (C := [(mw Y ad_m (sA 64 (fun _ => nI un) (sA 18 (fun _ => nI lv) g_m)) w_m)]) (O := []) (X := []) (List.Perm.refl _)) (va_recv hK.1 hW.1 (ci := 11) (q0 := 0) rfl rfl)) rfl rfl hl.1 rfl (lv_room (Nat.le_of_ble_eq_true rfl)) dX12_send_2 ⟨Nat.le_refl _, Nat.le_refl _⟩) hW hA (wj_split (B := [(mw Y ad_m (sA 64 (fun _ => nI un) (sA 18 (fun _ => nI lv) g_m)) w_m)]) (C := [(mw Y ad_m (sA 64 (fun _ => nI un) (sA 18 (fun _ => nI lv) g_m)) w_m)]) (R := []) (List.Perm.refl _)) (fun r_1 u H locs hp_2 hW => ?_)
  have hp_2 : r_1 = zb (vp_in rx (cn 2)) := hp_2
  have hW : zW D A s.heap H locs (wj [(mw Y ad_m (sA 64 (fun _ => nI un) (sA 18 (fun _ => nI lv) g_m)) w_m)]) := hW.join
  refine lv_if_eq (tgt := 30) hx hb dX12_send_5 (by decide) (fun c_3 => ?_) (fun c_3 => ?_)
  · have c_3 : ¬ (vp_in rx (cn 2)) := zb_eq hp_2 c_3
    refine lv_iconst (v := 0) hx hb dX12_send_30 (by decide) ?_
    refine z_ireti ((g_m 59, g_m 65, un, g_m 60, g_m 61 0, g_m 62) : (Nat → Int32) × (Nat → Int32) × (Nat) × (Nat → Int32) × (Int32) × (Nat → Int32)) hx hb hr hlocks rfl hW rfl dX12_send_31 ?_
    show 0 = (sendO cn σ U rx bx).1 ∧ KN (cn 2) (sendO cn σ U rx bx).2.1 (sendO cn σ U rx bx).2.2 (g_m 59) (g_m 65) un
    have e : sendO cn σ U rx bx = _ := zi_f (by first | (intro hq; exact absurd hq.1 (by assumption)) | (rw [crn, ← hb0]; intro hq; exact hq.2 (by assumption))) _ _
    rw [e]
    exact ⟨rfl, hKN⟩
  · have c_3 : vp_in rx (cn 2) := zb_ne hp_2 c_3
    obtain ⟨rn, hrn, ern⟩ := vp_in_of c_3 (by omega)
    have crn : rx.toNatClampNeg = rn := by rw [ern]; exact nI_clamp (by omega)
    refine lv_aload_n hx hb dX12_send_8 rfl (lv_at hl 0 rfl) ?_
    refine va_get (v := .ref (ad_m 59)) (C := RX12) (T := TX12) (N := 75) (ci := 11) hx hb hts in_X12 hown hK.1 hW.1 0 rfl rfl 59 (by decide) (hts _ q1695) (fun _ h9 => h9) rfl dX12_send_9 ?_
    refine lv_bipush (v := 42) hx hb dX12_send_12 (by decide) ?_
    refine lv_iload_n hx hb dX12_send_14 rfl (lv_at hl 1 rfl) ?_
    refine lv_topi (nm_r (e' := nI rn) ern ?_)
    refine lv_iadd hx hb dX12_send_15 ?_
    refine lv_topi (nm_r (e' := nI (42 + rn)) (nI_add 42 rn) ?_)
    refine z_iald (v := σ 3 rn) (f := g_m 59) (j := 42 + rn) hx hb hK.1 hW.1 42 0 rfl rfl (vp_in_nI (n := 42 + rn) (by omega) (by decide)) (nI_clamp (n := 42 + rn) (by omega)) (MR.r3 hKN.mr (r := rn) (by omega)) dX12_send_16 ?_
    refine lv_iconst (v := 3) hx hb dX12_send_17 (by decide) ?_
    have join_26 : ∀ (st0_26 : Int32), (st0_26 = zb (σ 3 rn = 3)) → ∀ (H : Heap) (locs : List Loc), zW D A s.heap H locs (wj [(mw Y ad_m (sA 64 (fun _ => nI un) (sA 18 (fun _ => nI lv) g_m)) w_m)]) → ∀ (ls : Array Slot), lv_has ls 3 [(0, .ref (ad_m 0)), (1, .int rx), (2, .int bx)] → W p l e (headSpec (ws_ yX12_send cX12_send 3 (some .boolean)) ({ frames := 3, cells := 0, slots := 0, locals := 55 })).room s m ([.ref (ad_m 0), .int rx, .int bx] : List Value).toArray below meth c H locs 0 0 (MQ below (va_Qi (fun (r : Int32) (u : (Nat → Int32) × (Nat → Int32) × (Nat) × (Nat → Int32) × (Int32) × (Nat → Int32)) => r = (sendO cn σ U rx bx).1 ∧ KN (cn 2) (sendO cn σ U rx bx).2.1 (sendO cn σ U rx bx).2.2 u.1 u.2.1 u.2.2.1) (zB D (fun (u : (Nat → Int32) × (Nat → Int32) × (Nat) × (Nat → Int32) × (Int32) × (Nat → Int32)) => (wj [(mw Y ad_m (sA 65 u.2.1 (sA 64 (fun _ => nI u.2.2.1) (sA 62 u.2.2.2.2.2 (sA 61 (fun _ => u.2.2.2.2.1) (sA 60 u.2.2.2.1 (sA 59 u.1 (sA 18 (fun _ => nI lv) g_m))))))) w_m)])) A) A) ([.ref (ad_m 0), .int rx, .int bx] : List Value).toArray s 0 0 A) (F0 m 26 ls [.int st0_26]) := by
      intro st0_26 hb0 H locs hW ls hl
      refine lv_iload_n hx hb dX12_send_26 rfl (lv_at hl 2 rfl) ?_
      refine lv_icmp_ne (tgt := 32) hx hb dX12_send_27 (by decide) (fun c_5 => ?_) (fun c_5 => ?_)
      · refine lv_aload_n hx hb dX12_send_32 rfl (lv_at hl 0 rfl) ?_
        refine z_callv (wc := wj [(mw Y ad_m (sA 64 (fun _ => nI un) (sA 18 (fun _ => nI lv) g_m)) w_m)]) (wr := wj []) (va_runV (As := []) (rest := []) ⟨hx, hb, hml, hown, hts⟩ (m_X12_copies l D Y ad_m (sA 64 (fun _ => nI un) (sA 18 (fun _ => nI lv) g_m)) w_m lv cn t lw σ H.size (show lv < 2 from by exact hlv) (show TW cn t lw from by exact hTW) (show TM lv cn t lw (sA 64 (fun _ => nI un) (sA 18 (fun _ => nI lv) g_m)) from by exact hTM) (show MR (cn 2) σ (g_m 59) from by exact hKN.mr) (show ∀ h, h < cn 1 → σ 1 h = t 2 h from by exact hF1) (show σ 18 0 = t 12 2 from by exact hF2)) (cwV 0 hts (lw_V q2020 q2022 qs86 q133 q2023) rfl rfl rfl (by decide +kernel) ⟨Nat.le_of_ble_eq_true rfl, Nat.le_of_ble_eq_true rfl⟩) (zPreV hK hW hR (wj_split3 (B := [(mw Y ad_m (sA 64 (fun _ => nI un) (sA 18 (fun _ => nI lv) g_m)) w_m)]) (R := []) (C := [(mw Y ad_m (sA 64 (fun _ => nI un) (sA 18 (fun _ => nI lv) g_m)) w_m)]) (O := []) (X := []) (List.Perm.refl _)) (va_recv hK.1 hW.1 (ci := 11) (q0 := 0) rfl rfl)) rfl rfl hl.1 rfl (lv_room (Nat.le_of_ble_eq_true rfl)) dX12_send_33 ⟨Nat.le_refl _, Nat.le_refl _⟩) hW hA (wj_split (B := [(mw Y ad_m (sA 64 (fun _ => nI un) (sA 18 (fun _ => nI lv) g_m)) w_m)]) (C := [(mw Y ad_m (sA 64 (fun _ => nI un) (sA 18 (fun _ => nI lv) g_m)) w_m)]) (R := []) (List.Perm.refl _)) (fun  u H locs hp_7 hW => ?_)
        obtain ⟨urow_8, ulots_9, ufarNow_10⟩ := u
        have hp_7 : RS cn σ urow_8 ufarNow_10 ulots_9 := hp_7
        have hW : zW D A s.heap H locs (wj [(mw Y ad_m (sA 64 (fun _ => nI un) (sA 62 ufarNow_10 (sA 61 (fun _ => ulots_9) (sA 60 urow_8 (sA 18 (fun _ => nI lv) g_m))))) w_m)]) := hW.join
        refine lv_iload_n hx hb dX12_send_36 rfl (lv_at hl 2 rfl) ?_
        refine lv_if_eq (tgt := 48) hx hb dX12_send_37 (by decide) (fun c_11 => ?_) (fun c_11 => ?_)
        · refine lv_aload_n hx hb dX12_send_48 rfl (lv_at hl 0 rfl) ?_
          refine va_get (v := .ref (ad_m 60)) (C := RX12) (T := TX12) (N := 75) (ci := 11) hx hb hts in_X12 hown hK.1 hW.1 0 rfl rfl 60 (by decide) (hts _ q1696) (fun _ h9 => h9) rfl dX12_send_49 ?_
          refine lv_bipush (v := 42) hx hb dX12_send_52 (by decide) ?_
          refine lv_iload_n hx hb dX12_send_54 rfl (lv_at hl 1 rfl) ?_
          refine lv_topi (nm_r (e' := nI rn) ern ?_)
          refine lv_iadd hx hb dX12_send_55 ?_
          refine lv_topi (nm_r (e' := nI (42 + rn)) (nI_add 42 rn) ?_)
          refine lv_iconst (v := 0) hx hb dX12_send_56 (by decide) ?_
          refine z_iast (x := 0) (f := urow_8) (j := 42 + rn) (wn := (wj [(mw Y ad_m (sA 64 (fun _ => nI un) (sA 62 ufarNow_10 (sA 61 (fun _ => ulots_9) (sA 60 (upd urow_8 (42 + rn) 0) (sA 18 (fun _ => nI lv) g_m))))) w_m)])) hx hb hK.1 hW 43 0 rfl rfl (vp_in_nI (n := 42 + rn) (by omega) (by decide)) (nI_clamp (n := 42 + rn) (by omega)) dX12_send_57 rfl (fun H locs hW => ?_)
          refine lv_aload_n hx hb dX12_send_58 rfl (lv_at hl 0 rfl) ?_
          refine z_callv (wc := wj [(mw Y ad_m (sA 64 (fun _ => nI un) (sA 62 ufarNow_10 (sA 61 (fun _ => ulots_9) (sA 60 (upd urow_8 (42 + rn) 0) (sA 18 (fun _ => nI lv) g_m))))) w_m)]) (wr := wj []) (va_runV (As := []) (rest := []) ⟨hx, hb, hml, hown, hts⟩ (m_X12_keeps l D Y ad_m (sA 64 (fun _ => nI un) (sA 62 ufarNow_10 (sA 61 (fun _ => ulots_9) (sA 60 (upd urow_8 (42 + rn) 0) (sA 18 (fun _ => nI lv) g_m))))) w_m un (cn 2) σ (sU 3 rn 0 σ) U H.size (show (cn 2) ≤ 8 from by exact hk8) (show KN (cn 2) σ U (g_m 59) (g_m 65) un from by exact hKN) (show MR (cn 2) (sU 3 rn 0 σ) (upd urow_8 (42 + rn) 0) from by exact ((RS.mk' hp_7 (MR.u3 hk8 hp_7.1 (r := rn) (by omega) 0) (by rw [sU_ne (by omega)]) (by rw [sU_ne (by omega)]))).1)) (cwV 0 hts (lw_V q2078 q2080 qs96 q133 q2081) rfl rfl rfl (by decide +kernel) ⟨Nat.le_of_ble_eq_true rfl, Nat.le_of_ble_eq_true rfl⟩) (zPreV hK hW hR (wj_split3 (B := [(mw Y ad_m (sA 64 (fun _ => nI un) (sA 62 ufarNow_10 (sA 61 (fun _ => ulots_9) (sA 60 (upd urow_8 (42 + rn) 0) (sA 18 (fun _ => nI lv) g_m))))) w_m)]) (R := []) (C := [(mw Y ad_m (sA 64 (fun _ => nI un) (sA 62 ufarNow_10 (sA 61 (fun _ => ulots_9) (sA 60 (upd urow_8 (42 + rn) 0) (sA 18 (fun _ => nI lv) g_m))))) w_m)]) (O := []) (X := []) (List.Perm.refl _)) (va_recv hK.1 hW.1 (ci := 11) (q0 := 0) rfl rfl)) rfl rfl hl.1 rfl (lv_room (Nat.le_of_ble_eq_true rfl)) dX12_send_59 ⟨Nat.le_refl _, Nat.le_refl _⟩) hW hA (wj_split (B := [(mw Y ad_m (sA 64 (fun _ => nI un) (sA 62 ufarNow_10 (sA 61 (fun _ => ulots_9) (sA 60 (upd urow_8 (42 + rn) 0) (sA 18 (fun _ => nI lv) g_m))))) w_m)]) (C := [(mw Y ad_m (sA 64 (fun _ => nI un) (sA 62 ufarNow_10 (sA 61 (fun _ => ulots_9) (sA 60 (upd urow_8 (42 + rn) 0) (sA 18 (fun _ => nI lv) g_m))))) w_m)]) (R := []) (List.Perm.refl _)) (fun  u H locs hp_13 hW => ?_)
          obtain ⟨unow_14, uhistory_15, uundos_16⟩ := u
          have hp_13 : KN (cn 2) (sU 3 rn 0 σ) (pushU U σ) unow_14 uhistory_15 uundos_16 := hp_13
          have hW : zW D A s.heap H locs (wj [(mw Y ad_m (sA 65 uhistory_15 (sA 64 (fun _ => nI uundos_16) (sA 62 ufarNow_10 (sA 61 (fun _ => ulots_9) (sA 60 (upd urow_8 (42 + rn) 0) (sA 59 unow_14 (sA 18 (fun _ => nI lv) g_m))))))) w_m)]) := hW.join
          refine lv_iconst (v := 1) hx hb dX12_send_62 (by decide) ?_
          refine z_ireti ((unow_14, uhistory_15, uundos_16, upd urow_8 (42 + rn) 0, ulots_9, ufarNow_10) : (Nat → Int32) × (Nat → Int32) × (Nat) × (Nat → Int32) × (Int32) × (Nat → Int32)) hx hb hr hlocks rfl hW rfl dX12_send_63 ?_
          show 1 = (sendO cn σ U rx bx).1 ∧ KN (cn 2) (sendO cn σ U rx bx).2.1 (sendO cn σ U rx bx).2.2 unow_14 uhistory_15 uundos_16
          have e : sendO cn σ U rx bx = _ := zi_t (by rw [crn]; exact ⟨c_3, by rw [← hb0]; exact c_5⟩) _ _
          rw [e]
          refine ⟨rfl, ?_⟩
          have hkk := hp_13
          simp only [kp, crn, sendT]; (first | rw [if_neg c_11] | rw [if_pos c_11]); exact hkk
        · refine lv_aload_n hx hb dX12_send_40 rfl (lv_at hl 0 rfl) ?_
          refine lv_iload_n hx hb dX12_send_41 rfl (lv_at hl 1 rfl) ?_
          refine lv_topi (nm_r (e' := nI rn) ern ?_)
          refine z_callv (wc := wj [(mw Y ad_m (sA 64 (fun _ => nI un) (sA 62 ufarNow_10 (sA 61 (fun _ => ulots_9) (sA 60 urow_8 (sA 18 (fun _ => nI lv) g_m))))) w_m)]) (wr := wj []) (va_runV (As := [.int (nI rn)]) (rest := []) ⟨hx, hb, hml, hown, hts⟩ (m_X12_goesHome l D Y ad_m (sA 64 (fun _ => nI un) (sA 62 ufarNow_10 (sA 61 (fun _ => ulots_9) (sA 60 urow_8 (sA 18 (fun _ => nI lv) g_m))))) w_m lv cn t lw σ rn H.size (show lv < 2 from by exact hlv) (show TW cn t lw from by exact hTW) (show TM lv cn t lw (sA 64 (fun _ => nI un) (sA 62 ufarNow_10 (sA 61 (fun _ => ulots_9) (sA 60 urow_8 (sA 18 (fun _ => nI lv) g_m))))) from by exact hTM) (show RS cn σ urow_8 ufarNow_10 ulots_9 from by exact hp_7) (show rn < cn 2 from by first | assumption | omega | grind) (show ¬ σ 5 rn ≤ 0 → vp_in (σ 6 rn) 6 from by exact fun q => vp_mono (hWF.w5 (by omega) q).2 hk60)) (cwV 1 hts (lw_V q2106 q2108 qs98 q133 q2109) rfl rfl rfl (by decide +kernel) ⟨Nat.le_of_ble_eq_true rfl, Nat.le_of_ble_eq_true rfl⟩) (zPreV hK hW hR (wj_split3 (B := [(mw Y ad_m (sA 64 (fun _ => nI un) (sA 62 ufarNow_10 (sA 61 (fun _ => ulots_9) (sA 60 urow_8 (sA 18 (fun _ => nI lv) g_m))))) w_m)]) (R := []) (C := [(mw Y ad_m (sA 64 (fun _ => nI un) (sA 62 ufarNow_10 (sA 61 (fun _ => ulots_9) (sA 60 urow_8 (sA 18 (fun _ => nI lv) g_m))))) w_m)]) (O := []) (X := []) (List.Perm.refl _)) (va_recv hK.1 hW.1 (ci := 11) (q0 := 0) rfl rfl)) rfl rfl hl.1 rfl (lv_room (Nat.le_of_ble_eq_true rfl)) dX12_send_42 ⟨Nat.le_refl _, Nat.le_refl _⟩) hW hA (wj_split (B := [(mw Y ad_m (sA 64 (fun _ => nI un) (sA 62 ufarNow_10 (sA 61 (fun _ => ulots_9) (sA 60 urow_8 (sA 18 (fun _ => nI lv) g_m))))) w_m)]) (C := [(mw Y ad_m (sA 64 (fun _ => nI un) (sA 62 ufarNow_10 (sA 61 (fun _ => ulots_9) (sA 60 urow_8 (sA 18 (fun _ => nI lv) g_m))))) w_m)]) (R := []) (List.Perm.refl _)) (fun  u H locs hp_18 hW => ?_)
          obtain ⟨urow_19, rfl⟩ : ∃ z, z = u := ⟨_, rfl⟩
          have hp_18 : RS cn (homeP σ rn) urow_19 ufarNow_10 ulots_9 := hp_18
          have hW : zW D A s.heap H locs (wj [(mw Y ad_m (sA 64 (fun _ => nI un) (sA 62 ufarNow_10 (sA 61 (fun _ => ulots_9) (sA 60 urow_19 (sA 18 (fun _ => nI lv) g_m))))) w_m)]) := hW.join
          refine lv_goto (tgt := 58) hx hb dX12_send_45 (by decide) ?_
          refine lv_aload_n hx hb dX12_send_58 rfl (lv_at hl 0 rfl) ?_
          refine z_callv (wc := wj [(mw Y ad_m (sA 64 (fun _ => nI un) (sA 62 ufarNow_10 (sA 61 (fun _ => ulots_9) (sA 60 urow_19 (sA 18 (fun _ => nI lv) g_m))))) w_m)]) (wr := wj []) (va_runV (As := []) (rest := []) ⟨hx, hb, hml, hown, hts⟩ (m_X12_keeps l D Y ad_m (sA 64 (fun _ => nI un) (sA 62 ufarNow_10 (sA 61 (fun _ => ulots_9) (sA 60 urow_19 (sA 18 (fun _ => nI lv) g_m))))) w_m un (cn 2) σ (homeP σ rn) U H.size (show (cn 2) ≤ 8 from by exact hk8) (show KN (cn 2) σ U (g_m 59) (g_m 65) un from by exact hKN) (show MR (cn 2) (homeP σ rn) urow_19 from by exact (hp_18).1)) (cwV 0 hts (lw_V q2078 q2080 qs96 q133 q2081) rfl rfl rfl (by decide +kernel) ⟨Nat.le_of_ble_eq_true rfl, Nat.le_of_ble_eq_true rfl⟩) (zPreV hK hW hR (wj_split3 (B := [(mw Y ad_m (sA 64 (fun _ => nI un) (sA 62 ufarNow_10 (sA 61 (fun _ => ulots_9) (sA 60 urow_19 (sA 18 (fun _ => nI lv) g_m))))) w_m)]) (R := []) (C := [(mw Y ad_m (sA 64 (fun _ => nI un) (sA 62 ufarNow_10 (sA 61 (fun _ => ulots_9) (sA 60 urow_19 (sA 18 (fun _ => nI lv) g_m))))) w_m)]) (O := []) (X := []) (List.Perm.refl _)) (va_recv hK.1 hW.1 (ci := 11) (q0 := 0) rfl rfl)) rfl rfl hl.1 rfl (lv_room (Nat.le_of_ble_eq_true rfl)) dX12_send_59 ⟨Nat.le_refl _, Nat.le_refl _⟩) hW hA (wj_split (B := [(mw Y ad_m (sA 64 (fun _ => nI un) (sA 62 ufarNow_10 (sA 61 (fun _ => ulots_9) (sA 60 urow_19 (sA 18 (fun _ => nI lv) g_m))))) w_m)]) (C := [(mw Y ad_m (sA 64 (fun _ => nI un) (sA 62 ufarNow_10 (sA 61 (fun _ => ulots_9) (sA 60 urow_19 (sA 18 (fun _ => nI lv) g_m))))) w_m)]) (R := []) (List.Perm.refl _)) (fun  u H locs hp_21 hW => ?_)
          obtain ⟨unow_22, uhistory_23, uundos_24⟩ := u
          have hp_21 : KN (cn 2) (homeP σ rn) (pushU U σ) unow_22 uhistory_23 uundos_24 := hp_21
          have hW : zW D A s.heap H locs (wj [(mw Y ad_m (sA 65 uhistory_23 (sA 64 (fun _ => nI uundos_24) (sA 62 ufarNow_10 (sA 61 (fun _ => ulots_9) (sA 60 urow_19 (sA 59 unow_22 (sA 18 (fun _ => nI lv) g_m))))))) w_m)]) := hW.join
          refine lv_iconst (v := 1) hx hb dX12_send_62 (by decide) ?_
          refine z_ireti ((unow_22, uhistory_23, uundos_24, urow_19, ulots_9, ufarNow_10) : (Nat → Int32) × (Nat → Int32) × (Nat) × (Nat → Int32) × (Int32) × (Nat → Int32)) hx hb hr hlocks rfl hW rfl dX12_send_63 ?_
          show 1 = (sendO cn σ U rx bx).1 ∧ KN (cn 2) (sendO cn σ U rx bx).2.1 (sendO cn σ U rx bx).2.2 unow_22 uhistory_23 uundos_24
          have e : sendO cn σ U rx bx = _ := zi_t (by rw [crn]; exact ⟨c_3, by rw [← hb0]; exact c_5⟩) _ _
          rw [e]
          refine ⟨rfl, ?_⟩
          have hkk := hp_21
          simp only [kp, crn, sendT]; (first | rw [if_neg c_11] | rw [if_pos c_11]); exact hkk
      · refine lv_iconst (v := 0) hx hb dX12_send_30 (by decide) ?_
        refine z_ireti ((g_m 59, g_m 65, un, g_m 60, g_m 61 0, g_m 62) : (Nat → Int32) × (Nat → Int32) × (Nat) × (Nat → Int32) × (Int32) × (Nat → Int32)) hx hb hr hlocks rfl hW rfl dX12_send_31 ?_
        show 0 = (sendO cn σ U rx bx).1 ∧ KN (cn 2) (sendO cn σ U rx bx).2.1 (sendO cn σ U rx bx).2.2 (g_m 59) (g_m 65) un
        have e : sendO cn σ U rx bx = _ := zi_f (by first | (intro hq; exact absurd hq.1 (by assumption)) | (rw [crn, ← hb0]; intro hq; exact hq.2 (by assumption))) _ _
        rw [e]
        exact ⟨rfl, hKN⟩
    refine lv_icmp_ne (tgt := 25) hx hb dX12_send_18 (by decide) (fun c_25 => ?_) (fun c_25 => ?_)
    · refine lv_iconst (v := 0) hx hb dX12_send_25 (by decide) ?_
      exact join_26 0 (by first | exact zb_1 (by assumption) | exact zb_0 (by assumption)) _ _ hW _ (lv_sub hl [0, 1, 2] rfl)
    · refine lv_iconst (v := 1) hx hb dX12_send_21 (by decide) ?_
      refine lv_goto (tgt := 26) hx hb dX12_send_22 (by decide) ?_
      exact join_26 1 (by first | exact zb_1 (by assumption) | exact zb_0 (by assumption)) _ _ hW _ (lv_sub hl [0, 1, 2] rfl)
set_option maxHeartbeats 4000000 in
set_option maxRecDepth 100000 in
theorem m_X12_isClean (l : Launch) (D : va_G) (Y : Nat → ClassId) (ad_m : Nat → Nat) (g_m : Nat → Nat → Int32) (w_m : Nat → Nat → Int64) (lv : Nat) (cn : Nat → Nat) (t : tab) (lw : Nat → Option LAW) (σ : tab) (U : List tab) (un : Nat) (B_ : Int) (sz : Nat) (hlv : lv < 2) (hTW : TW cn t lw) (hTM : TM lv cn t lw g_m) (hKN : KN (cn 2) σ U (g_m 59) (g_m 65) un) (hF1 : ∀ h, h < cn 1 → σ 1 h = t 2 h) (hF2 : σ 18 0 = t 12 2) (hWF : WF cn B_ σ) : Met l yX12_isClean (ws_ yX12_isClean cX12_isClean 1 (some .boolean)) ({ frames := 3, cells := 0, slots := 0, locals := 54 }) (zPc D Y [.ref (ad_m 0)] sz (wj []) (wj [(mw Y ad_m (sA 64 (fun _ => nI un) (sA 18 (fun _ => nI lv) g_m)) w_m)])) (va_Qi (fun (r : Int32) (u : (Nat → Int32) × (Int32) × (Nat → Int32)) => r = zb (cleanP cn σ false)) (zB D (fun (u : (Nat → Int32) × (Int32) × (Nat → Int32)) => (wj [(mw Y ad_m (sA 64 (fun _ => nI un) (sA 62 u.2.2 (sA 61 (fun _ => u.2.1) (sA 60 u.1 (sA 18 (fun _ => nI lv) g_m))))) w_m)])) (va_A (wj [(mw Y ad_m (sA 64 (fun _ => nI un) (sA 18 (fun _ => nI lv) g_m)) w_m)]) sz)) (va_A (wj [(mw Y ad_m (sA 64 (fun _ => nI un) (sA 18 (fun _ => nI lv) g_m)) w_m)]) sz)) 0 0 (va_A (wj [(mw Y ad_m (sA 64 (fun _ => nI un) (sA 18 (fun _ => nI lv) g_m)) w_m)]) sz) := by
  refine Met.ofW (cc := cX12_isClean) (maxL := 1) (ret := (some .boolean)) (by decide) rfl ?_
  intro p e s m args below meth c s₁ B hml hv
  obtain ⟨rfl, hsz, hW, hR, hK, hA⟩ := zEntry hv
  subst hsz
  have hx := B.exec
  have hb := B.bytes
  have hr := B.returns
  have hlocks := B.notSynchronized
  have hts : ∀ w ∈ lw_all, w.before _ s = true := fun w h => atoms_spec (ws := (ws_ yX12_isClean cX12_isClean 1 (some .boolean))) B.pre w (List.mem_cons_of_mem _ h)
  have hown : s.vm.findClass RX12 = some m.cls := findClass_of_methodNamed B.named
  generalize hAe : va_A (wj [(mw Y ad_m (sA 64 (fun _ => nI un) (sA 18 (fun _ => nI lv) g_m)) w_m)]) s.heap.size = A at hW hR hA ⊢
  have hl := lv_entry ([.ref (ad_m 0)]) (n := 1) (Nat.le_of_ble_eq_true rfl)
  rw [lg_entry_eq]
  generalize (lg_sl ([.ref (ad_m 0)]) ++ List.replicate (1 - (lg_sl ([.ref (ad_m 0)])).length) Slot.unset).toArray = ls at hl ⊢
  have hl : lv_has ls 1 [(0, .ref (ad_m 0))] := hl
  have hk8 := hTW.n2
  have hk6 := hTW.n1
  have hk60 := hTW.n0
  have hk5 := hTW.n3
  refine lv_aload_n hx hb dX12_isClean_0 rfl (lv_at hl 0 rfl) ?_
  refine z_callv (wc := wj [(mw Y ad_m (sA 64 (fun _ => nI un) (sA 18 (fun _ => nI lv) g_m)) w_m)]) (wr := wj []) (va_runV (As := []) (rest := []) ⟨hx, hb, hml, hown, hts⟩ (m_X12_copies l D Y ad_m (sA 64 (fun _ => nI un) (sA 18 (fun _ => nI lv) g_m)) w_m lv cn t lw σ s.heap.size (show lv < 2 from by exact hlv) (show TW cn t lw from by exact hTW) (show TM lv cn t lw (sA 64 (fun _ => nI un) (sA 18 (fun _ => nI lv) g_m)) from by exact hTM) (show MR (cn 2) σ (g_m 59) from by exact hKN.mr) (show ∀ h, h < cn 1 → σ 1 h = t 2 h from by exact hF1) (show σ 18 0 = t 12 2 from by exact hF2)) (cwV 0 hts (lw_V q2020 q2022 qs86 q133 q2023) rfl rfl rfl (by decide +kernel) ⟨Nat.le_of_ble_eq_true rfl, Nat.le_of_ble_eq_true rfl⟩) (zPreV hK hW hR (wj_split3 (B := [(mw Y ad_m (sA 64 (fun _ => nI un) (sA 18 (fun _ => nI lv) g_m)) w_m)]) (R := []) (C := [(mw Y ad_m (sA 64 (fun _ => nI un) (sA 18 (fun _ => nI lv) g_m)) w_m)]) (O := []) (X := []) (List.Perm.refl _)) (va_recv hK.1 hW.1 (ci := 11) (q0 := 0) rfl rfl)) rfl rfl hl.1 rfl (lv_room (Nat.le_of_ble_eq_true rfl)) dX12_isClean_1 ⟨Nat.le_refl _, Nat.le_refl _⟩) hW hA (wj_split (B := [(mw Y ad_m (sA 64 (fun _ => nI un) (sA 18 (fun _ => nI lv) g_m)) w_m)]) (C := [(mw Y ad_m (sA 64 (fun _ => nI un) (sA 18 (fun _ => nI lv) g_m)) w_m)]) (R := []) (List.Perm.refl _)) (fun  u H locs hp_2 hW => ?_)
  obtain ⟨urow_3, ulots_4, ufarNow_5⟩ := u
  have hp_2 : RS cn σ urow_3 ufarNow_5 ulots_4 := hp_2
  have hW : zW D A s.heap H locs (wj [(mw Y ad_m (sA 64 (fun _ => nI un) (sA 62 ufarNow_5 (sA 61 (fun _ => ulots_4) (sA 60 urow_3 (sA 18 (fun _ => nI lv) g_m))))) w_m)]) := hW.join
  refine lv_aload_n hx hb dX12_isClean_4 rfl (lv_at hl 0 rfl) ?_
  refine lv_iconst (v := 0) hx hb dX12_isClean_5 (by decide) ?_
  refine z_calli (wc := wj [(mw Y ad_m (sA 64 (fun _ => nI un) (sA 62 ufarNow_5 (sA 61 (fun _ => ulots_4) (sA 60 urow_3 (sA 18 (fun _ => nI lv) g_m))))) w_m)]) (wr := wj []) (va_runV (As := [.int 0]) (rest := []) ⟨hx, hb, hml, hown, hts⟩ (m_X12_isCleanNow_0 l D Y ad_m (sA 64 (fun _ => nI un) (sA 62 ufarNow_5 (sA 61 (fun _ => ulots_4) (sA 60 urow_3 (sA 18 (fun _ => nI lv) g_m))))) w_m lv cn t lw σ B_ H.size (show lv < 2 from by exact hlv) (show TW cn t lw from by exact hTW) (show TM lv cn t lw (sA 64 (fun _ => nI un) (sA 62 ufarNow_5 (sA 61 (fun _ => ulots_4) (sA 60 urow_3 (sA 18 (fun _ => nI lv) g_m))))) from by exact hTM) (show RS cn σ urow_3 ufarNow_5 ulots_4 from by exact hp_2) (show WF cn B_ σ from by first | assumption | omega | grind)) (cwV 1 hts (lw_V q2142 q2144 qs102 q133 q2145) rfl rfl rfl (by decide +kernel) ⟨Nat.le_of_ble_eq_true rfl, Nat.le_of_ble_eq_true rfl⟩) (zPreV hK hW hR (wj_split3 (B := [(mw Y ad_m (sA 64 (fun _ => nI un) (sA 62 ufarNow_5 (sA 61 (fun _ => ulots_4) (sA 60 urow_3 (sA 18 (fun _ => nI lv) g_m))))) w_m)]) (R := []) (C := [(mw Y ad_m (sA 64 (fun _ => nI un) (sA 62 ufarNow_5 (sA 61 (fun _ => ulots_4) (sA 60 urow_3 (sA 18 (fun _ => nI lv) g_m))))) w_m)]) (O := []) (X := []) (List.Perm.refl _)) (va_recv hK.1 hW.1 (ci := 11) (q0 := 0) rfl rfl)) rfl rfl hl.1 rfl (lv_room (Nat.le_of_ble_eq_true rfl)) dX12_isClean_6 ⟨Nat.le_refl _, Nat.le_refl _⟩) hW hA (wj_split (B := [(mw Y ad_m (sA 64 (fun _ => nI un) (sA 62 ufarNow_5 (sA 61 (fun _ => ulots_4) (sA 60 urow_3 (sA 18 (fun _ => nI lv) g_m))))) w_m)]) (C := [(mw Y ad_m (sA 64 (fun _ => nI un) (sA 62 ufarNow_5 (sA 61 (fun _ => ulots_4) (sA 60 urow_3 (sA 18 (fun _ => nI lv) g_m))))) w_m)]) (R := []) (List.Perm.refl _)) (fun r_6 u H locs hp_7 hW => ?_)
  have hp_7 : r_6 = zb (cleanP cn σ false) := hp_7
  have hW : zW D A s.heap H locs (wj [(mw Y ad_m (sA 64 (fun _ => nI un) (sA 62 ufarNow_5 (sA 61 (fun _ => ulots_4) (sA 60 urow_3 (sA 18 (fun _ => nI lv) g_m))))) w_m)]) := hW.join
  refine z_ireti ((urow_3, ulots_4, ufarNow_5) : (Nat → Int32) × (Int32) × (Nat → Int32)) hx hb hr hlocks (zb_nar hp_7) hW rfl dX12_isClean_9 ?_
  show r_6 = zb (cleanP cn σ false)
  exact hp_7
set_option maxHeartbeats 4000000 in
set_option maxRecDepth 100000 in
theorem m_X12_clean (l : Launch) (D : va_G) (Y : Nat → ClassId) (ad_m : Nat → Nat) (g_m : Nat → Nat → Int32) (w_m : Nat → Nat → Int64) (lv : Nat) (cn : Nat → Nat) (t : tab) (lw : Nat → Option LAW) (σ : tab) (U : List tab) (un : Nat) (B_ : Int) (sz : Nat) (hlv : lv < 2) (hTW : TW cn t lw) (hTM : TM lv cn t lw g_m) (hKN : KN (cn 2) σ U (g_m 59) (g_m 65) un) (hF1 : ∀ h, h < cn 1 → σ 1 h = t 2 h) (hF2 : σ 18 0 = t 12 2) (hWF : WF cn B_ σ) : Met l yX12_clean (ws_ yX12_clean cX12_clean 1 (some .int)) ({ frames := 6, cells := 0, slots := 0, locals := 140 }) (zPc D Y [.ref (ad_m 0)] sz (wj []) (wj [(mw Y ad_m (sA 64 (fun _ => nI un) (sA 18 (fun _ => nI lv) g_m)) w_m)])) (va_Qi (fun (r : Int32) (u : (Nat → Int32) × (Nat → Int32) × (Nat → Int32) × (Nat → Int32) × (Int32) × (Int32) × (Nat → Int32)) => r = cleanByP cn lw t σ) (zB D (fun (u : (Nat → Int32) × (Nat → Int32) × (Nat → Int32) × (Nat → Int32) × (Int32) × (Int32) × (Nat → Int32)) => (wj [(mw Y ad_m (sA 64 (fun _ => nI un) (sA 63 u.2.1 (sA 62 u.2.2.2.2.2.2 (sA 61 (fun _ => u.2.2.2.2.2.1) (sA 60 u.1 (sA 58 (fun _ => u.2.2.2.2.1) (sA 57 u.2.2.2.1 (sA 56 u.2.2.1 (sA 18 (fun _ => nI lv) g_m))))))))) w_m)])) (va_A (wj [(mw Y ad_m (sA 64 (fun _ => nI un) (sA 18 (fun _ => nI lv) g_m)) w_m)]) sz)) (va_A (wj [(mw Y ad_m (sA 64 (fun _ => nI un) (sA 18 (fun _ => nI lv) g_m)) w_m)]) sz)) 0 0 (va_A (wj [(mw Y ad_m (sA 64 (fun _ => nI un) (sA 18 (fun _ => nI lv) g_m)) w_m)]) sz) := by
  refine Met.ofW (cc := cX12_clean) (maxL := 1) (ret := (some .int)) (by decide) rfl ?_
  intro p e s m args below meth c s₁ B hml hv
  obtain ⟨rfl, hsz, hW, hR, hK, hA⟩ := zEntry hv
  subst hsz
  have hx := B.exec
  have hb := B.bytes
  have hr := B.returns
  have hlocks := B.notSynchronized
  have hts : ∀ w ∈ lw_all, w.before _ s = true := fun w h => atoms_spec (ws := (ws_ yX12_clean cX12_clean 1 (some .int))) B.pre w (List.mem_cons_of_mem _ h)
  have hown : s.vm.findClass RX12 = some m.cls := findClass_of_methodNamed B.named
  generalize hAe : va_A (wj [(mw Y ad_m (sA 64 (fun _ => nI un) (sA 18 (fun _ => nI lv) g_m)) w_m)]) s.heap.size = A at hW hR hA ⊢
  have hl := lv_entry ([.ref (ad_m 0)]) (n := 1) (Nat.le_of_ble_eq_true rfl)
  rw [lg_entry_eq]
  generalize (lg_sl ([.ref (ad_m 0)]) ++ List.replicate (1 - (lg_sl ([.ref (ad_m 0)])).length) Slot.unset).toArray = ls at hl ⊢
  have hl : lv_has ls 1 [(0, .ref (ad_m 0))] := hl
  have hk8 := hTW.n2
  have hk6 := hTW.n1
  have hk60 := hTW.n0
  have hk5 := hTW.n3
  refine lv_aload_n hx hb dX12_clean_0 rfl (lv_at hl 0 rfl) ?_
  refine z_callv (wc := wj [(mw Y ad_m (sA 64 (fun _ => nI un) (sA 18 (fun _ => nI lv) g_m)) w_m)]) (wr := wj []) (va_runV (As := []) (rest := []) ⟨hx, hb, hml, hown, hts⟩ (m_X12_copies l D Y ad_m (sA 64 (fun _ => nI un) (sA 18 (fun _ => nI lv) g_m)) w_m lv cn t lw σ s.heap.size (show lv < 2 from by exact hlv) (show TW cn t lw from by exact hTW) (show TM lv cn t lw (sA 64 (fun _ => nI un) (sA 18 (fun _ => nI lv) g_m)) from by exact hTM) (show MR (cn 2) σ (g_m 59) from by exact hKN.mr) (show ∀ h, h < cn 1 → σ 1 h = t 2 h from by exact hF1) (show σ 18 0 = t 12 2 from by exact hF2)) (cwV 0 hts (lw_V q2020 q2022 qs86 q133 q2023) rfl rfl rfl (by decide +kernel) ⟨Nat.le_of_ble_eq_true rfl, Nat.le_of_ble_eq_true rfl⟩) (zPreV hK hW hR (wj_split3 (B := [(mw Y ad_m (sA 64 (fun _ => nI un) (sA 18 (fun _ => nI lv) g_m)) w_m)]) (R := []) (C := [(mw Y ad_m (sA 64 (fun _ => nI un) (sA 18 (fun _ => nI lv) g_m)) w_m)]) (O := []) (X := []) (List.Perm.refl _)) (va_recv hK.1 hW.1 (ci := 11) (q0 := 0) rfl rfl)) rfl rfl hl.1 rfl (lv_room (Nat.le_of_ble_eq_true rfl)) dX12_clean_1 ⟨Nat.le_refl _, Nat.le_refl _⟩) hW hA (wj_split (B := [(mw Y ad_m (sA 64 (fun _ => nI un) (sA 18 (fun _ => nI lv) g_m)) w_m)]) (C := [(mw Y ad_m (sA 64 (fun _ => nI un) (sA 18 (fun _ => nI lv) g_m)) w_m)]) (R := []) (List.Perm.refl _)) (fun  u H locs hp_2 hW => ?_)
  obtain ⟨urow_3, ulots_4, ufarNow_5⟩ := u
  have hp_2 : RS cn σ urow_3 ufarNow_5 ulots_4 := hp_2
  have hW : zW D A s.heap H locs (wj [(mw Y ad_m (sA 64 (fun _ => nI un) (sA 62 ufarNow_5 (sA 61 (fun _ => ulots_4) (sA 60 urow_3 (sA 18 (fun _ => nI lv) g_m))))) w_m)]) := hW.join
  refine lv_aload_n hx hb dX12_clean_4 rfl (lv_at hl 0 rfl) ?_
  refine z_calli (wc := wj [(mw Y ad_m (sA 64 (fun _ => nI un) (sA 62 ufarNow_5 (sA 61 (fun _ => ulots_4) (sA 60 urow_3 (sA 18 (fun _ => nI lv) g_m))))) w_m)]) (wr := wj []) (va_runV (As := []) (rest := []) ⟨hx, hb, hml, hown, hts⟩ (m_X12_cleanBy l D Y ad_m (sA 64 (fun _ => nI un) (sA 62 ufarNow_5 (sA 61 (fun _ => ulots_4) (sA 60 urow_3 (sA 18 (fun _ => nI lv) g_m))))) w_m lv cn t lw σ B_ H.size (show lv < 2 from by exact hlv) (show TW cn t lw from by exact hTW) (show TM lv cn t lw (sA 64 (fun _ => nI un) (sA 62 ufarNow_5 (sA 61 (fun _ => ulots_4) (sA 60 urow_3 (sA 18 (fun _ => nI lv) g_m))))) from by exact hTM) (show RS cn σ urow_3 ufarNow_5 ulots_4 from by exact hp_2) (show WF cn B_ σ from by exact hWF)) (cwV 0 hts (lw_V q2150 q2152 qs103 q133 q2153) rfl rfl rfl (by decide +kernel) ⟨Nat.le_of_ble_eq_true rfl, Nat.le_of_ble_eq_true rfl⟩) (zPreV hK hW hR (wj_split3 (B := [(mw Y ad_m (sA 64 (fun _ => nI un) (sA 62 ufarNow_5 (sA 61 (fun _ => ulots_4) (sA 60 urow_3 (sA 18 (fun _ => nI lv) g_m))))) w_m)]) (R := []) (C := [(mw Y ad_m (sA 64 (fun _ => nI un) (sA 62 ufarNow_5 (sA 61 (fun _ => ulots_4) (sA 60 urow_3 (sA 18 (fun _ => nI lv) g_m))))) w_m)]) (O := []) (X := []) (List.Perm.refl _)) (va_recv hK.1 hW.1 (ci := 11) (q0 := 0) rfl rfl)) rfl rfl hl.1 rfl (lv_room (Nat.le_of_ble_eq_true rfl)) dX12_clean_5 ⟨Nat.le_refl _, Nat.le_refl _⟩) hW hA (wj_split (B := [(mw Y ad_m (sA 64 (fun _ => nI un) (sA 62 ufarNow_5 (sA 61 (fun _ => ulots_4) (sA 60 urow_3 (sA 18 (fun _ => nI lv) g_m))))) w_m)]) (C := [(mw Y ad_m (sA 64 (fun _ => nI un) (sA 62 ufarNow_5 (sA 61 (fun _ => ulots_4) (sA 60 urow_3 (sA 18 (fun _ => nI lv) g_m))))) w_m)]) (R := []) (List.Perm.refl _)) (fun r_6 u H locs hp_7 hW => ?_)
  obtain ⟨urow_8, uisLoaded_9, uvariables_10, upile_11, uisBroken_12⟩ := u
  have hp_7 : r_6 = cleanByP cn lw t σ ∧ True := hp_7
  have hW : zW D A s.heap H locs (wj [(mw Y ad_m (sA 64 (fun _ => nI un) (sA 63 uisLoaded_9 (sA 62 ufarNow_5 (sA 61 (fun _ => ulots_4) (sA 60 urow_8 (sA 58 (fun _ => uisBroken_12) (sA 57 upile_11 (sA 56 uvariables_10 (sA 18 (fun _ => nI lv) g_m))))))))) w_m)]) := hW.join
  refine z_ireti ((urow_8, uisLoaded_9, uvariables_10, upile_11, uisBroken_12, ulots_4, ufarNow_5) : (Nat → Int32) × (Nat → Int32) × (Nat → Int32) × (Nat → Int32) × (Int32) × (Int32) × (Nat → Int32)) hx hb hr hlocks rfl hW rfl dX12_clean_8 ?_
  show r_6 = cleanByP cn lw t σ
  exact hp_7.1
