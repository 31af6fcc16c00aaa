/-! the model: merchants sold to, what would be -/
set_option maxRecDepth 100000
set_option maxHeartbeats 4000000 in
set_option maxRecDepth 100000 in
theorem m_X12_isLong (l : Launch) (D : va_G) (Y : Nat → ClassId)  (v : Int32) (sz : Nat) : Met l yX12_isLong (ws_ yX12_isLong cX12_isLong 1 (some .boolean)) ({ frames := 2, cells := 0, slots := 0, locals := 34 }) (zPc D Y [.int v] sz (wj []) (wj [])) (va_Qi (fun (r : Int32) (u : Unit) => r = zb (inP v 0 600)) (zB D (fun (u : Unit) => (wj [])) (va_A (wj []) sz)) (va_A (wj []) sz)) 0 0 (va_A (wj []) sz) := by
  refine Met.ofW (cc := cX12_isLong) (maxL := 1) (ret := (some .boolean)) (by decide) rfl ?_
  intro p e s m args below meth c s₁ B hml hv
  obtain ⟨rfl, hsz, hW, hR, hK, hA⟩ := zEntry hv
  subst hsz
  have hx := B.exec
  have hb := B.bytes
  have hr := B.returns
  have hlocks := B.notSynchronized
  have hts : ∀ w ∈ lw_all, w.before _ s = true := fun w h => atoms_spec (ws := (ws_ yX12_isLong cX12_isLong 1 (some .boolean))) B.pre w (List.mem_cons_of_mem _ h)
  have hown : s.vm.findClass RX12 = some m.cls := findClass_of_methodNamed B.named
  generalize hAe : va_A (wj []) s.heap.size = A at hW hR hA ⊢
  have hl := lv_entry ([.int v]) (n := 1) (Nat.le_of_ble_eq_true rfl)
  rw [lg_entry_eq]
  generalize (lg_sl ([.int v]) ++ List.replicate (1 - (lg_sl ([.int v])).length) Slot.unset).toArray = ls at hl ⊢
  have hl : lv_has ls 1 [(0, .int v)] := hl
  refine lv_iload_n hx hb dX12_isLong_0 rfl (lv_at hl 0 rfl) ?_
  refine lv_iconst (v := 0) hx hb dX12_isLong_1 (by decide) ?_
  refine lv_sipush (v := 600) hx hb dX12_isLong_2 (by decide) ?_
  refine z_calli (wc := wj []) (wr := wj []) (va_runS (As := [.int v, .int 0, .int 600]) (rest := []) ⟨hx, hb, hml, hown, hts⟩ (m_X12_in l D Y v 0 600 s.heap.size) (va_cwS 3 hts (lw_S q1997 q1998 q133 q1999) rfl rfl rfl (by decide +kernel) ⟨Nat.le_of_ble_eq_true rfl, Nat.le_of_ble_eq_true rfl⟩) (zPre hK hW hR (wj_split3 (B := []) (R := []) (C := []) (O := []) (X := []) (List.Perm.refl _))) rfl rfl hl.1 rfl (lv_room (Nat.le_of_ble_eq_true rfl)) dX12_isLong_5 ⟨Nat.le_refl _, Nat.le_refl _⟩) hW hA (wj_split (B := []) (C := []) (R := []) (List.Perm.refl _)) (fun r_1 u H locs hp_2 hW => ?_)
  have hp_2 : r_1 = zb (¬ v < 0 ∧ ¬ 600 < v) := hp_2
  have hW : zW D A s.heap H locs (wj []) := hW.join
  refine z_ireti (() : Unit) hx hb hr hlocks (zb_nar hp_2) hW rfl dX12_isLong_8 ?_
  show r_1 = zb (inP v 0 600)
  rw [hp_2]; exact zb_congr (by exact Iff.rfl)
set_option maxHeartbeats 4000000 in
set_option maxRecDepth 100000 in
theorem m_X12_sell (l : Launch) (D : va_G) (Y : Nat → ClassId) (ad_m : Nat → Nat) (g_m : Nat → Nat → Int32) (w_m : Nat → Nat → Int64) (lv : Nat) (cn : Nat → Nat) (t : tab) (lw : Nat → Option LAW) (σ : tab) (U : List tab) (un : Nat) (B_ : Int) (mx : Int32) (sz : Nat) (hlv : lv < 2) (hTW : TW cn t lw) (hTM : TM lv cn t lw g_m) (hKN : KN (cn 2) σ U (g_m 59) (g_m 65) un) (hF1 : ∀ h, h < cn 1 → σ 1 h = t 2 h) (hF2 : σ 18 0 = t 12 2) (hWF : WF cn B_ σ) : Met l yX12_sell (ws_ yX12_sell cX12_sell 6 (some .boolean)) ({ frames := 3, cells := 0, slots := 0, locals := 61 }) (zPc D Y [.ref (ad_m 0), .int mx] sz (wj []) (wj [(mw Y ad_m (sA 64 (fun _ => nI un) (sA 18 (fun _ => nI lv) g_m)) w_m)])) (va_Qi (fun (r : Int32) (u : (Nat → Int32) × (Nat → Int32) × (Nat) × (Nat → Int32) × (Int32) × (Nat → Int32)) => r = (sellO cn t σ U mx).1 ∧ KN (cn 2) (sellO cn t σ U mx).2.1 (sellO cn t σ U mx).2.2 u.1 u.2.1 u.2.2.1) (zB D (fun (u : (Nat → Int32) × (Nat → Int32) × (Nat) × (Nat → Int32) × (Int32) × (Nat → Int32)) => (wj [(mw Y ad_m (sA 65 u.2.1 (sA 64 (fun _ => nI u.2.2.1) (sA 62 u.2.2.2.2.2 (sA 61 (fun _ => u.2.2.2.2.1) (sA 60 u.2.2.2.1 (sA 59 u.1 (sA 18 (fun _ => nI lv) g_m))))))) w_m)])) (va_A (wj [(mw Y ad_m (sA 64 (fun _ => nI un) (sA 18 (fun _ => nI lv) g_m)) w_m)]) sz)) (va_A (wj [(mw Y ad_m (sA 64 (fun _ => nI un) (sA 18 (fun _ => nI lv) g_m)) w_m)]) sz)) 0 0 (va_A (wj [(mw Y ad_m (sA 64 (fun _ => nI un) (sA 18 (fun _ => nI lv) g_m)) w_m)]) sz) := by
  refine Met.ofW (cc := cX12_sell) (maxL := 6) (ret := (some .boolean)) (by decide) rfl ?_
  intro p e s m args below meth c s₁ B hml hv
  obtain ⟨rfl, hsz, hW, hR, hK, hA⟩ := zEntry hv
  subst hsz
  have hx := B.exec
  have hb := B.bytes
  have hr := B.returns
  have hlocks := B.notSynchronized
  have hts : ∀ w ∈ lw_all, w.before _ s = true := fun w h => atoms_spec (ws := (ws_ yX12_sell cX12_sell 6 (some .boolean))) B.pre w (List.mem_cons_of_mem _ h)
  have hown : s.vm.findClass RX12 = some m.cls := findClass_of_methodNamed B.named
  generalize hAe : va_A (wj [(mw Y ad_m (sA 64 (fun _ => nI un) (sA 18 (fun _ => nI lv) g_m)) w_m)]) s.heap.size = A at hW hR hA ⊢
  have hl := lv_entry ([.ref (ad_m 0), .int mx]) (n := 6) (Nat.le_of_ble_eq_true rfl)
  rw [lg_entry_eq]
  generalize (lg_sl ([.ref (ad_m 0), .int mx]) ++ List.replicate (6 - (lg_sl ([.ref (ad_m 0), .int mx])).length) Slot.unset).toArray = ls at hl ⊢
  have hl : lv_has ls 6 [(0, .ref (ad_m 0)), (1, .int mx)] := hl
  have hk8 := hTW.n2
  have hk6 := hTW.n1
  have hk60 := hTW.n0
  have hk5 := hTW.n3
  refine lv_iload_n hx hb dX12_sell_0 rfl (lv_at hl 1 rfl) ?_
  refine lv_iconst (v := 0) hx hb dX12_sell_1 (by decide) ?_
  refine lv_aload_n hx hb dX12_sell_2 rfl (lv_at hl 0 rfl) ?_
  refine va_get (v := .ref (ad_m 35)) (C := RX12) (T := TX12) (N := 75) (ci := 11) hx hb hts in_X12 hown hK.1 hW.1 0 rfl rfl 35 (by decide) (hts _ q1671) (fun _ h9 => h9) rfl dX12_sell_3 ?_
  refine lv_aload_n hx hb dX12_sell_6 rfl (lv_at hl 0 rfl) ?_
  refine va_get (v := .int (nI lv)) (C := RX12) (T := TX12) (N := 75) (ci := 11) hx hb hts in_X12 hown hK.1 hW.1 0 rfl rfl 18 (by decide) (hts _ q1654) (fun _ h9 => h9) rfl dX12_sell_7 ?_
  refine z_iald (v := nI (cn 3)) (f := g_m 35) (j := lv) hx hb hK.1 hW.1 22 0 rfl rfl (vp_in_nI (n := lv) (by omega) (by decide)) (nI_clamp (n := lv) (by omega)) (TM.c35 hTM) dX12_sell_10 ?_
  refine lv_iconst (v := 1) hx hb dX12_sell_11 (by decide) ?_
  refine lv_isub hx hb dX12_sell_12 ?_
  refine z_calli (wc := wj []) (wr := wj [(mw Y ad_m (sA 64 (fun _ => nI un) (sA 18 (fun _ => nI lv) g_m)) w_m)]) (va_runS (As := [.int mx, .int 0, .int ((nI (cn 3)) - 1)]) (rest := []) ⟨hx, hb, hml, hown, hts⟩ (m_X12_in l D Y mx 0 ((nI (cn 3)) - 1) s.heap.size) (va_cwS 3 hts (lw_S q1997 q1998 q133 q1999) rfl rfl rfl (by decide +kernel) ⟨Nat.le_of_ble_eq_true rfl, Nat.le_of_ble_eq_true rfl⟩) (zPre hK hW hR (wj_split3 (B := [(mw Y ad_m (sA 64 (fun _ => nI un) (sA 18 (fun _ => nI lv) g_m)) w_m)]) (R := []) (C := []) (O := []) (X := [(mw Y ad_m (sA 64 (fun _ => nI un) (sA 18 (fun _ => nI lv) g_m)) w_m)]) (List.Perm.refl _))) rfl rfl hl.1 rfl (lv_room (Nat.le_of_ble_eq_true rfl)) dX12_sell_13 ⟨Nat.le_refl _, Nat.le_refl _⟩) hW hA (wj_split (B := [(mw Y ad_m (sA 64 (fun _ => nI un) (sA 18 (fun _ => nI lv) g_m)) w_m)]) (C := []) (R := [(mw Y ad_m (sA 64 (fun _ => nI un) (sA 18 (fun _ => nI lv) g_m)) w_m)]) (List.Perm.refl _)) (fun r_1 u H locs hp_2 hW => ?_)
  have hp_2 : r_1 = zb (¬ mx < 0 ∧ ¬ ((nI (cn 3)) - 1) < mx) := hp_2
  have hW : zW D A s.heap H locs (wj [(mw Y ad_m (sA 64 (fun _ => nI un) (sA 18 (fun _ => nI lv) g_m)) w_m)]) := hW.join
  refine lv_if_eq (tgt := 34) hx hb dX12_sell_16 (by decide) (fun c_3 => ?_) (fun c_3 => ?_)
  · have c_3 : ¬ (¬ mx < 0 ∧ ¬ ((nI (cn 3)) - 1) < mx) := zb_eq hp_2 c_3
    refine lv_iconst (v := 0) hx hb dX12_sell_34 (by decide) ?_
    refine z_ireti ((g_m 59, g_m 65, un, g_m 60, g_m 61 0, g_m 62) : (Nat → Int32) × (Nat → Int32) × (Nat) × (Nat → Int32) × (Int32) × (Nat → Int32)) hx hb hr hlocks rfl hW rfl dX12_sell_35 ?_
    show 0 = (sellO cn t σ U mx).1 ∧ KN (cn 2) (sellO cn t σ U mx).2.1 (sellO cn t σ U mx).2.2 (g_m 59) (g_m 65) un
    have e : sellO cn t σ U mx = _ := zi_f (by first | (intro hq; exact absurd hq.1 (fun q => absurd ((vp_iff (by omega)).mp q) (by assumption))) | (intro hq; apply hq.2.1; unfold bitP; rw [cmn]; assumption) | (rw [hset]; intro hq; exact absurd hq.2.2 (by assumption))) _ _
    rw [e]
    exact ⟨rfl, hKN⟩
  · have c_3 : ¬ mx < 0 ∧ ¬ ((nI (cn 3)) - 1) < mx := zb_ne hp_2 c_3
    have hvp := (vp_iff (by omega)).mpr c_3
    obtain ⟨mn, hmn, emn⟩ := vp_in_of hvp (by omega)
    have cmn : mx.toNatClampNeg = mn := by rw [emn]; exact nI_clamp (by omega)
    have hset : setOf mx = 1 <<< (nI mn &&& 31) := by unfold setOf; rw [emn]
    refine lv_aload_n hx hb dX12_sell_19 rfl (lv_at hl 0 rfl) ?_
    refine va_get (v := .ref (ad_m 59)) (C := RX12) (T := TX12) (N := 75) (ci := 11) hx hb hts in_X12 hown hK.1 hW.1 0 rfl rfl 59 (by decide) (hts _ q1695) (fun _ h9 => h9) rfl dX12_sell_20 ?_
    refine lv_bipush (v := 117) hx hb dX12_sell_23 (by decide) ?_
    refine z_iald (v := σ 16 0) (f := g_m 59) (j := 117) hx hb hK.1 hW.1 42 0 rfl rfl (vp_in_nI (n := 117) (by omega) (by decide)) (by decide) (MR.s16 hKN.mr) dX12_sell_25 ?_
    refine lv_iload_n hx hb dX12_sell_26 rfl (lv_at hl 1 rfl) ?_
    refine lv_topi (nm_r (e' := nI mn) emn ?_)
    refine lv_ishr hx hb dX12_sell_27 ?_
    refine lv_iconst (v := 1) hx hb dX12_sell_28 (by decide) ?_
    refine lv_iand hx hb dX12_sell_29 ?_
    refine lv_iconst (v := 1) hx hb dX12_sell_30 (by decide) ?_
    refine lv_icmp_ne (tgt := 36) hx hb dX12_sell_31 (by decide) (fun c_4 => ?_) (fun c_4 => ?_)
    · refine lv_aload_n hx hb dX12_sell_36 rfl (lv_at hl 0 rfl) ?_
      refine z_callv (wc := wj [(mw Y ad_m (sA 64 (fun _ => nI un) (sA 18 (fun _ => nI lv) g_m)) w_m)]) (wr := wj []) (va_runV (As := []) (rest := []) ⟨hx, hb, hml, hown, hts⟩ (m_X12_copies l D Y ad_m (sA 64 (fun _ => nI un) (sA 18 (fun _ => nI lv) g_m)) w_m lv cn t lw σ H.size (show lv < 2 from by exact hlv) (show TW cn t lw from by exact hTW) (show TM lv cn t lw (sA 64 (fun _ => nI un) (sA 18 (fun _ => nI lv) g_m)) from by exact hTM) (show MR (cn 2) σ (g_m 59) from by exact hKN.mr) (show ∀ h, h < cn 1 → σ 1 h = t 2 h from by exact hF1) (show σ 18 0 = t 12 2 from by exact hF2)) (cwV 0 hts (lw_V q2020 q2022 qs86 q133 q2023) rfl rfl rfl (by decide +kernel) ⟨Nat.le_of_ble_eq_true rfl, Nat.le_of_ble_eq_true rfl⟩) (zPreV hK hW hR (wj_split3 (B := [(mw Y ad_m (sA 64 (fun _ => nI un) (sA 18 (fun _ => nI lv) g_m)) w_m)]) (R := []) (C := [(mw Y ad_m (sA 64 (fun _ => nI un) (sA 18 (fun _ => nI lv) g_m)) w_m)]) (O := []) (X := []) (List.Perm.refl _)) (va_recv hK.1 hW.1 (ci := 11) (q0 := 0) rfl rfl)) rfl rfl hl.1 rfl (lv_room (Nat.le_of_ble_eq_true rfl)) dX12_sell_37 ⟨Nat.le_refl _, Nat.le_refl _⟩) hW hA (wj_split (B := [(mw Y ad_m (sA 64 (fun _ => nI un) (sA 18 (fun _ => nI lv) g_m)) w_m)]) (C := [(mw Y ad_m (sA 64 (fun _ => nI un) (sA 18 (fun _ => nI lv) g_m)) w_m)]) (R := []) (List.Perm.refl _)) (fun  u H locs hp_6 hW => ?_)
      obtain ⟨urow_7, ulots_8, ufarNow_9⟩ := u
      have hp_6 : RS cn σ urow_7 ufarNow_9 ulots_8 := hp_6
      have hW : zW D A s.heap H locs (wj [(mw Y ad_m (sA 64 (fun _ => nI un) (sA 62 ufarNow_9 (sA 61 (fun _ => ulots_8) (sA 60 urow_7 (sA 18 (fun _ => nI lv) g_m))))) w_m)]) := hW.join
      refine lv_aload_n hx hb dX12_sell_40 rfl (lv_at hl 0 rfl) ?_
      refine lv_iconst (v := 1) hx hb dX12_sell_41 (by decide) ?_
      refine lv_iload_n hx hb dX12_sell_42 rfl (lv_at hl 1 rfl) ?_
      refine lv_topi (nm_r (e' := nI mn) emn ?_)
      refine lv_ishl hx hb dX12_sell_43 ?_
      refine z_calli (wc := wj [(mw Y ad_m (sA 64 (fun _ => nI un) (sA 62 ufarNow_9 (sA 61 (fun _ => ulots_8) (sA 60 urow_7 (sA 18 (fun _ => nI lv) g_m))))) w_m)]) (wr := wj []) (va_runV (As := [.int (1 <<< ((nI mn) &&& 31))]) (rest := []) ⟨hx, hb, hml, hown, hts⟩ (m_X12_isEnough l D Y ad_m (sA 64 (fun _ => nI un) (sA 62 ufarNow_9 (sA 61 (fun _ => ulots_8) (sA 60 urow_7 (sA 18 (fun _ => nI lv) g_m))))) w_m lv cn t lw σ (1 <<< ((nI mn) &&& 31)) H.size (show lv < 2 from by exact hlv) (show TW cn t lw from by exact hTW) (show TM lv cn t lw (sA 64 (fun _ => nI un) (sA 62 ufarNow_9 (sA 61 (fun _ => ulots_8) (sA 60 urow_7 (sA 18 (fun _ => nI lv) g_m))))) from by exact hTM) (show RS cn σ urow_7 ufarNow_9 ulots_8 from by exact hp_6)) (cwV 1 hts (lw_V q2118 q2120 qs99 q133 q2121) rfl rfl rfl (by decide +kernel) ⟨Nat.le_of_ble_eq_true rfl, Nat.le_of_ble_eq_true rfl⟩) (zPreV hK hW hR (wj_split3 (B := [(mw Y ad_m (sA 64 (fun _ => nI un) (sA 62 ufarNow_9 (sA 61 (fun _ => ulots_8) (sA 60 urow_7 (sA 18 (fun _ => nI lv) g_m))))) w_m)]) (R := []) (C := [(mw Y ad_m (sA 64 (fun _ => nI un) (sA 62 ufarNow_9 (sA 61 (fun _ => ulots_8) (sA 60 urow_7 (sA 18 (fun _ => nI lv) g_m))))) w_m)]) (O := []) (X := []) (List.Perm.refl _)) (va_recv hK.1 hW.1 (ci := 11) (q0 := 0) rfl rfl)) rfl rfl hl.1 rfl (lv_room (Nat.le_of_ble_eq_true rfl)) dX12_sell_44 ⟨Nat.le_refl _, Nat.le_refl _⟩) hW hA (wj_split (B := [(mw Y ad_m (sA 64 (fun _ => nI un) (sA 62 ufarNow_9 (sA 61 (fun _ => ulots_8) (sA 60 urow_7 (sA 18 (fun _ => nI lv) g_m))))) w_m)]) (C := [(mw Y ad_m (sA 64 (fun _ => nI un) (sA 62 ufarNow_9 (sA 61 (fun _ => ulots_8) (sA 60 urow_7 (sA 18 (fun _ => nI lv) g_m))))) w_m)]) (R := []) (List.Perm.refl _)) (fun r_10 u H locs hp_11 hW => ?_)
      have hp_11 : r_10 = zb (enoughP cn t σ (1 <<< ((nI mn) &&& 31))) := hp_11
      have hW : zW D A s.heap H locs (wj [(mw Y ad_m (sA 64 (fun _ => nI un) (sA 62 ufarNow_9 (sA 61 (fun _ => ulots_8) (sA 60 urow_7 (sA 18 (fun _ => nI lv) g_m))))) w_m)]) := hW.join
      refine lv_if_ne (tgt := 52) hx hb dX12_sell_47 (by decide) (fun c_12 => ?_) (fun c_12 => ?_)
      · have c_12 : enoughP cn t σ (1 <<< ((nI mn) &&& 31)) := zb_ne hp_11 c_12
        refine lv_iconst (v := 0) hx hb dX12_sell_52 (by decide) ?_
        refine lv_istore_n (lv' := [(2, .int 0), (0, .ref (ad_m 0)), (1, .int mx)]) hx hb dX12_sell_53 rfl hl (by decide) rfl (fun ls hl => ?_)
        have loop_54 : ∀ (n : Nat) (gg : Nat) (x_row_54 : Nat → Int32) (τ : tab), 6 - gg < n → (gg ≤ 6) → (outsTo cn t σ (setOf mx) gg = τ) → (RS cn τ x_row_54 ufarNow_9 ulots_8) → ∀ (H : Heap) (locs : List Loc), zW D A s.heap H locs (wj [(mw Y ad_m (sA 64 (fun _ => nI un) (sA 62 ufarNow_9 (sA 61 (fun _ => ulots_8) (sA 60 x_row_54 (sA 18 (fun _ => nI lv) g_m))))) w_m)]) → ∀ (ls : Array Slot), lv_has ls 6 [(2, .int (nI gg)), (0, .ref (ad_m 0)), (1, .int mx)] → W p l e (headSpec (ws_ yX12_sell cX12_sell 6 (some .boolean)) ({ frames := 3, cells := 0, slots := 0, locals := 61 })).room s m ([.ref (ad_m 0), .int mx] : List Value).toArray below meth c H locs 0 0 (MQ below (va_Qi (fun (r : Int32) (u : (Nat → Int32) × (Nat → Int32) × (Nat) × (Nat → Int32) × (Int32) × (Nat → Int32)) => r = (sellO cn t σ U mx).1 ∧ KN (cn 2) (sellO cn t σ U mx).2.1 (sellO cn t σ U mx).2.2 u.1 u.2.1 u.2.2.1) (zB D (fun (u : (Nat → Int32) × (Nat → Int32) × (Nat) × (Nat → Int32) × (Int32) × (Nat → Int32)) => (wj [(mw Y ad_m (sA 65 u.2.1 (sA 64 (fun _ => nI u.2.2.1) (sA 62 u.2.2.2.2.2 (sA 61 (fun _ => u.2.2.2.2.1) (sA 60 u.2.2.2.1 (sA 59 u.1 (sA 18 (fun _ => nI lv) g_m))))))) w_m)])) A) A) ([.ref (ad_m 0), .int mx] : List Value).toArray s 0 0 A) (F0 m 54 ls []) := by
          intro n
          induction n with
          | zero =>
            intro gg x_row_54 τ hmz
            exact absurd hmz (Nat.not_lt_zero _)
          | succ n ih =>
            intro gg x_row_54 τ hm_54 hi hτ hRSr H locs hW ls hl
            have ih_54 := ih
            clear ih
            refine lv_iload_n hx hb dX12_sell_54 rfl (lv_at hl 0 rfl) ?_
            refine lv_bipush (v := 6) hx hb dX12_sell_55 (by decide) ?_
            refine lv_icmp_ge (tgt := 185) hx hb dX12_sell_57 (by decide) (fun c_13 => ?_) (fun c_13 => ?_)
            · have c_13 : 6 ≤ gg := (nI_leI (a := 6) (b := gg) (by omega) (by omega)).mp c_13
              refine lv_aload_n hx hb dX12_sell_185 rfl (lv_at hl 1 rfl) ?_
              refine va_get (v := .ref (ad_m 60)) (C := RX12) (T := TX12) (N := 75) (ci := 11) hx hb hts in_X12 hown hK.1 hW.1 0 rfl rfl 60 (by decide) (hts _ q1696) (fun _ h9 => h9) rfl dX12_sell_186 ?_
              refine lv_bipush (v := 116) hx hb dX12_sell_189 (by decide) ?_
              refine lv_dup2_11 hx hb dX12_sell_191 rfl rfl ?_
              refine z_iald (v := τ 15 0) (f := x_row_54) (j := 116) hx hb hK.1 hW.1 43 0 rfl rfl (vp_in_nI (n := 116) (by omega) (by decide)) (by decide) (MR.s15 hRSr.1) dX12_sell_192 ?_
              refine lv_aload_n hx hb dX12_sell_193 rfl (lv_at hl 1 rfl) ?_
              refine va_get (v := .ref (ad_m 36)) (C := RX12) (T := TX12) (N := 75) (ci := 11) hx hb hts in_X12 hown hK.1 hW.1 0 rfl rfl 36 (by decide) (hts _ q1672) (fun _ h9 => h9) rfl dX12_sell_194 ?_
              refine lv_iconst (v := 5) hx hb dX12_sell_197 (by decide) ?_
              refine lv_aload_n hx hb dX12_sell_198 rfl (lv_at hl 1 rfl) ?_
              refine va_get (v := .int (nI lv)) (C := RX12) (T := TX12) (N := 75) (ci := 11) hx hb hts in_X12 hown hK.1 hW.1 0 rfl rfl 18 (by decide) (hts _ q1654) (fun _ h9 => h9) rfl dX12_sell_199 ?_
              refine lv_imul hx hb dX12_sell_202 ?_
              refine lv_topi (nm_r (e' := nI (5 * lv)) (pk_mul 5 lv) ?_)
              refine lv_iload_n hx hb dX12_sell_203 rfl (lv_at hl 2 rfl) ?_
              refine lv_topi (nm_r (e' := nI mn) emn ?_)
              refine lv_iadd hx hb dX12_sell_204 ?_
              refine lv_topi (nm_r (e' := nI (5 * lv + mn)) (nI_add (5 * lv) mn) ?_)
              refine z_iald (v := t 8 mn) (f := g_m 36) (j := 5 * lv + mn) hx hb hK.1 hW.1 23 0 rfl rfl (vp_in_nI (n := 5 * lv + mn) (by omega) (by decide)) (nI_clamp (n := 5 * lv + mn) (by omega)) (TM.c36 hTM (j := mn) (by omega)) dX12_sell_205 ?_
              refine lv_iadd hx hb dX12_sell_206 ?_
              refine z_iast (x := (τ 15 0) + (t 8 mn)) (f := x_row_54) (j := 116) (wn := (wj [(mw Y ad_m (sA 64 (fun _ => nI un) (sA 62 ufarNow_9 (sA 61 (fun _ => ulots_8) (sA 60 (upd x_row_54 116 ((τ 15 0) + (t 8 mn))) (sA 18 (fun _ => nI lv) g_m))))) w_m)])) hx hb hK.1 hW 43 0 rfl rfl (vp_in_nI (n := 116) (by omega) (by decide)) (by decide) dX12_sell_207 rfl (fun H locs hW => ?_)
              refine lv_aload_n hx hb dX12_sell_208 rfl (lv_at hl 1 rfl) ?_
              refine va_get (v := .ref (ad_m 60)) (C := RX12) (T := TX12) (N := 75) (ci := 11) hx hb hts in_X12 hown hK.1 hW.1 0 rfl rfl 60 (by decide) (hts _ q1696) (fun _ h9 => h9) rfl dX12_sell_209 ?_
              refine lv_bipush (v := 117) hx hb dX12_sell_212 (by decide) ?_
              refine lv_dup2_11 hx hb dX12_sell_214 rfl rfl ?_
              refine z_iald (v := τ 16 0) (f := upd x_row_54 116 ((τ 15 0) + (t 8 mn))) (j := 117) hx hb hK.1 hW.1 43 0 rfl rfl (vp_in_nI (n := 117) (by omega) (by decide)) (by decide) (Eq.trans (pk_un (by omega)) (MR.s16 hRSr.1)) dX12_sell_215 ?_
              refine lv_iconst (v := 1) hx hb dX12_sell_216 (by decide) ?_
              refine lv_iload_n hx hb dX12_sell_217 rfl (lv_at hl 2 rfl) ?_
              refine lv_topi (nm_r (e' := nI mn) emn ?_)
              refine lv_ishl hx hb dX12_sell_218 ?_
              refine lv_ior hx hb dX12_sell_219 ?_
              refine z_iast (x := (τ 16 0) ||| (1 <<< ((nI mn) &&& 31))) (f := upd x_row_54 116 ((τ 15 0) + (t 8 mn))) (j := 117) (wn := (wj [(mw Y ad_m (sA 64 (fun _ => nI un) (sA 62 ufarNow_9 (sA 61 (fun _ => ulots_8) (sA 60 (upd (upd x_row_54 116 ((τ 15 0) + (t 8 mn))) 117 ((τ 16 0) ||| (1 <<< ((nI mn) &&& 31)))) (sA 18 (fun _ => nI lv) g_m))))) w_m)])) hx hb hK.1 hW 43 0 rfl rfl (vp_in_nI (n := 117) (by omega) (by decide)) (by decide) dX12_sell_220 rfl (fun H locs hW => ?_)
              refine lv_aload_n hx hb dX12_sell_221 rfl (lv_at hl 1 rfl) ?_
              refine z_callv (wc := wj [(mw Y ad_m (sA 64 (fun _ => nI un) (sA 62 ufarNow_9 (sA 61 (fun _ => ulots_8) (sA 60 (upd (upd x_row_54 116 ((τ 15 0) + (t 8 mn))) 117 ((τ 16 0) ||| (1 <<< ((nI mn) &&& 31)))) (sA 18 (fun _ => nI lv) g_m))))) w_m)]) (wr := wj []) (va_runV (As := []) (rest := []) ⟨hx, hb, hml, hown, hts⟩ (m_X12_keeps l D Y ad_m (sA 64 (fun _ => nI un) (sA 62 ufarNow_9 (sA 61 (fun _ => ulots_8) (sA 60 (upd (upd x_row_54 116 ((τ 15 0) + (t 8 mn))) 117 ((τ 16 0) ||| (1 <<< ((nI mn) &&& 31)))) (sA 18 (fun _ => nI lv) g_m))))) w_m un (cn 2) σ (sS 16 ((τ 16 0) ||| (1 <<< ((nI mn) &&& 31))) (sS 15 ((τ 15 0) + (t 8 mn)) τ)) U H.size (show (cn 2) ≤ 8 from by exact hk8) (show KN (cn 2) σ U (g_m 59) (g_m 65) un from by exact hKN) (show MR (cn 2) (sS 16 ((τ 16 0) ||| (1 <<< ((nI mn) &&& 31))) (sS 15 ((τ 15 0) + (t 8 mn)) τ)) (upd (upd x_row_54 116 ((τ 15 0) + (t 8 mn))) 117 ((τ 16 0) ||| (1 <<< ((nI mn) &&& 31)))) from by exact ((RS.mk' hRSr (MR.v16 hk8 (MR.v15 hk8 hRSr.1 ((τ 15 0) + (t 8 mn))) ((τ 16 0) ||| (1 <<< ((nI mn) &&& 31)))) (by rw [sS_ne (by omega), sS_ne (by omega)]) (by rw [sS_ne (by omega), sS_ne (by omega)]))).1)) (cwV 0 hts (lw_V q2078 q2080 qs96 q133 q2081) rfl rfl rfl (by decide +kernel) ⟨Nat.le_of_ble_eq_true rfl, Nat.le_of_ble_eq_true rfl⟩) (zPreV hK hW hR (wj_split3 (B := [(mw Y ad_m (sA 64 (fun _ => nI un) (sA 62 ufarNow_9 (sA 61 (fun _ => ulots_8) (sA 60 (upd (upd x_row_54 116 ((τ 15 0) + (t 8 mn))) 117 ((τ 16 0) ||| (1 <<< ((nI mn) &&& 31)))) (sA 18 (fun _ => nI lv) g_m))))) w_m)]) (R := []) (C := [(mw Y ad_m (sA 64 (fun _ => nI un) (sA 62 ufarNow_9 (sA 61 (fun _ => ulots_8) (sA 60 (upd (upd x_row_54 116 ((τ 15 0) + (t 8 mn))) 117 ((τ 16 0) ||| (1 <<< ((nI mn) &&& 31)))) (sA 18 (fun _ => nI lv) g_m))))) w_m)]) (O := []) (X := []) (List.Perm.refl _)) (va_recv hK.1 hW.1 (ci := 11) (q0 := 0) rfl rfl)) rfl rfl hl.1 rfl (lv_room (Nat.le_of_ble_eq_true rfl)) dX12_sell_222 ⟨Nat.le_refl _, Nat.le_refl _⟩) hW hA (wj_split (B := [(mw Y ad_m (sA 64 (fun _ => nI un) (sA 62 ufarNow_9 (sA 61 (fun _ => ulots_8) (sA 60 (upd (upd x_row_54 116 ((τ 15 0) + (t 8 mn))) 117 ((τ 16 0) ||| (1 <<< ((nI mn) &&& 31)))) (sA 18 (fun _ => nI lv) g_m))))) w_m)]) (C := [(mw Y ad_m (sA 64 (fun _ => nI un) (sA 62 ufarNow_9 (sA 61 (fun _ => ulots_8) (sA 60 (upd (upd x_row_54 116 ((τ 15 0) + (t 8 mn))) 117 ((τ 16 0) ||| (1 <<< ((nI mn) &&& 31)))) (sA 18 (fun _ => nI lv) g_m))))) w_m)]) (R := []) (List.Perm.refl _)) (fun  u H locs hp_15 hW => ?_)
              obtain ⟨unow_16, uhistory_17, uundos_18⟩ := u
              have hp_15 : KN (cn 2) (sS 16 ((τ 16 0) ||| (1 <<< ((nI mn) &&& 31))) (sS 15 ((τ 15 0) + (t 8 mn)) τ)) (pushU U σ) unow_16 uhistory_17 uundos_18 := hp_15
              have hW : zW D A s.heap H locs (wj [(mw Y ad_m (sA 65 uhistory_17 (sA 64 (fun _ => nI uundos_18) (sA 62 ufarNow_9 (sA 61 (fun _ => ulots_8) (sA 60 (upd (upd x_row_54 116 ((τ 15 0) + (t 8 mn))) 117 ((τ 16 0) ||| (1 <<< ((nI mn) &&& 31)))) (sA 59 unow_16 (sA 18 (fun _ => nI lv) g_m))))))) w_m)]) := hW.join
              refine lv_iconst (v := 1) hx hb dX12_sell_225 (by decide) ?_
              refine z_ireti ((unow_16, uhistory_17, uundos_18, upd (upd x_row_54 116 ((τ 15 0) + (t 8 mn))) 117 ((τ 16 0) ||| (1 <<< ((nI mn) &&& 31))), ulots_8, ufarNow_9) : (Nat → Int32) × (Nat → Int32) × (Nat) × (Nat → Int32) × (Int32) × (Nat → Int32)) hx hb hr hlocks rfl hW rfl dX12_sell_226 ?_
              show 1 = (sellO cn t σ U mx).1 ∧ KN (cn 2) (sellO cn t σ U mx).2.1 (sellO cn t σ U mx).2.2 unow_16 uhistory_17 uundos_18
              have eg : gg = 6 := by omega
              subst eg
              have e : sellO cn t σ U mx = _ := zi_t (⟨hvp, by unfold bitP; rw [cmn]; exact c_4, by rw [hset]; exact c_12⟩) _ _
              rw [e]
              refine ⟨rfl, ?_⟩
              have hkk := hp_15
              rw [show τ 16 = σ 16 from by rw [← hτ]; exact outsTo_q (by omega) 6, show τ 15 = σ 15 from by rw [← hτ]; exact outsTo_q (by omega) 6] at hkk
              simp only [kp, sellT, cmn]; rw [hτ, hset]; exact hkk
            · have c_13 : ¬ (6 ≤ gg) := fun hz_ => c_13 ((nI_leI (a := 6) (b := gg) (by omega) (by omega)).mpr hz_)
              refine lv_aload_n hx hb dX12_sell_60 rfl (lv_at hl 1 rfl) ?_
              refine lv_iconst (v := 1) hx hb dX12_sell_61 (by decide) ?_
              refine lv_iload_n hx hb dX12_sell_62 rfl (lv_at hl 2 rfl) ?_
              refine lv_topi (nm_r (e' := nI mn) emn ?_)
              refine lv_ishl hx hb dX12_sell_63 ?_
              refine lv_iload_n hx hb dX12_sell_64 rfl (lv_at hl 0 rfl) ?_
              refine z_calli (wc := wj [(mw Y ad_m (sA 64 (fun _ => nI un) (sA 62 ufarNow_9 (sA 61 (fun _ => ulots_8) (sA 60 x_row_54 (sA 18 (fun _ => nI lv) g_m))))) w_m)]) (wr := wj []) (va_runV (As := [.int (1 <<< ((nI mn) &&& 31)), .int (nI gg)]) (rest := []) ⟨hx, hb, hml, hown, hts⟩ (m_X12_wantedBy l D Y ad_m (sA 64 (fun _ => nI un) (sA 62 ufarNow_9 (sA 61 (fun _ => ulots_8) (sA 60 x_row_54 (sA 18 (fun _ => nI lv) g_m))))) w_m lv cn t lw (1 <<< ((nI mn) &&& 31)) gg H.size (show lv < 2 from by exact hlv) (show TW cn t lw from by exact hTW) (show TM lv cn t lw (sA 64 (fun _ => nI un) (sA 62 ufarNow_9 (sA 61 (fun _ => ulots_8) (sA 60 x_row_54 (sA 18 (fun _ => nI lv) g_m))))) from by exact hTM) (show gg < 6 from by first | assumption | omega | grind)) (cwV 2 hts (lw_V q2122 q2124 qs100 q133 q2125) rfl rfl rfl (by decide +kernel) ⟨Nat.le_of_ble_eq_true rfl, Nat.le_of_ble_eq_true rfl⟩) (zPreV hK hW hR (wj_split3 (B := [(mw Y ad_m (sA 64 (fun _ => nI un) (sA 62 ufarNow_9 (sA 61 (fun _ => ulots_8) (sA 60 x_row_54 (sA 18 (fun _ => nI lv) g_m))))) w_m)]) (R := []) (C := [(mw Y ad_m (sA 64 (fun _ => nI un) (sA 62 ufarNow_9 (sA 61 (fun _ => ulots_8) (sA 60 x_row_54 (sA 18 (fun _ => nI lv) g_m))))) w_m)]) (O := []) (X := []) (List.Perm.refl _)) (va_recv hK.1 hW.1 (ci := 11) (q0 := 0) rfl rfl)) rfl rfl hl.1 rfl (lv_room (Nat.le_of_ble_eq_true rfl)) dX12_sell_65 ⟨Nat.le_refl _, Nat.le_refl _⟩) hW hA (wj_split (B := [(mw Y ad_m (sA 64 (fun _ => nI un) (sA 62 ufarNow_9 (sA 61 (fun _ => ulots_8) (sA 60 x_row_54 (sA 18 (fun _ => nI lv) g_m))))) w_m)]) (C := [(mw Y ad_m (sA 64 (fun _ => nI un) (sA 62 ufarNow_9 (sA 61 (fun _ => ulots_8) (sA 60 x_row_54 (sA 18 (fun _ => nI lv) g_m))))) w_m)]) (R := []) (List.Perm.refl _)) (fun r_19 u H locs hp_20 hW => ?_)
              have hp_20 : r_19 = wantTo t (1 <<< ((nI mn) &&& 31)) gg (cn 3) := hp_20
              have hW : zW D A s.heap H locs (wj [(mw Y ad_m (sA 64 (fun _ => nI un) (sA 62 ufarNow_9 (sA 61 (fun _ => ulots_8) (sA 60 x_row_54 (sA 18 (fun _ => nI lv) g_m))))) w_m)]) := hW.join
              refine lv_istore_n (lv' := [(3, .int r_19), (2, .int (nI gg)), (0, .ref (ad_m 0)), (1, .int mx)]) hx hb dX12_sell_68 rfl hl (by decide) rfl (fun ls hl => ?_)
              refine lv_iconst (v := 0) hx hb dX12_sell_69 (by decide) ?_
              refine lv_istore (lv' := [(4, .int 0), (3, .int r_19), (2, .int (nI gg)), (0, .ref (ad_m 0)), (1, .int mx)]) hx hb dX12_sell_70 hl (by decide) rfl (fun ls hl => ?_)
              have loop_72 : ∀ (n : Nat) (h : Nat) (v3_72 : Int32) (x_row_72 : Nat → Int32) (ρ : tab), cn 1 - h < n → (h ≤ cn 1) → (outTo t τ gg (wantTo t (setOf mx) gg (cn 3)) h = (ρ, v3_72)) → (RS cn ρ x_row_72 ufarNow_9 ulots_8) → ∀ (H : Heap) (locs : List Loc), zW D A s.heap H locs (wj [(mw Y ad_m (sA 64 (fun _ => nI un) (sA 62 ufarNow_9 (sA 61 (fun _ => ulots_8) (sA 60 x_row_72 (sA 18 (fun _ => nI lv) g_m))))) w_m)]) → ∀ (ls : Array Slot), lv_has ls 6 [(4, .int (nI h)), (3, .int v3_72), (2, .int (nI gg)), (0, .ref (ad_m 0)), (1, .int mx)] → W p l e (headSpec (ws_ yX12_sell cX12_sell 6 (some .boolean)) ({ frames := 3, cells := 0, slots := 0, locals := 61 })).room s m ([.ref (ad_m 0), .int mx] : List Value).toArray below meth c H locs 0 0 (MQ below (va_Qi (fun (r : Int32) (u : (Nat → Int32) × (Nat → Int32) × (Nat) × (Nat → Int32) × (Int32) × (Nat → Int32)) => r = (sellO cn t σ U mx).1 ∧ KN (cn 2) (sellO cn t σ U mx).2.1 (sellO cn t σ U mx).2.2 u.1 u.2.1 u.2.2.1) (zB D (fun (u : (Nat → Int32) × (Nat → Int32) × (Nat) × (Nat → Int32) × (Int32) × (Nat → Int32)) => (wj [(mw Y ad_m (sA 65 u.2.1 (sA 64 (fun _ => nI u.2.2.1) (sA 62 u.2.2.2.2.2 (sA 61 (fun _ => u.2.2.2.2.1) (sA 60 u.2.2.2.1 (sA 59 u.1 (sA 18 (fun _ => nI lv) g_m))))))) w_m)])) A) A) ([.ref (ad_m 0), .int mx] : List Value).toArray s 0 0 A) (F0 m 72 ls []) := by
                intro n
                induction n with
                | zero =>
                  intro h v3_72 x_row_72 ρ hmz
                  exact absurd hmz (Nat.not_lt_zero _)
                | succ n ih =>
                  intro h v3_72 x_row_72 ρ hm_72 hh hρ hRSi H locs hW ls hl
                  have ih_72 := ih
                  clear ih
                  refine lv_iload hx hb dX12_sell_72 (lv_at hl 0 rfl) ?_
                  refine lv_aload_n hx hb dX12_sell_74 rfl (lv_at hl 3 rfl) ?_
                  refine va_get (v := .ref (ad_m 27)) (C := RX12) (T := TX12) (N := 75) (ci := 11) hx hb hts in_X12 hown hK.1 hW.1 0 rfl rfl 27 (by decide) (hts _ q1663) (fun _ h9 => h9) rfl dX12_sell_75 ?_
                  refine lv_aload_n hx hb dX12_sell_78 rfl (lv_at hl 3 rfl) ?_
                  refine va_get (v := .int (nI lv)) (C := RX12) (T := TX12) (N := 75) (ci := 11) hx hb hts in_X12 hown hK.1 hW.1 0 rfl rfl 18 (by decide) (hts _ q1654) (fun _ h9 => h9) rfl dX12_sell_79 ?_
                  refine z_iald (v := nI (cn 1)) (f := g_m 27) (j := lv) hx hb hK.1 hW.1 14 0 rfl rfl (vp_in_nI (n := lv) (by omega) (by decide)) (nI_clamp (n := lv) (by omega)) (TM.c27 hTM) dX12_sell_82 ?_
                  refine lv_icmp_ge (tgt := 179) hx hb dX12_sell_83 (by decide) (fun c_21 => ?_) (fun c_21 => ?_)
                  · have c_21 : cn 1 ≤ h := (nI_leI (a := cn 1) (b := h) (by omega) (by omega)).mp c_21
                    refine lv_iinc (v := nI (gg + 1)) (lv' := [(2, .int (nI (gg + 1))), (4, .int (nI h)), (3, .int v3_72), (0, .ref (ad_m 0)), (1, .int mx)]) hx hb dX12_sell_179 hl (k := 2) rfl (nI_add gg 1) (by decide) rfl (fun ls hl => ?_)
                    refine lv_goto (tgt := 54) hx hb dX12_sell_182 (by decide) ?_
                    exact ih_54 (gg + 1) x_row_72 ρ (by omega) (by omega) (by
                        have eh : h = cn 1 := by omega
                        show (outTo t (outsTo cn t σ (setOf mx) gg) gg (wantTo t (setOf mx) gg (cn 3)) (cn 1)).1 = _
                        rw [hτ, ← eh, hρ]) (by exact hRSi) _ _ hW _ (lv_sub hl [0, 3, 4] rfl)
                  · have c_21 : ¬ (cn 1 ≤ h) := fun hz_ => c_21 ((nI_leI (a := cn 1) (b := h) (by omega) (by omega)).mpr hz_)
                    refine lv_aload_n hx hb dX12_sell_86 rfl (lv_at hl 3 rfl) ?_
                    refine va_get (v := .ref (ad_m 29)) (C := RX12) (T := TX12) (N := 75) (ci := 11) hx hb hts in_X12 hown hK.1 hW.1 0 rfl rfl 29 (by decide) (hts _ q1665) (fun _ h9 => h9) rfl dX12_sell_87 ?_
                    refine lv_bipush (v := 6) hx hb dX12_sell_90 (by decide) ?_
                    refine lv_aload_n hx hb dX12_sell_92 rfl (lv_at hl 3 rfl) ?_
                    refine va_get (v := .int (nI lv)) (C := RX12) (T := TX12) (N := 75) (ci := 11) hx hb hts in_X12 hown hK.1 hW.1 0 rfl rfl 18 (by decide) (hts _ q1654) (fun _ h9 => h9) rfl dX12_sell_93 ?_
                    refine lv_imul hx hb dX12_sell_96 ?_
                    refine lv_topi (nm_r (e' := nI (6 * lv)) (pk_mul 6 lv) ?_)
                    refine lv_iload hx hb dX12_sell_97 (lv_at hl 0 rfl) ?_
                    refine lv_iadd hx hb dX12_sell_99 ?_
                    refine lv_topi (nm_r (e' := nI (6 * lv + h)) (nI_add (6 * lv) h) ?_)
                    refine z_iald (v := t 3 h) (f := g_m 29) (j := 6 * lv + h) hx hb hK.1 hW.1 16 0 rfl rfl (vp_in_nI (n := 6 * lv + h) (by omega) (by decide)) (nI_clamp (n := 6 * lv + h) (by omega)) (TM.c29 hTM (j := h) (by omega)) dX12_sell_100 ?_
                    refine lv_iload_n hx hb dX12_sell_101 rfl (lv_at hl 2 rfl) ?_
                    refine lv_icmp_eq (tgt := 108) hx hb dX12_sell_102 (by decide) (fun c_22 => ?_) (fun c_22 => ?_)
                    · have hcg := c_22
                      refine lv_aload_n hx hb dX12_sell_108 rfl (lv_at hl 3 rfl) ?_
                      refine va_get (v := .ref (ad_m 60)) (C := RX12) (T := TX12) (N := 75) (ci := 11) hx hb hts in_X12 hown hK.1 hW.1 0 rfl rfl 60 (by decide) (hts _ q1696) (fun _ h9 => h9) rfl dX12_sell_109 ?_
                      refine lv_bipush (v := 6) hx hb dX12_sell_112 (by decide) ?_
                      refine lv_bipush (v := 6) hx hb dX12_sell_114 (by decide) ?_
                      refine lv_iload hx hb dX12_sell_116 (lv_at hl 0 rfl) ?_
                      refine lv_imul hx hb dX12_sell_118 ?_
                      refine lv_topi (nm_r (e' := nI (6 * h)) (pk_mul 6 h) ?_)
                      refine lv_iadd hx hb dX12_sell_119 ?_
                      refine lv_topi (nm_r (e' := nI (6 + 6 * h)) (nI_add 6 (6 * h)) ?_)
                      refine lv_iload_n hx hb dX12_sell_120 rfl (lv_at hl 2 rfl) ?_
                      refine lv_iadd hx hb dX12_sell_121 ?_
                      refine lv_topi (nm_r (e' := nI (6 + 6 * h + gg)) (nI_add (6 + 6 * h) gg) ?_)
                      refine z_iald (v := ρ (30 + h) gg) (f := x_row_72) (j := 6 + 6 * h + gg) hx hb hK.1 hW.1 43 0 rfl rfl (vp_in_nI (n := 6 + 6 * h + gg) (by omega) (by decide)) (nI_clamp (n := 6 + 6 * h + gg) (by omega)) (MR.hole hRSi.1 (a := h) (g := gg) (by omega) (by omega)) dX12_sell_122 ?_
                      refine lv_iload_n hx hb dX12_sell_123 rfl (lv_at hl 1 rfl) ?_
                      have join_146 : ∀ (st0_146 : Int32), (st0_146 = if ρ (30 + h) gg < v3_72 then ρ (30 + h) gg else v3_72) → ∀ (H : Heap) (locs : List Loc), zW D A s.heap H locs (wj [(mw Y ad_m (sA 64 (fun _ => nI un) (sA 62 ufarNow_9 (sA 61 (fun _ => ulots_8) (sA 60 x_row_72 (sA 18 (fun _ => nI lv) g_m))))) w_m)]) → ∀ (ls : Array Slot), lv_has ls 6 [(4, .int (nI h)), (3, .int v3_72), (2, .int (nI gg)), (0, .ref (ad_m 0)), (1, .int mx)] → W p l e (headSpec (ws_ yX12_sell cX12_sell 6 (some .boolean)) ({ frames := 3, cells := 0, slots := 0, locals := 61 })).room s m ([.ref (ad_m 0), .int mx] : List Value).toArray below meth c H locs 0 0 (MQ below (va_Qi (fun (r : Int32) (u : (Nat → Int32) × (Nat → Int32) × (Nat) × (Nat → Int32) × (Int32) × (Nat → Int32)) => r = (sellO cn t σ U mx).1 ∧ KN (cn 2) (sellO cn t σ U mx).2.1 (sellO cn t σ U mx).2.2 u.1 u.2.1 u.2.2.1) (zB D (fun (u : (Nat → Int32) × (Nat → Int32) × (Nat) × (Nat → Int32) × (Int32) × (Nat → Int32)) => (wj [(mw Y ad_m (sA 65 u.2.1 (sA 64 (fun _ => nI u.2.2.1) (sA 62 u.2.2.2.2.2 (sA 61 (fun _ => u.2.2.2.2.1) (sA 60 u.2.2.2.1 (sA 59 u.1 (sA 18 (fun _ => nI lv) g_m))))))) w_m)])) A) A) ([.ref (ad_m 0), .int mx] : List Value).toArray s 0 0 A) (F0 m 146 ls [.int st0_146]) := by
                        intro st0_146 hst H locs hW ls hl
                        refine lv_istore (lv' := [(5, .int st0_146), (4, .int (nI h)), (3, .int v3_72), (2, .int (nI gg)), (0, .ref (ad_m 0)), (1, .int mx)]) hx hb dX12_sell_146 hl (by decide) rfl (fun ls hl => ?_)
                        refine lv_aload_n hx hb dX12_sell_148 rfl (lv_at hl 4 rfl) ?_
                        refine va_get (v := .ref (ad_m 60)) (C := RX12) (T := TX12) (N := 75) (ci := 11) hx hb hts in_X12 hown hK.1 hW.1 0 rfl rfl 60 (by decide) (hts _ q1696) (fun _ h9 => h9) rfl dX12_sell_149 ?_
                        refine lv_bipush (v := 6) hx hb dX12_sell_152 (by decide) ?_
                        refine lv_bipush (v := 6) hx hb dX12_sell_154 (by decide) ?_
                        refine lv_iload hx hb dX12_sell_156 (lv_at hl 1 rfl) ?_
                        refine lv_imul hx hb dX12_sell_158 ?_
                        refine lv_topi (nm_r (e' := nI (6 * h)) (pk_mul 6 h) ?_)
                        refine lv_iadd hx hb dX12_sell_159 ?_
                        refine lv_topi (nm_r (e' := nI (6 + 6 * h)) (nI_add 6 (6 * h)) ?_)
                        refine lv_iload_n hx hb dX12_sell_160 rfl (lv_at hl 3 rfl) ?_
                        refine lv_iadd hx hb dX12_sell_161 ?_
                        refine lv_topi (nm_r (e' := nI (6 + 6 * h + gg)) (nI_add (6 + 6 * h) gg) ?_)
                        refine lv_dup2_11 hx hb dX12_sell_162 rfl rfl ?_
                        refine z_iald (v := ρ (30 + h) gg) (f := x_row_72) (j := 6 + 6 * h + gg) hx hb hK.1 hW.1 43 0 rfl rfl (vp_in_nI (n := 6 + 6 * h + gg) (by omega) (by decide)) (nI_clamp (n := 6 + 6 * h + gg) (by omega)) (MR.hole hRSi.1 (a := h) (g := gg) (by omega) (by omega)) dX12_sell_163 ?_
                        refine lv_iload hx hb dX12_sell_164 (lv_at hl 0 rfl) ?_
                        refine lv_isub hx hb dX12_sell_166 ?_
                        refine z_iast (x := (ρ (30 + h) gg) - st0_146) (f := x_row_72) (j := 6 + 6 * h + gg) (wn := (wj [(mw Y ad_m (sA 64 (fun _ => nI un) (sA 62 ufarNow_9 (sA 61 (fun _ => ulots_8) (sA 60 (upd x_row_72 (6 + 6 * h + gg) ((ρ (30 + h) gg) - st0_146)) (sA 18 (fun _ => nI lv) g_m))))) w_m)])) hx hb hK.1 hW 43 0 rfl rfl (vp_in_nI (n := 6 + 6 * h + gg) (by omega) (by decide)) (nI_clamp (n := 6 + 6 * h + gg) (by omega)) dX12_sell_167 rfl (fun H locs hW => ?_)
                        refine lv_iload_n hx hb dX12_sell_168 rfl (lv_at hl 2 rfl) ?_
                        refine lv_iload hx hb dX12_sell_169 (lv_at hl 0 rfl) ?_
                        refine lv_isub hx hb dX12_sell_171 ?_
                        refine lv_istore_n (lv' := [(3, .int (v3_72 - st0_146)), (5, .int st0_146), (4, .int (nI h)), (2, .int (nI gg)), (0, .ref (ad_m 0)), (1, .int mx)]) hx hb dX12_sell_172 rfl hl (by decide) rfl (fun ls hl => ?_)
                        refine lv_iinc (v := nI (h + 1)) (lv' := [(4, .int (nI (h + 1))), (3, .int (v3_72 - st0_146)), (5, .int st0_146), (2, .int (nI gg)), (0, .ref (ad_m 0)), (1, .int mx)]) hx hb dX12_sell_173 hl (k := 2) rfl (nI_add h 1) (by decide) rfl (fun ls hl => ?_)
                        refine lv_goto (tgt := 72) hx hb dX12_sell_176 (by decide) ?_
                        have hRSn : RS cn (sU (30 + h) gg (ρ (30 + h) gg - st0_146) ρ) (upd x_row_72 (6 + 6 * h + gg) ((ρ (30 + h) gg) - st0_146)) ufarNow_9 ulots_8 := by
                          have e_24 : sU (30 + h) gg (ρ (30 + h) gg - st0_146) ρ = sU (30 + h) gg ((ρ (30 + h) gg) - st0_146) ρ := by
                            rfl
                          rw [e_24]; exact (RS.mk' hRSi (MR.uhole hk8 hRSi.1 (a := h) (g := gg) (by omega) (by omega) ((ρ (30 + h) gg) - st0_146)) (by rw [sU_ne (by omega)]) (by rw [sU_ne (by omega)]))
                        exact ih_72 (h + 1) (v3_72 - st0_146) (upd x_row_72 (6 + 6 * h + gg) ((ρ (30 + h) gg) - st0_146)) (sU (30 + h) gg (ρ (30 + h) gg - st0_146) ρ) (by omega) (by omega) (by first | (simp only [outTo, hρ]; rw [if_neg hcg]) | (simp only [outTo, hρ]; rw [if_pos hcg, ← hst])) (by first | exact hRSn | exact hRSi) _ _ hW _ (lv_sub hl [0, 1, 3, 4, 5] rfl)
                      refine lv_icmp_ge (tgt := 145) hx hb dX12_sell_124 (by decide) (fun c_25 => ?_) (fun c_25 => ?_)
                      · have hvl := c_25
                        refine lv_iload_n hx hb dX12_sell_145 rfl (lv_at hl 1 rfl) ?_
                        exact join_146 v3_72 (by first | exact (if_pos hvl).symm | exact (if_pos (Int32.not_le.mp hvl)).symm | exact (if_neg (Int32.not_lt.mpr hvl)).symm | exact (if_neg hvl).symm) _ _ hW _ (lv_sub hl [0, 1, 2, 3, 4] rfl)
                      · have hvl := c_25
                        refine lv_aload_n hx hb dX12_sell_127 rfl (lv_at hl 3 rfl) ?_
                        refine va_get (v := .ref (ad_m 60)) (C := RX12) (T := TX12) (N := 75) (ci := 11) hx hb hts in_X12 hown hK.1 hW.1 0 rfl rfl 60 (by decide) (hts _ q1696) (fun _ h9 => h9) rfl dX12_sell_128 ?_
                        refine lv_bipush (v := 6) hx hb dX12_sell_131 (by decide) ?_
                        refine lv_bipush (v := 6) hx hb dX12_sell_133 (by decide) ?_
                        refine lv_iload hx hb dX12_sell_135 (lv_at hl 0 rfl) ?_
                        refine lv_imul hx hb dX12_sell_137 ?_
                        refine lv_topi (nm_r (e' := nI (6 * h)) (pk_mul 6 h) ?_)
                        refine lv_iadd hx hb dX12_sell_138 ?_
                        refine lv_topi (nm_r (e' := nI (6 + 6 * h)) (nI_add 6 (6 * h)) ?_)
                        refine lv_iload_n hx hb dX12_sell_139 rfl (lv_at hl 2 rfl) ?_
                        refine lv_iadd hx hb dX12_sell_140 ?_
                        refine lv_topi (nm_r (e' := nI (6 + 6 * h + gg)) (nI_add (6 + 6 * h) gg) ?_)
                        refine z_iald (v := ρ (30 + h) gg) (f := x_row_72) (j := 6 + 6 * h + gg) hx hb hK.1 hW.1 43 0 rfl rfl (vp_in_nI (n := 6 + 6 * h + gg) (by omega) (by decide)) (nI_clamp (n := 6 + 6 * h + gg) (by omega)) (MR.hole hRSi.1 (a := h) (g := gg) (by omega) (by omega)) dX12_sell_141 ?_
                        refine lv_goto (tgt := 146) hx hb dX12_sell_142 (by decide) ?_
                        exact join_146 (ρ (30 + h) gg) (by first | exact (if_pos hvl).symm | exact (if_pos (Int32.not_le.mp hvl)).symm | exact (if_neg (Int32.not_lt.mpr hvl)).symm | exact (if_neg hvl).symm) _ _ hW _ (lv_sub hl [0, 1, 2, 3, 4] rfl)
                    · have hcg := c_22
                      refine lv_goto (tgt := 173) hx hb dX12_sell_105 (by decide) ?_
                      refine lv_iinc (v := nI (h + 1)) (lv' := [(4, .int (nI (h + 1))), (3, .int v3_72), (2, .int (nI gg)), (0, .ref (ad_m 0)), (1, .int mx)]) hx hb dX12_sell_173 hl (k := 0) rfl (nI_add h 1) (by decide) rfl (fun ls hl => ?_)
                      refine lv_goto (tgt := 72) hx hb dX12_sell_176 (by decide) ?_
                      exact ih_72 (h + 1) v3_72 x_row_72 ρ (by omega) (by omega) (by first | (simp only [outTo, hρ]; rw [if_neg hcg]) | (simp only [outTo, hρ]; rw [if_pos hcg, ← hst])) (by first | exact hRSn | exact hRSi) _ _ hW _ (lv_sub hl [0, 1, 2, 3, 4] rfl)
              exact loop_72 _ 0 r_19 x_row_54 τ (Nat.lt_succ_self _) (by omega) (by rw [hset, ← hp_20]; rfl) (by exact hRSr) _ _ hW _ (lv_sub hl [0, 1, 2, 3, 4] rfl)
        exact loop_54 _ 0 urow_7 σ (Nat.lt_succ_self _) (by omega) (by rfl) (by exact hp_6) _ _ hW _ (lv_sub hl [0, 1, 2] rfl)
      · have c_12 : ¬ (enoughP cn t σ (1 <<< ((nI mn) &&& 31))) := zb_eq hp_11 c_12
        refine lv_iconst (v := 0) hx hb dX12_sell_50 (by decide) ?_
        refine z_ireti ((g_m 59, g_m 65, un, urow_7, ulots_8, ufarNow_9) : (Nat → Int32) × (Nat → Int32) × (Nat) × (Nat → Int32) × (Int32) × (Nat → Int32)) hx hb hr hlocks rfl hW rfl dX12_sell_51 ?_
        show 0 = (sellO cn t σ U mx).1 ∧ KN (cn 2) (sellO cn t σ U mx).2.1 (sellO cn t σ U mx).2.2 (g_m 59) (g_m 65) un
        have e : sellO cn t σ U mx = _ := zi_f (by first | (intro hq; exact absurd hq.1 (fun q => absurd ((vp_iff (by omega)).mp q) (by assumption))) | (intro hq; apply hq.2.1; unfold bitP; rw [cmn]; assumption) | (rw [hset]; intro hq; exact absurd hq.2.2 (by assumption))) _ _
        rw [e]
        exact ⟨rfl, hKN⟩
    · refine lv_iconst (v := 0) hx hb dX12_sell_34 (by decide) ?_
      refine z_ireti ((g_m 59, g_m 65, un, g_m 60, g_m 61 0, g_m 62) : (Nat → Int32) × (Nat → Int32) × (Nat) × (Nat → Int32) × (Int32) × (Nat → Int32)) hx hb hr hlocks rfl hW rfl dX12_sell_35 ?_
      show 0 = (sellO cn t σ U mx).1 ∧ KN (cn 2) (sellO cn t σ U mx).2.1 (sellO cn t σ U mx).2.2 (g_m 59) (g_m 65) un
      have e : sellO cn t σ U mx = _ := zi_f (by first | (intro hq; exact absurd hq.1 (fun q => absurd ((vp_iff (by omega)).mp q) (by assumption))) | (intro hq; apply hq.2.1; unfold bitP; rw [cmn]; assumption) | (rw [hset]; intro hq; exact absurd hq.2.2 (by assumption))) _ _
      rw [e]
      exact ⟨rfl, hKN⟩
set_option maxHeartbeats 4000000 in
set_option maxRecDepth 100000 in
theorem m_X12_sales (l : Launch) (D : va_G) (Y : Nat → ClassId) (ad_m : Nat → Nat) (g_m : Nat → Nat → Int32) (w_m : Nat → Nat → Int64) (lv : Nat) (cn : Nat → Nat) (t : tab) (lw : Nat → Option LAW) (σ : tab) (U : List tab) (un : Nat) (B_ : Int) (wx : Int32) (sz : Nat) (hlv : lv < 2) (hTW : TW cn t lw) (hTM : TM lv cn t lw g_m) (hKN : KN (cn 2) σ U (g_m 59) (g_m 65) un) (hF1 : ∀ h, h < cn 1 → σ 1 h = t 2 h) (hF2 : σ 18 0 = t 12 2) (hWF : WF cn B_ σ) : Met l yX12_sales (ws_ yX12_sales cX12_sales 4 (some .int)) ({ frames := 3, cells := 0, slots := 0, locals := 61 }) (zPc D Y [.ref (ad_m 0), .int wx] sz (wj []) (wj [(mw Y ad_m (sA 64 (fun _ => nI un) (sA 18 (fun _ => nI lv) g_m)) w_m)])) (va_Qi (fun (r : Int32) (u : (Nat → Int32) × (Int32) × (Nat → Int32)) => r = salesO cn t σ wx) (zB D (fun (u : (Nat → Int32) × (Int32) × (Nat → Int32)) => (wj [(mw Y ad_m (sA 64 (fun _ => nI un) (sA 62 u.2.2 (sA 61 (fun _ => u.2.1) (sA 60 u.1 (sA 18 (fun _ => nI lv) g_m))))) w_m)])) (va_A (wj [(mw Y ad_m (sA 64 (fun _ => nI un) (sA 18 (fun _ => nI lv) g_m)) w_m)]) sz)) (va_A (wj [(mw Y ad_m (sA 64 (fun _ => nI un) (sA 18 (fun _ => nI lv) g_m)) w_m)]) sz)) 0 0 (va_A (wj [(mw Y ad_m (sA 64 (fun _ => nI un) (sA 18 (fun _ => nI lv) g_m)) w_m)]) sz) := by
  refine Met.ofW (cc := cX12_sales) (maxL := 4) (ret := (some .int)) (by decide) rfl ?_
  intro p e s m args below meth c s₁ B hml hv
  obtain ⟨rfl, hsz, hW, hR, hK, hA⟩ := zEntry hv
  subst hsz
  have hx := B.exec
  have hb := B.bytes
  have hr := B.returns
  have hlocks := B.notSynchronized
  have hts : ∀ w ∈ lw_all, w.before _ s = true := fun w h => atoms_spec (ws := (ws_ yX12_sales cX12_sales 4 (some .int))) B.pre w (List.mem_cons_of_mem _ h)
  have hown : s.vm.findClass RX12 = some m.cls := findClass_of_methodNamed B.named
  generalize hAe : va_A (wj [(mw Y ad_m (sA 64 (fun _ => nI un) (sA 18 (fun _ => nI lv) g_m)) w_m)]) s.heap.size = A at hW hR hA ⊢
  have hl := lv_entry ([.ref (ad_m 0), .int wx]) (n := 4) (Nat.le_of_ble_eq_true rfl)
  rw [lg_entry_eq]
  generalize (lg_sl ([.ref (ad_m 0), .int wx]) ++ List.replicate (4 - (lg_sl ([.ref (ad_m 0), .int wx])).length) Slot.unset).toArray = ls at hl ⊢
  have hl : lv_has ls 4 [(0, .ref (ad_m 0)), (1, .int wx)] := hl
  have hk8 := hTW.n2
  have hk6 := hTW.n1
  have hk60 := hTW.n0
  have hk5 := hTW.n3
  have hsh3 := shl1 (k := cn 3) (by omega)
  have h2n : 2 ^ cn 3 ≤ 32 := (Nat.pow_le_pow_right (by omega) hk5 : 2 ^ cn 3 ≤ 2 ^ 5)
  have h2p : 0 < 2 ^ cn 3 := Nat.pow_pos (by omega)
  refine lv_iload_n hx hb dX12_sales_0 rfl (lv_at hl 1 rfl) ?_
  refine lv_iconst (v := 0) hx hb dX12_sales_1 (by decide) ?_
  refine lv_iconst (v := 1) hx hb dX12_sales_2 (by decide) ?_
  refine z_calli (wc := wj []) (wr := wj [(mw Y ad_m (sA 64 (fun _ => nI un) (sA 18 (fun _ => nI lv) g_m)) w_m)]) (va_runS (As := [.int wx, .int 0, .int 1]) (rest := []) ⟨hx, hb, hml, hown, hts⟩ (m_X12_in l D Y wx 0 1 s.heap.size) (va_cwS 3 hts (lw_S q1997 q1998 q133 q1999) rfl rfl rfl (by decide +kernel) ⟨Nat.le_of_ble_eq_true rfl, Nat.le_of_ble_eq_true rfl⟩) (zPre hK hW hR (wj_split3 (B := [(mw Y ad_m (sA 64 (fun _ => nI un) (sA 18 (fun _ => nI lv) g_m)) w_m)]) (R := []) (C := []) (O := []) (X := [(mw Y ad_m (sA 64 (fun _ => nI un) (sA 18 (fun _ => nI lv) g_m)) w_m)]) (List.Perm.refl _))) rfl rfl hl.1 rfl (lv_room (Nat.le_of_ble_eq_true rfl)) dX12_sales_3 ⟨Nat.le_refl _, Nat.le_refl _⟩) hW hA (wj_split (B := [(mw Y ad_m (sA 64 (fun _ => nI un) (sA 18 (fun _ => nI lv) g_m)) w_m)]) (C := []) (R := [(mw Y ad_m (sA 64 (fun _ => nI un) (sA 18 (fun _ => nI lv) g_m)) w_m)]) (List.Perm.refl _)) (fun r_1 u H locs hp_2 hW => ?_)
  have hp_2 : r_1 = zb (¬ wx < 0 ∧ ¬ 1 < wx) := hp_2
  have hW : zW D A s.heap H locs (wj [(mw Y ad_m (sA 64 (fun _ => nI un) (sA 18 (fun _ => nI lv) g_m)) w_m)]) := hW.join
  refine lv_if_ne (tgt := 11) hx hb dX12_sales_6 (by decide) (fun c_3 => ?_) (fun c_3 => ?_)
  · have c_3 : ¬ wx < 0 ∧ ¬ 1 < wx := zb_ne hp_2 c_3
    refine lv_aload_n hx hb dX12_sales_11 rfl (lv_at hl 0 rfl) ?_
    refine z_callv (wc := wj [(mw Y ad_m (sA 64 (fun _ => nI un) (sA 18 (fun _ => nI lv) g_m)) w_m)]) (wr := wj []) (va_runV (As := []) (rest := []) ⟨hx, hb, hml, hown, hts⟩ (m_X12_copies l D Y ad_m (sA 64 (fun _ => nI un) (sA 18 (fun _ => nI lv) g_m)) w_m lv cn t lw σ H.size (show lv < 2 from by exact hlv) (show TW cn t lw from by exact hTW) (show TM lv cn t lw (sA 64 (fun _ => nI un) (sA 18 (fun _ => nI lv) g_m)) from by exact hTM) (show MR (cn 2) σ (g_m 59) from by exact hKN.mr) (show ∀ h, h < cn 1 → σ 1 h = t 2 h from by exact hF1) (show σ 18 0 = t 12 2 from by exact hF2)) (cwV 0 hts (lw_V q2020 q2022 qs86 q133 q2023) rfl rfl rfl (by decide +kernel) ⟨Nat.le_of_ble_eq_true rfl, Nat.le_of_ble_eq_true rfl⟩) (zPreV hK hW hR (wj_split3 (B := [(mw Y ad_m (sA 64 (fun _ => nI un) (sA 18 (fun _ => nI lv) g_m)) w_m)]) (R := []) (C := [(mw Y ad_m (sA 64 (fun _ => nI un) (sA 18 (fun _ => nI lv) g_m)) w_m)]) (O := []) (X := []) (List.Perm.refl _)) (va_recv hK.1 hW.1 (ci := 11) (q0 := 0) rfl rfl)) rfl rfl hl.1 rfl (lv_room (Nat.le_of_ble_eq_true rfl)) dX12_sales_12 ⟨Nat.le_refl _, Nat.le_refl _⟩) hW hA (wj_split (B := [(mw Y ad_m (sA 64 (fun _ => nI un) (sA 18 (fun _ => nI lv) g_m)) w_m)]) (C := [(mw Y ad_m (sA 64 (fun _ => nI un) (sA 18 (fun _ => nI lv) g_m)) w_m)]) (R := []) (List.Perm.refl _)) (fun  u H locs hp_5 hW => ?_)
    obtain ⟨urow_6, ulots_7, ufarNow_8⟩ := u
    have hp_5 : RS cn σ urow_6 ufarNow_8 ulots_7 := hp_5
    have hW : zW D A s.heap H locs (wj [(mw Y ad_m (sA 64 (fun _ => nI un) (sA 62 ufarNow_8 (sA 61 (fun _ => ulots_7) (sA 60 urow_6 (sA 18 (fun _ => nI lv) g_m))))) w_m)]) := hW.join
    refine lv_iconst (v := 0) hx hb dX12_sales_15 (by decide) ?_
    refine lv_istore_n (lv' := [(2, .int 0), (0, .ref (ad_m 0)), (1, .int wx)]) hx hb dX12_sales_16 rfl hl (by decide) rfl (fun ls hl => ?_)
    refine lv_iconst (v := 1) hx hb dX12_sales_17 (by decide) ?_
    refine lv_istore_n (lv' := [(3, .int 1), (2, .int 0), (0, .ref (ad_m 0)), (1, .int wx)]) hx hb dX12_sales_18 rfl hl (by decide) rfl (fun ls hl => ?_)
    have loop_19 : ∀ (n : Nat) (s1 : Nat) (v2_19 : Int32), 2 ^ cn 3 - s1 < n → (1 ≤ s1 ∧ s1 ≤ 2 ^ cn 3) → (v2_19 = saleTo cn t σ (s1 - 1)) → ∀ (H : Heap) (locs : List Loc), zW D A s.heap H locs (wj [(mw Y ad_m (sA 64 (fun _ => nI un) (sA 62 ufarNow_8 (sA 61 (fun _ => ulots_7) (sA 60 urow_6 (sA 18 (fun _ => nI lv) g_m))))) w_m)]) → ∀ (ls : Array Slot), lv_has ls 4 [(3, .int (nI s1)), (2, .int v2_19), (0, .ref (ad_m 0)), (1, .int wx)] → W p l e (headSpec (ws_ yX12_sales cX12_sales 4 (some .int)) ({ frames := 3, cells := 0, slots := 0, locals := 61 })).room s m ([.ref (ad_m 0), .int wx] : List Value).toArray below meth c H locs 0 0 (MQ below (va_Qi (fun (r : Int32) (u : (Nat → Int32) × (Int32) × (Nat → Int32)) => r = salesO cn t σ wx) (zB D (fun (u : (Nat → Int32) × (Int32) × (Nat → Int32)) => (wj [(mw Y ad_m (sA 64 (fun _ => nI un) (sA 62 u.2.2 (sA 61 (fun _ => u.2.1) (sA 60 u.1 (sA 18 (fun _ => nI lv) g_m))))) w_m)])) A) A) ([.ref (ad_m 0), .int wx] : List Value).toArray s 0 0 A) (F0 m 19 ls []) := by
      intro n
      induction n with
      | zero =>
        intro s1 v2_19 hmz
        exact absurd hmz (Nat.not_lt_zero _)
      | succ n ih =>
        intro s1 v2_19 hm_19 hi hv2 H locs hW ls hl
        have ih_19 := ih
        clear ih
        refine lv_iload_n hx hb dX12_sales_19 rfl (lv_at hl 0 rfl) ?_
        refine lv_iconst (v := 1) hx hb dX12_sales_20 (by decide) ?_
        refine lv_aload_n hx hb dX12_sales_21 rfl (lv_at hl 2 rfl) ?_
        refine va_get (v := .ref (ad_m 35)) (C := RX12) (T := TX12) (N := 75) (ci := 11) hx hb hts in_X12 hown hK.1 hW.1 0 rfl rfl 35 (by decide) (hts _ q1671) (fun _ h9 => h9) rfl dX12_sales_22 ?_
        refine lv_aload_n hx hb dX12_sales_25 rfl (lv_at hl 2 rfl) ?_
        refine va_get (v := .int (nI lv)) (C := RX12) (T := TX12) (N := 75) (ci := 11) hx hb hts in_X12 hown hK.1 hW.1 0 rfl rfl 18 (by decide) (hts _ q1654) (fun _ h9 => h9) rfl dX12_sales_26 ?_
        refine z_iald (v := nI (cn 3)) (f := g_m 35) (j := lv) hx hb hK.1 hW.1 22 0 rfl rfl (vp_in_nI (n := lv) (by omega) (by decide)) (nI_clamp (n := lv) (by omega)) (TM.c35 hTM) dX12_sales_29 ?_
        refine lv_ishl hx hb dX12_sales_30 ?_
        refine lv_topi (nm_r (e' := nI (2 ^ cn 3)) hsh3 ?_)
        refine lv_icmp_ge (tgt := 75) hx hb dX12_sales_31 (by decide) (fun c_9 => ?_) (fun c_9 => ?_)
        · have c_9 : 2 ^ cn 3 ≤ s1 := (nI_leI (a := 2 ^ cn 3) (b := s1) (by omega) (by omega)).mp c_9
          refine lv_iload_n hx hb dX12_sales_75 rfl (lv_at hl 3 rfl) ?_
          refine lv_if_ne (tgt := 87) hx hb dX12_sales_76 (by decide) (fun c_10 => ?_) (fun c_10 => ?_)
          · have hw := c_10
            refine lv_iload_n hx hb dX12_sales_87 rfl (lv_at hl 1 rfl) ?_
            refine z_ireti ((urow_6, ulots_7, ufarNow_8) : (Nat → Int32) × (Int32) × (Nat → Int32)) hx hb hr hlocks rfl hW rfl dX12_sales_88 ?_
            show v2_19 = salesO cn t σ wx
            unfold salesO
            first | (exact Eq.symm (zi_f (by assumption) _ _); done) | (refine Eq.trans ?_ (Eq.symm (zi_t (show inP wx 0 1 from c_3) _ _)); rw [show 2 ^ cn 3 - 1 = s1 - 1 by omega, ← hv2]; first | (rw [if_pos hw]; assumption) | (rw [if_neg hw]))
          · have hw := c_10
            refine lv_aload_n hx hb dX12_sales_79 rfl (lv_at hl 2 rfl) ?_
            refine lv_iload_n hx hb dX12_sales_80 rfl (lv_at hl 1 rfl) ?_
            refine z_calli (wc := wj [(mw Y ad_m (sA 64 (fun _ => nI un) (sA 62 ufarNow_8 (sA 61 (fun _ => ulots_7) (sA 60 urow_6 (sA 18 (fun _ => nI lv) g_m))))) w_m)]) (wr := wj []) (va_runV (As := [.int v2_19]) (rest := []) ⟨hx, hb, hml, hown, hts⟩ (m_X12_paysOf l D Y ad_m (sA 64 (fun _ => nI un) (sA 62 ufarNow_8 (sA 61 (fun _ => ulots_7) (sA 60 urow_6 (sA 18 (fun _ => nI lv) g_m))))) w_m lv cn t lw v2_19 H.size (show lv < 2 from by exact hlv) (show TW cn t lw from by exact hTW) (show TM lv cn t lw (sA 64 (fun _ => nI un) (sA 62 ufarNow_8 (sA 61 (fun _ => ulots_7) (sA 60 urow_6 (sA 18 (fun _ => nI lv) g_m))))) from by exact hTM)) (cwV 1 hts (lw_V q2130 q2132 qs101 q133 q2133) rfl rfl rfl (by decide +kernel) ⟨Nat.le_of_ble_eq_true rfl, Nat.le_of_ble_eq_true rfl⟩) (zPreV hK hW hR (wj_split3 (B := [(mw Y ad_m (sA 64 (fun _ => nI un) (sA 62 ufarNow_8 (sA 61 (fun _ => ulots_7) (sA 60 urow_6 (sA 18 (fun _ => nI lv) g_m))))) w_m)]) (R := []) (C := [(mw Y ad_m (sA 64 (fun _ => nI un) (sA 62 ufarNow_8 (sA 61 (fun _ => ulots_7) (sA 60 urow_6 (sA 18 (fun _ => nI lv) g_m))))) w_m)]) (O := []) (X := []) (List.Perm.refl _)) (va_recv hK.1 hW.1 (ci := 11) (q0 := 0) rfl rfl)) rfl rfl hl.1 rfl (lv_room (Nat.le_of_ble_eq_true rfl)) dX12_sales_81 ⟨Nat.le_refl _, Nat.le_refl _⟩) hW hA (wj_split (B := [(mw Y ad_m (sA 64 (fun _ => nI un) (sA 62 ufarNow_8 (sA 61 (fun _ => ulots_7) (sA 60 urow_6 (sA 18 (fun _ => nI lv) g_m))))) w_m)]) (C := [(mw Y ad_m (sA 64 (fun _ => nI un) (sA 62 ufarNow_8 (sA 61 (fun _ => ulots_7) (sA 60 urow_6 (sA 18 (fun _ => nI lv) g_m))))) w_m)]) (R := []) (List.Perm.refl _)) (fun r_11 u H locs hp_12 hW => ?_)
            have hp_12 : r_11 = paysTo t v2_19 (cn 3) := hp_12
            have hW : zW D A s.heap H locs (wj [(mw Y ad_m (sA 64 (fun _ => nI un) (sA 62 ufarNow_8 (sA 61 (fun _ => ulots_7) (sA 60 urow_6 (sA 18 (fun _ => nI lv) g_m))))) w_m)]) := hW.join
            refine lv_goto (tgt := 88) hx hb dX12_sales_84 (by decide) ?_
            refine z_ireti ((urow_6, ulots_7, ufarNow_8) : (Nat → Int32) × (Int32) × (Nat → Int32)) hx hb hr hlocks rfl hW rfl dX12_sales_88 ?_
            show r_11 = salesO cn t σ wx
            unfold salesO
            first | (exact Eq.symm (zi_f (by assumption) _ _); done) | (refine Eq.trans ?_ (Eq.symm (zi_t (show inP wx 0 1 from c_3) _ _)); rw [show 2 ^ cn 3 - 1 = s1 - 1 by omega, ← hv2]; first | (rw [if_pos hw]; assumption) | (rw [if_neg hw]))
        · have c_9 : ¬ (2 ^ cn 3 ≤ s1) := fun hz_ => c_9 ((nI_leI (a := 2 ^ cn 3) (b := s1) (by omega) (by omega)).mpr hz_)
          refine lv_iload_n hx hb dX12_sales_34 rfl (lv_at hl 0 rfl) ?_
          refine lv_aload_n hx hb dX12_sales_35 rfl (lv_at hl 2 rfl) ?_
          refine va_get (v := .ref (ad_m 60)) (C := RX12) (T := TX12) (N := 75) (ci := 11) hx hb hts in_X12 hown hK.1 hW.1 0 rfl rfl 60 (by decide) (hts _ q1696) (fun _ h9 => h9) rfl dX12_sales_36 ?_
          refine lv_bipush (v := 117) hx hb dX12_sales_39 (by decide) ?_
          refine z_iald (v := σ 16 0) (f := urow_6) (j := 117) hx hb hK.1 hW.1 43 0 rfl rfl (vp_in_nI (n := 117) (by omega) (by decide)) (by decide) (MR.s16 hp_5.1) dX12_sales_41 ?_
          refine lv_iand hx hb dX12_sales_42 ?_
          refine lv_if_ne (tgt := 69) hx hb dX12_sales_43 (by decide) (fun c_13 => ?_) (fun c_13 => ?_)
          · have hn1 := c_13
            refine lv_iinc (v := nI (s1 + 1)) (lv' := [(3, .int (nI (s1 + 1))), (2, .int v2_19), (0, .ref (ad_m 0)), (1, .int wx)]) hx hb dX12_sales_69 hl (k := 0) rfl (nI_add s1 1) (by decide) rfl (fun ls hl => ?_)
            refine lv_goto (tgt := 19) hx hb dX12_sales_72 (by decide) ?_
            exact ih_19 (s1 + 1) v2_19 (by omega) (by omega) (by
                rw [show s1 + 1 - 1 = (s1 - 1) + 1 by omega]
                simp only [saleTo]
                rw [show s1 - 1 + 1 = s1 by omega, ← hv2]
                first | exact (zi_f (fun q => hn1 q.1) _ _).symm | exact (zi_f (fun q => absurd q.2.1 hn2) _ _).symm | exact (zi_f (fun q => sale_no (by assumption) (by assumption) hn3 q.2.2) _ _).symm | exact (zi_t ⟨hy1, hy2, sale_yes (by assumption) (by assumption) hy3⟩ _ _).symm) _ _ hW _ (lv_sub hl [0, 1, 2, 3] rfl)
          · have hy1 := c_13
            refine lv_aload_n hx hb dX12_sales_46 rfl (lv_at hl 2 rfl) ?_
            refine lv_iload_n hx hb dX12_sales_47 rfl (lv_at hl 0 rfl) ?_
            refine z_calli (wc := wj [(mw Y ad_m (sA 64 (fun _ => nI un) (sA 62 ufarNow_8 (sA 61 (fun _ => ulots_7) (sA 60 urow_6 (sA 18 (fun _ => nI lv) g_m))))) w_m)]) (wr := wj []) (va_runV (As := [.int (nI s1)]) (rest := []) ⟨hx, hb, hml, hown, hts⟩ (m_X12_isEnough l D Y ad_m (sA 64 (fun _ => nI un) (sA 62 ufarNow_8 (sA 61 (fun _ => ulots_7) (sA 60 urow_6 (sA 18 (fun _ => nI lv) g_m))))) w_m lv cn t lw σ (nI s1) H.size (show lv < 2 from by exact hlv) (show TW cn t lw from by exact hTW) (show TM lv cn t lw (sA 64 (fun _ => nI un) (sA 62 ufarNow_8 (sA 61 (fun _ => ulots_7) (sA 60 urow_6 (sA 18 (fun _ => nI lv) g_m))))) from by exact hTM) (show RS cn σ urow_6 ufarNow_8 ulots_7 from by exact hp_5)) (cwV 1 hts (lw_V q2118 q2120 qs99 q133 q2121) rfl rfl rfl (by decide +kernel) ⟨Nat.le_of_ble_eq_true rfl, Nat.le_of_ble_eq_true rfl⟩) (zPreV hK hW hR (wj_split3 (B := [(mw Y ad_m (sA 64 (fun _ => nI un) (sA 62 ufarNow_8 (sA 61 (fun _ => ulots_7) (sA 60 urow_6 (sA 18 (fun _ => nI lv) g_m))))) w_m)]) (R := []) (C := [(mw Y ad_m (sA 64 (fun _ => nI un) (sA 62 ufarNow_8 (sA 61 (fun _ => ulots_7) (sA 60 urow_6 (sA 18 (fun _ => nI lv) g_m))))) w_m)]) (O := []) (X := []) (List.Perm.refl _)) (va_recv hK.1 hW.1 (ci := 11) (q0 := 0) rfl rfl)) rfl rfl hl.1 rfl (lv_room (Nat.le_of_ble_eq_true rfl)) dX12_sales_48 ⟨Nat.le_refl _, Nat.le_refl _⟩) hW hA (wj_split (B := [(mw Y ad_m (sA 64 (fun _ => nI un) (sA 62 ufarNow_8 (sA 61 (fun _ => ulots_7) (sA 60 urow_6 (sA 18 (fun _ => nI lv) g_m))))) w_m)]) (C := [(mw Y ad_m (sA 64 (fun _ => nI un) (sA 62 ufarNow_8 (sA 61 (fun _ => ulots_7) (sA 60 urow_6 (sA 18 (fun _ => nI lv) g_m))))) w_m)]) (R := []) (List.Perm.refl _)) (fun r_14 u H locs hp_15 hW => ?_)
            have hp_15 : r_14 = zb (enoughP cn t σ (nI s1)) := hp_15
            have hW : zW D A s.heap H locs (wj [(mw Y ad_m (sA 64 (fun _ => nI un) (sA 62 ufarNow_8 (sA 61 (fun _ => ulots_7) (sA 60 urow_6 (sA 18 (fun _ => nI lv) g_m))))) w_m)]) := hW.join
            refine lv_if_eq (tgt := 69) hx hb dX12_sales_51 (by decide) (fun c_16 => ?_) (fun c_16 => ?_)
            · have c_16 : ¬ (enoughP cn t σ (nI s1)) := zb_eq hp_15 c_16
              have hn2 := c_16
              refine lv_iinc (v := nI (s1 + 1)) (lv' := [(3, .int (nI (s1 + 1))), (2, .int v2_19), (0, .ref (ad_m 0)), (1, .int wx)]) hx hb dX12_sales_69 hl (k := 0) rfl (nI_add s1 1) (by decide) rfl (fun ls hl => ?_)
              refine lv_goto (tgt := 19) hx hb dX12_sales_72 (by decide) ?_
              exact ih_19 (s1 + 1) v2_19 (by omega) (by omega) (by
                  rw [show s1 + 1 - 1 = (s1 - 1) + 1 by omega]
                  simp only [saleTo]
                  rw [show s1 - 1 + 1 = s1 by omega, ← hv2]
                  first | exact (zi_f (fun q => hn1 q.1) _ _).symm | exact (zi_f (fun q => absurd q.2.1 hn2) _ _).symm | exact (zi_f (fun q => sale_no (by assumption) (by assumption) hn3 q.2.2) _ _).symm | exact (zi_t ⟨hy1, hy2, sale_yes (by assumption) (by assumption) hy3⟩ _ _).symm) _ _ hW _ (lv_sub hl [0, 1, 2, 3] rfl)
            · have c_16 : enoughP cn t σ (nI s1) := zb_ne hp_15 c_16
              have hy2 := c_16
              refine lv_aload_n hx hb dX12_sales_54 rfl (lv_at hl 2 rfl) ?_
              refine lv_iload_n hx hb dX12_sales_55 rfl (lv_at hl 0 rfl) ?_
              refine z_calli (wc := wj [(mw Y ad_m (sA 64 (fun _ => nI un) (sA 62 ufarNow_8 (sA 61 (fun _ => ulots_7) (sA 60 urow_6 (sA 18 (fun _ => nI lv) g_m))))) w_m)]) (wr := wj []) (va_runV (As := [.int (nI s1)]) (rest := []) ⟨hx, hb, hml, hown, hts⟩ (m_X12_paysOf l D Y ad_m (sA 64 (fun _ => nI un) (sA 62 ufarNow_8 (sA 61 (fun _ => ulots_7) (sA 60 urow_6 (sA 18 (fun _ => nI lv) g_m))))) w_m lv cn t lw (nI s1) H.size (show lv < 2 from by exact hlv) (show TW cn t lw from by exact hTW) (show TM lv cn t lw (sA 64 (fun _ => nI un) (sA 62 ufarNow_8 (sA 61 (fun _ => ulots_7) (sA 60 urow_6 (sA 18 (fun _ => nI lv) g_m))))) from by exact hTM)) (cwV 1 hts (lw_V q2130 q2132 qs101 q133 q2133) rfl rfl rfl (by decide +kernel) ⟨Nat.le_of_ble_eq_true rfl, Nat.le_of_ble_eq_true rfl⟩) (zPreV hK hW hR (wj_split3 (B := [(mw Y ad_m (sA 64 (fun _ => nI un) (sA 62 ufarNow_8 (sA 61 (fun _ => ulots_7) (sA 60 urow_6 (sA 18 (fun _ => nI lv) g_m))))) w_m)]) (R := []) (C := [(mw Y ad_m (sA 64 (fun _ => nI un) (sA 62 ufarNow_8 (sA 61 (fun _ => ulots_7) (sA 60 urow_6 (sA 18 (fun _ => nI lv) g_m))))) w_m)]) (O := []) (X := []) (List.Perm.refl _)) (va_recv hK.1 hW.1 (ci := 11) (q0 := 0) rfl rfl)) rfl rfl hl.1 rfl (lv_room (Nat.le_of_ble_eq_true rfl)) dX12_sales_56 ⟨Nat.le_refl _, Nat.le_refl _⟩) hW hA (wj_split (B := [(mw Y ad_m (sA 64 (fun _ => nI un) (sA 62 ufarNow_8 (sA 61 (fun _ => ulots_7) (sA 60 urow_6 (sA 18 (fun _ => nI lv) g_m))))) w_m)]) (C := [(mw Y ad_m (sA 64 (fun _ => nI un) (sA 62 ufarNow_8 (sA 61 (fun _ => ulots_7) (sA 60 urow_6 (sA 18 (fun _ => nI lv) g_m))))) w_m)]) (R := []) (List.Perm.refl _)) (fun r_17 u H locs hp_18 hW => ?_)
              have hp_18 : r_17 = paysTo t (nI s1) (cn 3) := hp_18
              have hW : zW D A s.heap H locs (wj [(mw Y ad_m (sA 64 (fun _ => nI un) (sA 62 ufarNow_8 (sA 61 (fun _ => ulots_7) (sA 60 urow_6 (sA 18 (fun _ => nI lv) g_m))))) w_m)]) := hW.join
              refine lv_aload_n hx hb dX12_sales_59 rfl (lv_at hl 2 rfl) ?_
              refine lv_iload_n hx hb dX12_sales_60 rfl (lv_at hl 1 rfl) ?_
              refine z_calli (wc := wj [(mw Y ad_m (sA 64 (fun _ => nI un) (sA 62 ufarNow_8 (sA 61 (fun _ => ulots_7) (sA 60 urow_6 (sA 18 (fun _ => nI lv) g_m))))) w_m)]) (wr := wj []) (va_runV (As := [.int v2_19]) (rest := [.int r_17]) ⟨hx, hb, hml, hown, hts⟩ (m_X12_paysOf l D Y ad_m (sA 64 (fun _ => nI un) (sA 62 ufarNow_8 (sA 61 (fun _ => ulots_7) (sA 60 urow_6 (sA 18 (fun _ => nI lv) g_m))))) w_m lv cn t lw v2_19 H.size (show lv < 2 from by exact hlv) (show TW cn t lw from by exact hTW) (show TM lv cn t lw (sA 64 (fun _ => nI un) (sA 62 ufarNow_8 (sA 61 (fun _ => ulots_7) (sA 60 urow_6 (sA 18 (fun _ => nI lv) g_m))))) from by exact hTM)) (cwV 1 hts (lw_V q2130 q2132 qs101 q133 q2133) rfl rfl rfl (by decide +kernel) ⟨Nat.le_of_ble_eq_true rfl, Nat.le_of_ble_eq_true rfl⟩) (zPreV hK hW hR (wj_split3 (B := [(mw Y ad_m (sA 64 (fun _ => nI un) (sA 62 ufarNow_8 (sA 61 (fun _ => ulots_7) (sA 60 urow_6 (sA 18 (fun _ => nI lv) g_m))))) w_m)]) (R := []) (C := [(mw Y ad_m (sA 64 (fun _ => nI un) (sA 62 ufarNow_8 (sA 61 (fun _ => ulots_7) (sA 60 urow_6 (sA 18 (fun _ => nI lv) g_m))))) w_m)]) (O := []) (X := []) (List.Perm.refl _)) (va_recv hK.1 hW.1 (ci := 11) (q0 := 0) rfl rfl)) rfl rfl hl.1 rfl (lv_room (Nat.le_of_ble_eq_true rfl)) dX12_sales_61 ⟨Nat.le_refl _, Nat.le_refl _⟩) hW hA (wj_split (B := [(mw Y ad_m (sA 64 (fun _ => nI un) (sA 62 ufarNow_8 (sA 61 (fun _ => ulots_7) (sA 60 urow_6 (sA 18 (fun _ => nI lv) g_m))))) w_m)]) (C := [(mw Y ad_m (sA 64 (fun _ => nI un) (sA 62 ufarNow_8 (sA 61 (fun _ => ulots_7) (sA 60 urow_6 (sA 18 (fun _ => nI lv) g_m))))) w_m)]) (R := []) (List.Perm.refl _)) (fun r_19 u H locs hp_20 hW => ?_)
              have hp_20 : r_19 = paysTo t v2_19 (cn 3) := hp_20
              have hW : zW D A s.heap H locs (wj [(mw Y ad_m (sA 64 (fun _ => nI un) (sA 62 ufarNow_8 (sA 61 (fun _ => ulots_7) (sA 60 urow_6 (sA 18 (fun _ => nI lv) g_m))))) w_m)]) := hW.join
              refine lv_icmp_le (tgt := 69) hx hb dX12_sales_64 (by decide) (fun c_21 => ?_) (fun c_21 => ?_)
              · have hn3 := c_21
                refine lv_iinc (v := nI (s1 + 1)) (lv' := [(3, .int (nI (s1 + 1))), (2, .int v2_19), (0, .ref (ad_m 0)), (1, .int wx)]) hx hb dX12_sales_69 hl (k := 0) rfl (nI_add s1 1) (by decide) rfl (fun ls hl => ?_)
                refine lv_goto (tgt := 19) hx hb dX12_sales_72 (by decide) ?_
                exact ih_19 (s1 + 1) v2_19 (by omega) (by omega) (by
                    rw [show s1 + 1 - 1 = (s1 - 1) + 1 by omega]
                    simp only [saleTo]
                    rw [show s1 - 1 + 1 = s1 by omega, ← hv2]
                    first | exact (zi_f (fun q => hn1 q.1) _ _).symm | exact (zi_f (fun q => absurd q.2.1 hn2) _ _).symm | exact (zi_f (fun q => sale_no (by assumption) (by assumption) hn3 q.2.2) _ _).symm | exact (zi_t ⟨hy1, hy2, sale_yes (by assumption) (by assumption) hy3⟩ _ _).symm) _ _ hW _ (lv_sub hl [0, 1, 2, 3] rfl)
              · have hy3 := c_21
                refine lv_iload_n hx hb dX12_sales_67 rfl (lv_at hl 0 rfl) ?_
                refine lv_istore_n (lv' := [(2, .int (nI s1)), (3, .int (nI s1)), (0, .ref (ad_m 0)), (1, .int wx)]) hx hb dX12_sales_68 rfl hl (by decide) rfl (fun ls hl => ?_)
                refine lv_iinc (v := nI (s1 + 1)) (lv' := [(3, .int (nI (s1 + 1))), (2, .int (nI s1)), (0, .ref (ad_m 0)), (1, .int wx)]) hx hb dX12_sales_69 hl (k := 1) rfl (nI_add s1 1) (by decide) rfl (fun ls hl => ?_)
                refine lv_goto (tgt := 19) hx hb dX12_sales_72 (by decide) ?_
                exact ih_19 (s1 + 1) (nI s1) (by omega) (by omega) (by
                    rw [show s1 + 1 - 1 = (s1 - 1) + 1 by omega]
                    simp only [saleTo]
                    rw [show s1 - 1 + 1 = s1 by omega, ← hv2]
                    first | exact (zi_f (fun q => hn1 q.1) _ _).symm | exact (zi_f (fun q => absurd q.2.1 hn2) _ _).symm | exact (zi_f (fun q => sale_no (by assumption) (by assumption) hn3 q.2.2) _ _).symm | exact (zi_t ⟨hy1, hy2, sale_yes (by assumption) (by assumption) hy3⟩ _ _).symm) _ _ hW _ (lv_sub hl [0, 1, 2, 3] rfl)
    exact loop_19 _ 1 0 (Nat.lt_succ_self _) (by omega) (by rfl) _ _ hW _ (lv_sub hl [0, 1, 2, 3] rfl)
  · have c_3 : ¬ (¬ wx < 0 ∧ ¬ 1 < wx) := zb_eq hp_2 c_3
    refine lv_iconst (v := (-1)) hx hb dX12_sales_9 (by decide) ?_
    refine z_ireti ((g_m 60, g_m 61 0, g_m 62) : (Nat → Int32) × (Int32) × (Nat → Int32)) hx hb hr hlocks rfl hW rfl dX12_sales_10 ?_
    show (-1) = salesO cn t σ wx
    unfold salesO
    first | (exact Eq.symm (zi_f (by assumption) _ _); done) | (refine Eq.trans ?_ (Eq.symm (zi_t hTW _ _)); rw [show 2 ^ cn 3 - 1 = s1 - 1 by omega, ← hv2]; first | (rw [if_pos hw]; assumption) | (rw [if_neg hw]))
set_option maxHeartbeats 4000000 in
set_option maxRecDepth 100000 in
theorem m_X12_then (l : Launch) (D : va_G) (Y : Nat → ClassId) (ad_m : Nat → Nat) (g_m : Nat → Nat → Int32) (w_m : Nat → Nat → Int64) (lv : Nat) (cn : Nat → Nat) (t : tab) (lw : Nat → Option LAW) (σ : tab) (U : List tab) (un : Nat) (B_ : Int) (kx : Int32) (wx : Int32) (sz : Nat) (hlv : lv < 2) (hTW : TW cn t lw) (hTM : TM lv cn t lw g_m) (hKN : KN (cn 2) σ U (g_m 59) (g_m 65) un) (hF1 : ∀ h, h < cn 1 → σ 1 h = t 2 h) (hF2 : σ 18 0 = t 12 2) (hWF : WF cn B_ σ) : Met l yX12_then (ws_ yX12_then cX12_then 3 (some .int)) ({ frames := 6, cells := 0, slots := 0, locals := 141 }) (zPc D Y [.ref (ad_m 0), .int kx, .int wx] sz (wj []) (wj [(mw Y ad_m (sA 64 (fun _ => nI un) (sA 18 (fun _ => nI lv) g_m)) w_m)])) (va_Qi (fun (r : Int32) (u : (Nat → Int32) × (Nat → Int32) × (Nat → Int32) × (Nat → Int32) × (Int32) × (Int32) × (Nat → Int32)) => r = thenO cn lw t σ kx wx) (zB D (fun (u : (Nat → Int32) × (Nat → Int32) × (Nat → Int32) × (Nat → Int32) × (Int32) × (Int32) × (Nat → Int32)) => (wj [(mw Y ad_m (sA 64 (fun _ => nI un) (sA 63 u.2.1 (sA 62 u.2.2.2.2.2.2 (sA 61 (fun _ => u.2.2.2.2.2.1) (sA 60 u.1 (sA 58 (fun _ => u.2.2.2.2.1) (sA 57 u.2.2.2.1 (sA 56 u.2.2.1 (sA 18 (fun _ => nI lv) g_m))))))))) w_m)])) (va_A (wj [(mw Y ad_m (sA 64 (fun _ => nI un) (sA 18 (fun _ => nI lv) g_m)) w_m)]) sz)) (va_A (wj [(mw Y ad_m (sA 64 (fun _ => nI un) (sA 18 (fun _ => nI lv) g_m)) w_m)]) sz)) 0 0 (va_A (wj [(mw Y ad_m (sA 64 (fun _ => nI un) (sA 18 (fun _ => nI lv) g_m)) w_m)]) sz) := by
  refine Met.ofW (cc := cX12_then) (maxL := 3) (ret := (some .int)) (by decide) rfl ?_
  intro p e s m args below meth c s₁ B hml hv
  obtain ⟨rfl, hsz, hW, hR, hK, hA⟩ := zEntry hv
  subst hsz
  have hx := B.exec
  have hb := B.bytes
  have hr := B.returns
  have hlocks := B.notSynchronized
  have hts : ∀ w ∈ lw_all, w.before _ s = true := fun w h => atoms_spec (ws := (ws_ yX12_then cX12_then 3 (some .int))) B.pre w (List.mem_cons_of_mem _ h)
  have hown : s.vm.findClass RX12 = some m.cls := findClass_of_methodNamed B.named
  generalize hAe : va_A (wj [(mw Y ad_m (sA 64 (fun _ => nI un) (sA 18 (fun _ => nI lv) g_m)) w_m)]) s.heap.size = A at hW hR hA ⊢
  have hl := lv_entry ([.ref (ad_m 0), .int kx, .int wx]) (n := 3) (Nat.le_of_ble_eq_true rfl)
  rw [lg_entry_eq]
  generalize (lg_sl ([.ref (ad_m 0), .int kx, .int wx]) ++ List.replicate (3 - (lg_sl ([.ref (ad_m 0), .int kx, .int wx])).length) Slot.unset).toArray = ls at hl ⊢
  have hl : lv_has ls 3 [(0, .ref (ad_m 0)), (1, .int kx), (2, .int wx)] := hl
  have hk8 := hTW.n2
  have hk6 := hTW.n1
  have hk60 := hTW.n0
  have hk5 := hTW.n3
  refine lv_iload_n hx hb dX12_then_0 rfl (lv_at hl 1 rfl) ?_
  refine z_calli (wc := wj []) (wr := wj [(mw Y ad_m (sA 64 (fun _ => nI un) (sA 18 (fun _ => nI lv) g_m)) w_m)]) (va_runS (As := [.int kx]) (rest := []) ⟨hx, hb, hml, hown, hts⟩ (m_X12_isLong l D Y kx s.heap.size) (va_cwS 1 hts (lw_S q2158 q2159 q133 q2160) rfl rfl rfl (by decide +kernel) ⟨Nat.le_of_ble_eq_true rfl, Nat.le_of_ble_eq_true rfl⟩) (zPre hK hW hR (wj_split3 (B := [(mw Y ad_m (sA 64 (fun _ => nI un) (sA 18 (fun _ => nI lv) g_m)) w_m)]) (R := []) (C := []) (O := []) (X := [(mw Y ad_m (sA 64 (fun _ => nI un) (sA 18 (fun _ => nI lv) g_m)) w_m)]) (List.Perm.refl _))) rfl rfl hl.1 rfl (lv_room (Nat.le_of_ble_eq_true rfl)) dX12_then_1 ⟨Nat.le_refl _, Nat.le_refl _⟩) hW hA (wj_split (B := [(mw Y ad_m (sA 64 (fun _ => nI un) (sA 18 (fun _ => nI lv) g_m)) w_m)]) (C := []) (R := [(mw Y ad_m (sA 64 (fun _ => nI un) (sA 18 (fun _ => nI lv) g_m)) w_m)]) (List.Perm.refl _)) (fun r_1 u H locs hp_2 hW => ?_)
  have hp_2 : r_1 = zb (inP kx 0 600) := hp_2
  have hW : zW D A s.heap H locs (wj [(mw Y ad_m (sA 64 (fun _ => nI un) (sA 18 (fun _ => nI lv) g_m)) w_m)]) := hW.join
  refine lv_if_eq (tgt := 16) hx hb dX12_then_4 (by decide) (fun c_3 => ?_) (fun c_3 => ?_)
  · have c_3 : ¬ (inP kx 0 600) := zb_eq hp_2 c_3
    refine lv_iconst (v := (-1)) hx hb dX12_then_16 (by decide) ?_
    refine z_ireti ((g_m 60, g_m 63, g_m 56, g_m 57, g_m 58 0, g_m 61 0, g_m 62) : (Nat → Int32) × (Nat → Int32) × (Nat → Int32) × (Nat → Int32) × (Int32) × (Int32) × (Nat → Int32)) hx hb hr hlocks rfl hW rfl dX12_then_17 ?_
    show (-1) = thenO cn lw t σ kx wx
    unfold thenO
    exact Eq.symm (zi_f (by first | (intro hq; exact absurd hq.1 (by assumption)) | (intro hq; exact absurd hq.2 (by assumption))) _ _)
  · have c_3 : inP kx 0 600 := zb_ne hp_2 c_3
    obtain ⟨kq, lkq, hkq, ekq⟩ := inP_nat (x := kx) (a := 0) (b := 600) c_3 (by omega) (by omega)
    have ckq : kx.toNatClampNeg = kq := by rw [ekq]; exact nI_clamp (by omega)
    refine lv_iload_n hx hb dX12_then_7 rfl (lv_at hl 2 rfl) ?_
    refine lv_iconst (v := 0) hx hb dX12_then_8 (by decide) ?_
    refine lv_iconst (v := 5) hx hb dX12_then_9 (by decide) ?_
    refine z_calli (wc := wj []) (wr := wj [(mw Y ad_m (sA 64 (fun _ => nI un) (sA 18 (fun _ => nI lv) g_m)) w_m)]) (va_runS (As := [.int wx, .int 0, .int 5]) (rest := []) ⟨hx, hb, hml, hown, hts⟩ (m_X12_in l D Y wx 0 5 H.size) (va_cwS 3 hts (lw_S q1997 q1998 q133 q1999) rfl rfl rfl (by decide +kernel) ⟨Nat.le_of_ble_eq_true rfl, Nat.le_of_ble_eq_true rfl⟩) (zPre hK hW hR (wj_split3 (B := [(mw Y ad_m (sA 64 (fun _ => nI un) (sA 18 (fun _ => nI lv) g_m)) w_m)]) (R := []) (C := []) (O := []) (X := [(mw Y ad_m (sA 64 (fun _ => nI un) (sA 18 (fun _ => nI lv) g_m)) w_m)]) (List.Perm.refl _))) rfl rfl hl.1 rfl (lv_room (Nat.le_of_ble_eq_true rfl)) dX12_then_10 ⟨Nat.le_refl _, Nat.le_refl _⟩) hW hA (wj_split (B := [(mw Y ad_m (sA 64 (fun _ => nI un) (sA 18 (fun _ => nI lv) g_m)) w_m)]) (C := []) (R := [(mw Y ad_m (sA 64 (fun _ => nI un) (sA 18 (fun _ => nI lv) g_m)) w_m)]) (List.Perm.refl _)) (fun r_4 u H locs hp_5 hW => ?_)
    have hp_5 : r_4 = zb (¬ wx < 0 ∧ ¬ 5 < wx) := hp_5
    have hW : zW D A s.heap H locs (wj [(mw Y ad_m (sA 64 (fun _ => nI un) (sA 18 (fun _ => nI lv) g_m)) w_m)]) := hW.join
    refine lv_if_ne (tgt := 18) hx hb dX12_then_13 (by decide) (fun c_6 => ?_) (fun c_6 => ?_)
    · have c_6 : ¬ wx < 0 ∧ ¬ 5 < wx := zb_ne hp_5 c_6
      refine lv_aload_n hx hb dX12_then_18 rfl (lv_at hl 0 rfl) ?_
      refine z_callv (wc := wj [(mw Y ad_m (sA 64 (fun _ => nI un) (sA 18 (fun _ => nI lv) g_m)) w_m)]) (wr := wj []) (va_runV (As := []) (rest := []) ⟨hx, hb, hml, hown, hts⟩ (m_X12_copies l D Y ad_m (sA 64 (fun _ => nI un) (sA 18 (fun _ => nI lv) g_m)) w_m lv cn t lw σ H.size (show lv < 2 from by exact hlv) (show TW cn t lw from by exact hTW) (show TM lv cn t lw (sA 64 (fun _ => nI un) (sA 18 (fun _ => nI lv) g_m)) from by exact hTM) (show MR (cn 2) σ (g_m 59) from by exact hKN.mr) (show ∀ h, h < cn 1 → σ 1 h = t 2 h from by exact hF1) (show σ 18 0 = t 12 2 from by exact hF2)) (cwV 0 hts (lw_V q2020 q2022 qs86 q133 q2023) rfl rfl rfl (by decide +kernel) ⟨Nat.le_of_ble_eq_true rfl, Nat.le_of_ble_eq_true rfl⟩) (zPreV hK hW hR (wj_split3 (B := [(mw Y ad_m (sA 64 (fun _ => nI un) (sA 18 (fun _ => nI lv) g_m)) w_m)]) (R := []) (C := [(mw Y ad_m (sA 64 (fun _ => nI un) (sA 18 (fun _ => nI lv) g_m)) w_m)]) (O := []) (X := []) (List.Perm.refl _)) (va_recv hK.1 hW.1 (ci := 11) (q0 := 0) rfl rfl)) rfl rfl hl.1 rfl (lv_room (Nat.le_of_ble_eq_true rfl)) dX12_then_19 ⟨Nat.le_refl _, Nat.le_refl _⟩) hW hA (wj_split (B := [(mw Y ad_m (sA 64 (fun _ => nI un) (sA 18 (fun _ => nI lv) g_m)) w_m)]) (C := [(mw Y ad_m (sA 64 (fun _ => nI un) (sA 18 (fun _ => nI lv) g_m)) w_m)]) (R := []) (List.Perm.refl _)) (fun  u H locs hp_8 hW => ?_)
      obtain ⟨urow_9, ulots_10, ufarNow_11⟩ := u
      have hp_8 : RS cn σ urow_9 ufarNow_11 ulots_10 := hp_8
      have hW : zW D A s.heap H locs (wj [(mw Y ad_m (sA 64 (fun _ => nI un) (sA 62 ufarNow_11 (sA 61 (fun _ => ulots_10) (sA 60 urow_9 (sA 18 (fun _ => nI lv) g_m))))) w_m)]) := hW.join
      refine lv_aload_n hx hb dX12_then_22 rfl (lv_at hl 0 rfl) ?_
      refine lv_iload_n hx hb dX12_then_23 rfl (lv_at hl 1 rfl) ?_
      refine lv_topi (nm_r (e' := nI kq) ekq ?_)
      refine z_callv (wc := wj [(mw Y ad_m (sA 64 (fun _ => nI un) (sA 62 ufarNow_11 (sA 61 (fun _ => ulots_10) (sA 60 urow_9 (sA 18 (fun _ => nI lv) g_m))))) w_m)]) (wr := wj []) (va_runV (As := [.int (nI kq)]) (rest := []) ⟨hx, hb, hml, hown, hts⟩ (m_X12_goes l D Y ad_m (sA 64 (fun _ => nI un) (sA 62 ufarNow_11 (sA 61 (fun _ => ulots_10) (sA 60 urow_9 (sA 18 (fun _ => nI lv) g_m))))) w_m lv cn t lw σ B_ kq H.size (show lv < 2 from by exact hlv) (show TW cn t lw from by exact hTW) (show TM lv cn t lw (sA 64 (fun _ => nI un) (sA 62 ufarNow_11 (sA 61 (fun _ => ulots_10) (sA 60 urow_9 (sA 18 (fun _ => nI lv) g_m))))) from by exact hTM) (show RS cn σ urow_9 ufarNow_11 ulots_10 from by exact hp_8) (show WF cn B_ σ from by exact hWF) (show kq < 2000 from by first | assumption | omega | grind)) (cwV 1 hts (lw_V q2039 q2041 qs88 q133 q2042) rfl rfl rfl (by decide +kernel) ⟨Nat.le_of_ble_eq_true rfl, Nat.le_of_ble_eq_true rfl⟩) (zPreV hK hW hR (wj_split3 (B := [(mw Y ad_m (sA 64 (fun _ => nI un) (sA 62 ufarNow_11 (sA 61 (fun _ => ulots_10) (sA 60 urow_9 (sA 18 (fun _ => nI lv) g_m))))) w_m)]) (R := []) (C := [(mw Y ad_m (sA 64 (fun _ => nI un) (sA 62 ufarNow_11 (sA 61 (fun _ => ulots_10) (sA 60 urow_9 (sA 18 (fun _ => nI lv) g_m))))) w_m)]) (O := []) (X := []) (List.Perm.refl _)) (va_recv hK.1 hW.1 (ci := 11) (q0 := 0) rfl rfl)) rfl rfl hl.1 rfl (lv_room (Nat.le_of_ble_eq_true rfl)) dX12_then_24 ⟨Nat.le_refl _, Nat.le_refl _⟩) hW hA (wj_split (B := [(mw Y ad_m (sA 64 (fun _ => nI un) (sA 62 ufarNow_11 (sA 61 (fun _ => ulots_10) (sA 60 urow_9 (sA 18 (fun _ => nI lv) g_m))))) w_m)]) (C := [(mw Y ad_m (sA 64 (fun _ => nI un) (sA 62 ufarNow_11 (sA 61 (fun _ => ulots_10) (sA 60 urow_9 (sA 18 (fun _ => nI lv) g_m))))) w_m)]) (R := []) (List.Perm.refl _)) (fun  u H locs hp_13 hW => ?_)
      obtain ⟨urow_14, uisLoaded_15, uvariables_16, upile_17, uisBroken_18⟩ := u
      have hp_13 : RS cn (runsP cn lw t σ kq) urow_14 ufarNow_11 ulots_10 := hp_13
      have hW : zW D A s.heap H locs (wj [(mw Y ad_m (sA 64 (fun _ => nI un) (sA 63 uisLoaded_15 (sA 62 ufarNow_11 (sA 61 (fun _ => ulots_10) (sA 60 urow_14 (sA 58 (fun _ => uisBroken_18) (sA 57 upile_17 (sA 56 uvariables_16 (sA 18 (fun _ => nI lv) g_m))))))))) w_m)]) := hW.join
      refine lv_iload_n hx hb dX12_then_27 rfl (lv_at hl 2 rfl) ?_
      by_cases c_19 : wx = (0 : Int32)
      · refine lv_tableIn (off := 36) (tgt := 64) hx hb dX12_then_28 (by rw [c_19]; decide) (by rw [c_19]; decide) (by rw [c_19]; rfl) (by decide) ?_
        refine lv_aload_n hx hb dX12_then_64 rfl (lv_at hl 0 rfl) ?_
        refine z_calli (wc := wj [(mw Y ad_m (sA 64 (fun _ => nI un) (sA 63 uisLoaded_15 (sA 62 ufarNow_11 (sA 61 (fun _ => ulots_10) (sA 60 urow_14 (sA 58 (fun _ => uisBroken_18) (sA 57 upile_17 (sA 56 uvariables_16 (sA 18 (fun _ => nI lv) g_m))))))))) w_m)]) (wr := wj []) (va_runV (As := []) (rest := []) ⟨hx, hb, hml, hown, hts⟩ (m_X12_worthAll l D Y ad_m (sA 64 (fun _ => nI un) (sA 63 uisLoaded_15 (sA 62 ufarNow_11 (sA 61 (fun _ => ulots_10) (sA 60 urow_14 (sA 58 (fun _ => uisBroken_18) (sA 57 upile_17 (sA 56 uvariables_16 (sA 18 (fun _ => nI lv) g_m))))))))) w_m lv cn t lw (runsP cn lw t σ kq) H.size (show lv < 2 from by exact hlv) (show TW cn t lw from by exact hTW) (show TM lv cn t lw (sA 64 (fun _ => nI un) (sA 63 uisLoaded_15 (sA 62 ufarNow_11 (sA 61 (fun _ => ulots_10) (sA 60 urow_14 (sA 58 (fun _ => uisBroken_18) (sA 57 upile_17 (sA 56 uvariables_16 (sA 18 (fun _ => nI lv) g_m))))))))) from by exact hTM) (show RS cn (runsP cn lw t σ kq) urow_14 ufarNow_11 ulots_10 from by exact hp_13)) (cwV 0 hts (lw_V q2161 q2163 qs104 q133 q2164) rfl rfl rfl (by decide +kernel) ⟨Nat.le_of_ble_eq_true rfl, Nat.le_of_ble_eq_true rfl⟩) (zPreV hK hW hR (wj_split3 (B := [(mw Y ad_m (sA 64 (fun _ => nI un) (sA 63 uisLoaded_15 (sA 62 ufarNow_11 (sA 61 (fun _ => ulots_10) (sA 60 urow_14 (sA 58 (fun _ => uisBroken_18) (sA 57 upile_17 (sA 56 uvariables_16 (sA 18 (fun _ => nI lv) g_m))))))))) w_m)]) (R := []) (C := [(mw Y ad_m (sA 64 (fun _ => nI un) (sA 63 uisLoaded_15 (sA 62 ufarNow_11 (sA 61 (fun _ => ulots_10) (sA 60 urow_14 (sA 58 (fun _ => uisBroken_18) (sA 57 upile_17 (sA 56 uvariables_16 (sA 18 (fun _ => nI lv) g_m))))))))) w_m)]) (O := []) (X := []) (List.Perm.refl _)) (va_recv hK.1 hW.1 (ci := 11) (q0 := 0) rfl rfl)) rfl rfl hl.1 rfl (lv_room (Nat.le_of_ble_eq_true rfl)) dX12_then_65 ⟨Nat.le_refl _, Nat.le_refl _⟩) hW hA (wj_split (B := [(mw Y ad_m (sA 64 (fun _ => nI un) (sA 63 uisLoaded_15 (sA 62 ufarNow_11 (sA 61 (fun _ => ulots_10) (sA 60 urow_14 (sA 58 (fun _ => uisBroken_18) (sA 57 upile_17 (sA 56 uvariables_16 (sA 18 (fun _ => nI lv) g_m))))))))) w_m)]) (C := [(mw Y ad_m (sA 64 (fun _ => nI un) (sA 63 uisLoaded_15 (sA 62 ufarNow_11 (sA 61 (fun _ => ulots_10) (sA 60 urow_14 (sA 58 (fun _ => uisBroken_18) (sA 57 upile_17 (sA 56 uvariables_16 (sA 18 (fun _ => nI lv) g_m))))))))) w_m)]) (R := []) (List.Perm.refl _)) (fun r_20 u H locs hp_21 hW => ?_)
        have hp_21 : r_20 = worthTo t (runsP cn lw t σ kq) (cn 1) := hp_21
        have hW : zW D A s.heap H locs (wj [(mw Y ad_m (sA 64 (fun _ => nI un) (sA 63 uisLoaded_15 (sA 62 ufarNow_11 (sA 61 (fun _ => ulots_10) (sA 60 urow_14 (sA 58 (fun _ => uisBroken_18) (sA 57 upile_17 (sA 56 uvariables_16 (sA 18 (fun _ => nI lv) g_m))))))))) w_m)]) := hW.join
        refine z_ireti ((urow_14, uisLoaded_15, uvariables_16, upile_17, uisBroken_18, ulots_10, ufarNow_11) : (Nat → Int32) × (Nat → Int32) × (Nat → Int32) × (Nat → Int32) × (Int32) × (Int32) × (Nat → Int32)) hx hb hr hlocks rfl hW rfl dX12_then_68 ?_
        show r_20 = thenO cn lw t σ kx wx
        unfold thenO
        refine Eq.trans ?_ (Eq.symm (zi_t ⟨c_3, (show inP wx 0 5 from c_6)⟩ _ _))
        rw [ckq]
        simp [thenW, c_19]
        try assumption
      by_cases c_22 : wx = (1 : Int32)
      · refine lv_tableIn (off := 41) (tgt := 69) hx hb dX12_then_28 (by rw [c_22]; decide) (by rw [c_22]; decide) (by rw [c_22]; rfl) (by decide) ?_
        refine lv_aload_n hx hb dX12_then_69 rfl (lv_at hl 0 rfl) ?_
        refine va_get (v := .ref (ad_m 60)) (C := RX12) (T := TX12) (N := 75) (ci := 11) hx hb hts in_X12 hown hK.1 hW.1 0 rfl rfl 60 (by decide) (hts _ q1696) (fun _ h9 => h9) rfl dX12_then_70 ?_
        refine lv_bipush (v := 115) hx hb dX12_then_73 (by decide) ?_
        refine z_iald (v := (runsP cn lw t σ kq) 14 0) (f := urow_14) (j := 115) hx hb hK.1 hW.1 43 0 rfl rfl (vp_in_nI (n := 115) (by omega) (by decide)) (by decide) (MR.s14 hp_13.1) dX12_then_75 ?_
        refine z_ireti ((urow_14, uisLoaded_15, uvariables_16, upile_17, uisBroken_18, ulots_10, ufarNow_11) : (Nat → Int32) × (Nat → Int32) × (Nat → Int32) × (Nat → Int32) × (Int32) × (Int32) × (Nat → Int32)) hx hb hr hlocks rfl hW rfl dX12_then_76 ?_
        show ((runsP cn lw t σ kq) 14 0) = thenO cn lw t σ kx wx
        unfold thenO
        refine Eq.trans ?_ (Eq.symm (zi_t ⟨c_3, (show inP wx 0 5 from c_6)⟩ _ _))
        rw [ckq]
        simp [thenW, c_22]
        try assumption
      by_cases c_23 : wx = (2 : Int32)
      · refine lv_tableIn (off := 49) (tgt := 77) hx hb dX12_then_28 (by rw [c_23]; decide) (by rw [c_23]; decide) (by rw [c_23]; rfl) (by decide) ?_
        refine lv_aload_n hx hb dX12_then_77 rfl (lv_at hl 0 rfl) ?_
        refine z_calli (wc := wj [(mw Y ad_m (sA 64 (fun _ => nI un) (sA 63 uisLoaded_15 (sA 62 ufarNow_11 (sA 61 (fun _ => ulots_10) (sA 60 urow_14 (sA 58 (fun _ => uisBroken_18) (sA 57 upile_17 (sA 56 uvariables_16 (sA 18 (fun _ => nI lv) g_m))))))))) w_m)]) (wr := wj []) (va_runV (As := []) (rest := []) ⟨hx, hb, hml, hown, hts⟩ (m_X12_inHeap l D Y ad_m (sA 64 (fun _ => nI un) (sA 63 uisLoaded_15 (sA 62 ufarNow_11 (sA 61 (fun _ => ulots_10) (sA 60 urow_14 (sA 58 (fun _ => uisBroken_18) (sA 57 upile_17 (sA 56 uvariables_16 (sA 18 (fun _ => nI lv) g_m))))))))) w_m lv cn t lw (runsP cn lw t σ kq) H.size (show lv < 2 from by exact hlv) (show TW cn t lw from by exact hTW) (show TM lv cn t lw (sA 64 (fun _ => nI un) (sA 63 uisLoaded_15 (sA 62 ufarNow_11 (sA 61 (fun _ => ulots_10) (sA 60 urow_14 (sA 58 (fun _ => uisBroken_18) (sA 57 upile_17 (sA 56 uvariables_16 (sA 18 (fun _ => nI lv) g_m))))))))) from by exact hTM) (show RS cn (runsP cn lw t σ kq) urow_14 ufarNow_11 ulots_10 from by exact hp_13)) (cwV 0 hts (lw_V q2165 q2167 qs105 q133 q2168) rfl rfl rfl (by decide +kernel) ⟨Nat.le_of_ble_eq_true rfl, Nat.le_of_ble_eq_true rfl⟩) (zPreV hK hW hR (wj_split3 (B := [(mw Y ad_m (sA 64 (fun _ => nI un) (sA 63 uisLoaded_15 (sA 62 ufarNow_11 (sA 61 (fun _ => ulots_10) (sA 60 urow_14 (sA 58 (fun _ => uisBroken_18) (sA 57 upile_17 (sA 56 uvariables_16 (sA 18 (fun _ => nI lv) g_m))))))))) w_m)]) (R := []) (C := [(mw Y ad_m (sA 64 (fun _ => nI un) (sA 63 uisLoaded_15 (sA 62 ufarNow_11 (sA 61 (fun _ => ulots_10) (sA 60 urow_14 (sA 58 (fun _ => uisBroken_18) (sA 57 upile_17 (sA 56 uvariables_16 (sA 18 (fun _ => nI lv) g_m))))))))) w_m)]) (O := []) (X := []) (List.Perm.refl _)) (va_recv hK.1 hW.1 (ci := 11) (q0 := 0) rfl rfl)) rfl rfl hl.1 rfl (lv_room (Nat.le_of_ble_eq_true rfl)) dX12_then_78 ⟨Nat.le_refl _, Nat.le_refl _⟩) hW hA (wj_split (B := [(mw Y ad_m (sA 64 (fun _ => nI un) (sA 63 uisLoaded_15 (sA 62 ufarNow_11 (sA 61 (fun _ => ulots_10) (sA 60 urow_14 (sA 58 (fun _ => uisBroken_18) (sA 57 upile_17 (sA 56 uvariables_16 (sA 18 (fun _ => nI lv) g_m))))))))) w_m)]) (C := [(mw Y ad_m (sA 64 (fun _ => nI un) (sA 63 uisLoaded_15 (sA 62 ufarNow_11 (sA 61 (fun _ => ulots_10) (sA 60 urow_14 (sA 58 (fun _ => uisBroken_18) (sA 57 upile_17 (sA 56 uvariables_16 (sA 18 (fun _ => nI lv) g_m))))))))) w_m)]) (R := []) (List.Perm.refl _)) (fun r_24 u H locs hp_25 hW => ?_)
        have hp_25 : r_24 = inHeapP (runsP cn lw t σ kq) := hp_25
        have hW : zW D A s.heap H locs (wj [(mw Y ad_m (sA 64 (fun _ => nI un) (sA 63 uisLoaded_15 (sA 62 ufarNow_11 (sA 61 (fun _ => ulots_10) (sA 60 urow_14 (sA 58 (fun _ => uisBroken_18) (sA 57 upile_17 (sA 56 uvariables_16 (sA 18 (fun _ => nI lv) g_m))))))))) w_m)]) := hW.join
        refine z_ireti ((urow_14, uisLoaded_15, uvariables_16, upile_17, uisBroken_18, ulots_10, ufarNow_11) : (Nat → Int32) × (Nat → Int32) × (Nat → Int32) × (Nat → Int32) × (Int32) × (Int32) × (Nat → Int32)) hx hb hr hlocks rfl hW rfl dX12_then_81 ?_
        show r_24 = thenO cn lw t σ kx wx
        unfold thenO
        refine Eq.trans ?_ (Eq.symm (zi_t ⟨c_3, (show inP wx 0 5 from c_6)⟩ _ _))
        rw [ckq]
        simp [thenW, c_23]
        try assumption
      by_cases c_26 : wx = (3 : Int32)
      · refine lv_tableIn (off := 54) (tgt := 82) hx hb dX12_then_28 (by rw [c_26]; decide) (by rw [c_26]; decide) (by rw [c_26]; rfl) (by decide) ?_
        refine lv_aload_n hx hb dX12_then_82 rfl (lv_at hl 0 rfl) ?_
        refine lv_iconst (v := 1) hx hb dX12_then_83 (by decide) ?_
        refine z_calli (wc := wj [(mw Y ad_m (sA 64 (fun _ => nI un) (sA 63 uisLoaded_15 (sA 62 ufarNow_11 (sA 61 (fun _ => ulots_10) (sA 60 urow_14 (sA 58 (fun _ => uisBroken_18) (sA 57 upile_17 (sA 56 uvariables_16 (sA 18 (fun _ => nI lv) g_m))))))))) w_m)]) (wr := wj []) (va_runV (As := [.int 1]) (rest := []) ⟨hx, hb, hml, hown, hts⟩ (m_X12_inHoles_1 l D Y ad_m (sA 64 (fun _ => nI un) (sA 63 uisLoaded_15 (sA 62 ufarNow_11 (sA 61 (fun _ => ulots_10) (sA 60 urow_14 (sA 58 (fun _ => uisBroken_18) (sA 57 upile_17 (sA 56 uvariables_16 (sA 18 (fun _ => nI lv) g_m))))))))) w_m lv cn t lw (runsP cn lw t σ kq) H.size (show lv < 2 from by exact hlv) (show TW cn t lw from by exact hTW) (show TM lv cn t lw (sA 64 (fun _ => nI un) (sA 63 uisLoaded_15 (sA 62 ufarNow_11 (sA 61 (fun _ => ulots_10) (sA 60 urow_14 (sA 58 (fun _ => uisBroken_18) (sA 57 upile_17 (sA 56 uvariables_16 (sA 18 (fun _ => nI lv) g_m))))))))) from by exact hTM) (show RS cn (runsP cn lw t σ kq) urow_14 ufarNow_11 ulots_10 from by exact hp_13)) (cwV 1 hts (lw_V q2169 q2171 qs106 q133 q2172) rfl rfl rfl (by decide +kernel) ⟨Nat.le_of_ble_eq_true rfl, Nat.le_of_ble_eq_true rfl⟩) (zPreV hK hW hR (wj_split3 (B := [(mw Y ad_m (sA 64 (fun _ => nI un) (sA 63 uisLoaded_15 (sA 62 ufarNow_11 (sA 61 (fun _ => ulots_10) (sA 60 urow_14 (sA 58 (fun _ => uisBroken_18) (sA 57 upile_17 (sA 56 uvariables_16 (sA 18 (fun _ => nI lv) g_m))))))))) w_m)]) (R := []) (C := [(mw Y ad_m (sA 64 (fun _ => nI un) (sA 63 uisLoaded_15 (sA 62 ufarNow_11 (sA 61 (fun _ => ulots_10) (sA 60 urow_14 (sA 58 (fun _ => uisBroken_18) (sA 57 upile_17 (sA 56 uvariables_16 (sA 18 (fun _ => nI lv) g_m))))))))) w_m)]) (O := []) (X := []) (List.Perm.refl _)) (va_recv hK.1 hW.1 (ci := 11) (q0 := 0) rfl rfl)) rfl rfl hl.1 rfl (lv_room (Nat.le_of_ble_eq_true rfl)) dX12_then_84 ⟨Nat.le_refl _, Nat.le_refl _⟩) hW hA (wj_split (B := [(mw Y ad_m (sA 64 (fun _ => nI un) (sA 63 uisLoaded_15 (sA 62 ufarNow_11 (sA 61 (fun _ => ulots_10) (sA 60 urow_14 (sA 58 (fun _ => uisBroken_18) (sA 57 upile_17 (sA 56 uvariables_16 (sA 18 (fun _ => nI lv) g_m))))))))) w_m)]) (C := [(mw Y ad_m (sA 64 (fun _ => nI un) (sA 63 uisLoaded_15 (sA 62 ufarNow_11 (sA 61 (fun _ => ulots_10) (sA 60 urow_14 (sA 58 (fun _ => uisBroken_18) (sA 57 upile_17 (sA 56 uvariables_16 (sA 18 (fun _ => nI lv) g_m))))))))) w_m)]) (R := []) (List.Perm.refl _)) (fun r_27 u H locs hp_28 hW => ?_)
        have hp_28 : r_27 = sortedTo t (runsP cn lw t σ kq) true (cn 1) := hp_28
        have hW : zW D A s.heap H locs (wj [(mw Y ad_m (sA 64 (fun _ => nI un) (sA 63 uisLoaded_15 (sA 62 ufarNow_11 (sA 61 (fun _ => ulots_10) (sA 60 urow_14 (sA 58 (fun _ => uisBroken_18) (sA 57 upile_17 (sA 56 uvariables_16 (sA 18 (fun _ => nI lv) g_m))))))))) w_m)]) := hW.join
        refine z_ireti ((urow_14, uisLoaded_15, uvariables_16, upile_17, uisBroken_18, ulots_10, ufarNow_11) : (Nat → Int32) × (Nat → Int32) × (Nat → Int32) × (Nat → Int32) × (Int32) × (Int32) × (Nat → Int32)) hx hb hr hlocks rfl hW rfl dX12_then_87 ?_
        show r_27 = thenO cn lw t σ kx wx
        unfold thenO
        refine Eq.trans ?_ (Eq.symm (zi_t ⟨c_3, (show inP wx 0 5 from c_6)⟩ _ _))
        rw [ckq]
        simp [thenW, c_26]
        try assumption
      by_cases c_29 : wx = (4 : Int32)
      · refine lv_tableIn (off := 60) (tgt := 88) hx hb dX12_then_28 (by rw [c_29]; decide) (by rw [c_29]; decide) (by rw [c_29]; rfl) (by decide) ?_
        refine lv_aload_n hx hb dX12_then_88 rfl (lv_at hl 0 rfl) ?_
        refine lv_iconst (v := 0) hx hb dX12_then_89 (by decide) ?_
        refine z_calli (wc := wj [(mw Y ad_m (sA 64 (fun _ => nI un) (sA 63 uisLoaded_15 (sA 62 ufarNow_11 (sA 61 (fun _ => ulots_10) (sA 60 urow_14 (sA 58 (fun _ => uisBroken_18) (sA 57 upile_17 (sA 56 uvariables_16 (sA 18 (fun _ => nI lv) g_m))))))))) w_m)]) (wr := wj []) (va_runV (As := [.int 0]) (rest := []) ⟨hx, hb, hml, hown, hts⟩ (m_X12_inHoles_0 l D Y ad_m (sA 64 (fun _ => nI un) (sA 63 uisLoaded_15 (sA 62 ufarNow_11 (sA 61 (fun _ => ulots_10) (sA 60 urow_14 (sA 58 (fun _ => uisBroken_18) (sA 57 upile_17 (sA 56 uvariables_16 (sA 18 (fun _ => nI lv) g_m))))))))) w_m lv cn t lw (runsP cn lw t σ kq) H.size (show lv < 2 from by exact hlv) (show TW cn t lw from by exact hTW) (show TM lv cn t lw (sA 64 (fun _ => nI un) (sA 63 uisLoaded_15 (sA 62 ufarNow_11 (sA 61 (fun _ => ulots_10) (sA 60 urow_14 (sA 58 (fun _ => uisBroken_18) (sA 57 upile_17 (sA 56 uvariables_16 (sA 18 (fun _ => nI lv) g_m))))))))) from by exact hTM) (show RS cn (runsP cn lw t σ kq) urow_14 ufarNow_11 ulots_10 from by exact hp_13)) (cwV 1 hts (lw_V q2169 q2171 qs106 q133 q2172) rfl rfl rfl (by decide +kernel) ⟨Nat.le_of_ble_eq_true rfl, Nat.le_of_ble_eq_true rfl⟩) (zPreV hK hW hR (wj_split3 (B := [(mw Y ad_m (sA 64 (fun _ => nI un) (sA 63 uisLoaded_15 (sA 62 ufarNow_11 (sA 61 (fun _ => ulots_10) (sA 60 urow_14 (sA 58 (fun _ => uisBroken_18) (sA 57 upile_17 (sA 56 uvariables_16 (sA 18 (fun _ => nI lv) g_m))))))))) w_m)]) (R := []) (C := [(mw Y ad_m (sA 64 (fun _ => nI un) (sA 63 uisLoaded_15 (sA 62 ufarNow_11 (sA 61 (fun _ => ulots_10) (sA 60 urow_14 (sA 58 (fun _ => uisBroken_18) (sA 57 upile_17 (sA 56 uvariables_16 (sA 18 (fun _ => nI lv) g_m))))))))) w_m)]) (O := []) (X := []) (List.Perm.refl _)) (va_recv hK.1 hW.1 (ci := 11) (q0 := 0) rfl rfl)) rfl rfl hl.1 rfl (lv_room (Nat.le_of_ble_eq_true rfl)) dX12_then_90 ⟨Nat.le_refl _, Nat.le_refl _⟩) hW hA (wj_split (B := [(mw Y ad_m (sA 64 (fun _ => nI un) (sA 63 uisLoaded_15 (sA 62 ufarNow_11 (sA 61 (fun _ => ulots_10) (sA 60 urow_14 (sA 58 (fun _ => uisBroken_18) (sA 57 upile_17 (sA 56 uvariables_16 (sA 18 (fun _ => nI lv) g_m))))))))) w_m)]) (C := [(mw Y ad_m (sA 64 (fun _ => nI un) (sA 63 uisLoaded_15 (sA 62 ufarNow_11 (sA 61 (fun _ => ulots_10) (sA 60 urow_14 (sA 58 (fun _ => uisBroken_18) (sA 57 upile_17 (sA 56 uvariables_16 (sA 18 (fun _ => nI lv) g_m))))))))) w_m)]) (R := []) (List.Perm.refl _)) (fun r_30 u H locs hp_31 hW => ?_)
        have hp_31 : r_30 = sortedTo t (runsP cn lw t σ kq) false (cn 1) := hp_31
        have hW : zW D A s.heap H locs (wj [(mw Y ad_m (sA 64 (fun _ => nI un) (sA 63 uisLoaded_15 (sA 62 ufarNow_11 (sA 61 (fun _ => ulots_10) (sA 60 urow_14 (sA 58 (fun _ => uisBroken_18) (sA 57 upile_17 (sA 56 uvariables_16 (sA 18 (fun _ => nI lv) g_m))))))))) w_m)]) := hW.join
        refine z_ireti ((urow_14, uisLoaded_15, uvariables_16, upile_17, uisBroken_18, ulots_10, ufarNow_11) : (Nat → Int32) × (Nat → Int32) × (Nat → Int32) × (Nat → Int32) × (Int32) × (Int32) × (Nat → Int32)) hx hb hr hlocks rfl hW rfl dX12_then_93 ?_
        show r_30 = thenO cn lw t σ kx wx
        unfold thenO
        refine Eq.trans ?_ (Eq.symm (zi_t ⟨c_3, (show inP wx 0 5 from c_6)⟩ _ _))
        rw [ckq]
        simp [thenW, c_29]
        try assumption
      have hsw : wx.toInt < 0 ∨ 4 < wx.toInt := by
        have hc_19 := lv_neT c_19 (a := 0) (by decide)
        have hc_22 := lv_neT c_22 (a := 1) (by decide)
        have hc_23 := lv_neT c_23 (a := 2) (by decide)
        have hc_26 := lv_neT c_26 (a := 3) (by decide)
        have hc_29 := lv_neT c_29 (a := 4) (by decide)
        omega
      refine lv_tableOut (tgt := 94) hx hb dX12_then_28 hsw (by decide) ?_
      refine lv_aload_n hx hb dX12_then_94 rfl (lv_at hl 0 rfl) ?_
      refine va_get (v := .ref (ad_m 60)) (C := RX12) (T := TX12) (N := 75) (ci := 11) hx hb hts in_X12 hown hK.1 hW.1 0 rfl rfl 60 (by decide) (hts _ q1696) (fun _ h9 => h9) rfl dX12_then_95 ?_
      refine lv_bipush (v := 119) hx hb dX12_then_98 (by decide) ?_
      refine z_iald (v := (runsP cn lw t σ kq) 17 0) (f := urow_14) (j := 119) hx hb hK.1 hW.1 43 0 rfl rfl (vp_in_nI (n := 119) (by omega) (by decide)) (by decide) (MR.s17 hp_13.1) dX12_then_100 ?_
      refine z_ireti ((urow_14, uisLoaded_15, uvariables_16, upile_17, uisBroken_18, ulots_10, ufarNow_11) : (Nat → Int32) × (Nat → Int32) × (Nat → Int32) × (Nat → Int32) × (Int32) × (Int32) × (Nat → Int32)) hx hb hr hlocks rfl hW rfl dX12_then_101 ?_
      show ((runsP cn lw t σ kq) 17 0) = thenO cn lw t σ kx wx
      unfold thenO
      refine Eq.trans ?_ (Eq.symm (zi_t ⟨c_3, (show inP wx 0 5 from c_6)⟩ _ _))
      rw [ckq]
      simp [thenW, c_19, c_22, c_23, c_26, c_29]
      try assumption
    · have c_6 : ¬ (¬ wx < 0 ∧ ¬ 5 < wx) := zb_eq hp_5 c_6
      refine lv_iconst (v := (-1)) hx hb dX12_then_16 (by decide) ?_
      refine z_ireti ((g_m 60, g_m 63, g_m 56, g_m 57, g_m 58 0, g_m 61 0, g_m 62) : (Nat → Int32) × (Nat → Int32) × (Nat → Int32) × (Nat → Int32) × (Int32) × (Int32) × (Nat → Int32)) hx hb hr hlocks rfl hW rfl dX12_then_17 ?_
      show (-1) = thenO cn lw t σ kx wx
      unfold thenO
      exact Eq.symm (zi_f (by first | (intro hq; exact absurd hq.1 (by assumption)) | (intro hq; exact absurd hq.2 (by assumption))) _ _)
set_option maxHeartbeats 4000000 in
set_option maxRecDepth 100000 in
theorem m_X12_lies (l : Launch) (D : va_G) (Y : Nat → ClassId) (ad_m : Nat → Nat) (g_m : Nat → Nat → Int32) (w_m : Nat → Nat → Int64) (lv : Nat) (cn : Nat → Nat) (t : tab) (lw : Nat → Option LAW) (σ : tab) (U : List tab) (un : Nat) (B_ : Int) (kx : Int32) (ax : Int32) (gx : Int32) (sz : Nat) (hlv : lv < 2) (hTW : TW cn t lw) (hTM : TM lv cn t lw g_m) (hKN : KN (cn 2) σ U (g_m 59) (g_m 65) un) (hF1 : ∀ h, h < cn 1 → σ 1 h = t 2 h) (hF2 : σ 18 0 = t 12 2) (hWF : WF cn B_ σ) : Met l yX12_lies (ws_ yX12_lies cX12_lies 4 (some .int)) ({ frames := 6, cells := 0, slots := 0, locals := 141 }) (zPc D Y [.ref (ad_m 0), .int kx, .int ax, .int gx] sz (wj []) (wj [(mw Y ad_m (sA 64 (fun _ => nI un) (sA 18 (fun _ => nI lv) g_m)) w_m)])) (va_Qi (fun (r : Int32) (u : (Nat → Int32) × (Nat → Int32) × (Nat → Int32) × (Nat → Int32) × (Int32) × (Int32) × (Nat → Int32)) => r = liesO cn lw t σ kx ax gx) (zB D (fun (u : (Nat → Int32) × (Nat → Int32) × (Nat → Int32) × (Nat → Int32) × (Int32) × (Int32) × (Nat → Int32)) => (wj [(mw Y ad_m (sA 64 (fun _ => nI un) (sA 63 u.2.1 (sA 62 u.2.2.2.2.2.2 (sA 61 (fun _ => u.2.2.2.2.2.1) (sA 60 u.1 (sA 58 (fun _ => u.2.2.2.2.1) (sA 57 u.2.2.2.1 (sA 56 u.2.2.1 (sA 18 (fun _ => nI lv) g_m))))))))) w_m)])) (va_A (wj [(mw Y ad_m (sA 64 (fun _ => nI un) (sA 18 (fun _ => nI lv) g_m)) w_m)]) sz)) (va_A (wj [(mw Y ad_m (sA 64 (fun _ => nI un) (sA 18 (fun _ => nI lv) g_m)) w_m)]) sz)) 0 0 (va_A (wj [(mw Y ad_m (sA 64 (fun _ => nI un) (sA 18 (fun _ => nI lv) g_m)) w_m)]) sz) := by
  refine Met.ofW (cc := cX12_lies) (maxL := 4) (ret := (some .int)) (by decide) rfl ?_
  intro p e s m args below meth c s₁ B hml hv
  obtain ⟨rfl, hsz, hW, hR, hK, hA⟩ := zEntry hv
  subst hsz
  have hx := B.exec
  have hb := B.bytes
  have hr := B.returns
  have hlocks := B.notSynchronized
  have hts : ∀ w ∈ lw_all, w.before _ s = true := fun w h => atoms_spec (ws := (ws_ yX12_lies cX12_lies 4 (some .int))) B.pre w (List.mem_cons_of_mem _ h)
  have hown : s.vm.findClass RX12 = some m.cls := findClass_of_methodNamed B.named
  generalize hAe : va_A (wj [(mw Y ad_m (sA 64 (fun _ => nI un) (sA 18 (fun _ => nI lv) g_m)) w_m)]) s.heap.size = A at hW hR hA ⊢
  have hl := lv_entry ([.ref (ad_m 0), .int kx, .int ax, .int gx]) (n := 4) (Nat.le_of_ble_eq_true rfl)
  rw [lg_entry_eq]
  generalize (lg_sl ([.ref (ad_m 0), .int kx, .int ax, .int gx]) ++ List.replicate (4 - (lg_sl ([.ref (ad_m 0), .int kx, .int ax, .int gx])).length) Slot.unset).toArray = ls at hl ⊢
  have hl : lv_has ls 4 [(0, .ref (ad_m 0)), (1, .int kx), (2, .int ax), (3, .int gx)] := hl
  have hk8 := hTW.n2
  have hk6 := hTW.n1
  have hk60 := hTW.n0
  have hk5 := hTW.n3
  refine lv_iload_n hx hb dX12_lies_0 rfl (lv_at hl 1 rfl) ?_
  refine z_calli (wc := wj []) (wr := wj [(mw Y ad_m (sA 64 (fun _ => nI un) (sA 18 (fun _ => nI lv) g_m)) w_m)]) (va_runS (As := [.int kx]) (rest := []) ⟨hx, hb, hml, hown, hts⟩ (m_X12_isLong l D Y kx s.heap.size) (va_cwS 1 hts (lw_S q2158 q2159 q133 q2160) rfl rfl rfl (by decide +kernel) ⟨Nat.le_of_ble_eq_true rfl, Nat.le_of_ble_eq_true rfl⟩) (zPre hK hW hR (wj_split3 (B := [(mw Y ad_m (sA 64 (fun _ => nI un) (sA 18 (fun _ => nI lv) g_m)) w_m)]) (R := []) (C := []) (O := []) (X := [(mw Y ad_m (sA 64 (fun _ => nI un) (sA 18 (fun _ => nI lv) g_m)) w_m)]) (List.Perm.refl _))) rfl rfl hl.1 rfl (lv_room (Nat.le_of_ble_eq_true rfl)) dX12_lies_1 ⟨Nat.le_refl _, Nat.le_refl _⟩) hW hA (wj_split (B := [(mw Y ad_m (sA 64 (fun _ => nI un) (sA 18 (fun _ => nI lv) g_m)) w_m)]) (C := []) (R := [(mw Y ad_m (sA 64 (fun _ => nI un) (sA 18 (fun _ => nI lv) g_m)) w_m)]) (List.Perm.refl _)) (fun r_1 u H locs hp_2 hW => ?_)
  have hp_2 : r_1 = zb (inP kx 0 600) := hp_2
  have hW : zW D A s.heap H locs (wj [(mw Y ad_m (sA 64 (fun _ => nI un) (sA 18 (fun _ => nI lv) g_m)) w_m)]) := hW.join
  refine lv_if_eq (tgt := 28) hx hb dX12_lies_4 (by decide) (fun c_3 => ?_) (fun c_3 => ?_)
  · have c_3 : ¬ (inP kx 0 600) := zb_eq hp_2 c_3
    refine lv_iconst (v := (-1)) hx hb dX12_lies_28 (by decide) ?_
    refine z_ireti ((g_m 60, g_m 63, g_m 56, g_m 57, g_m 58 0, g_m 61 0, g_m 62) : (Nat → Int32) × (Nat → Int32) × (Nat → Int32) × (Nat → Int32) × (Int32) × (Int32) × (Nat → Int32)) hx hb hr hlocks rfl hW rfl dX12_lies_29 ?_
    show (-1) = liesO cn lw t σ kx ax gx
    unfold liesO
    exact Eq.symm (zi_f (by first | (intro hq; exact absurd hq.1 (by assumption)) | (intro hq; exact absurd hq.2.2 (by assumption)) | grind) _ _)
  · have c_3 : inP kx 0 600 := zb_ne hp_2 c_3
    obtain ⟨kq, lkq, hkq, ekq⟩ := inP_nat (x := kx) (a := 0) (b := 600) c_3 (by omega) (by omega)
    have ckq : kx.toNatClampNeg = kq := by rw [ekq]; exact nI_clamp (by omega)
    refine lv_iload_n hx hb dX12_lies_7 rfl (lv_at hl 2 rfl) ?_
    refine lv_iconst (v := (-1)) hx hb dX12_lies_8 (by decide) ?_
    refine lv_icmp_eq (tgt := 20) hx hb dX12_lies_9 (by decide) (fun c_4 => ?_) (fun c_4 => ?_)
    · refine lv_aload_n hx hb dX12_lies_20 rfl (lv_at hl 0 rfl) ?_
      refine lv_iload_n hx hb dX12_lies_21 rfl (lv_at hl 3 rfl) ?_
      refine z_calli (wc := wj [(mw Y ad_m (sA 64 (fun _ => nI un) (sA 18 (fun _ => nI lv) g_m)) w_m)]) (wr := wj []) (va_runV (As := [.int gx]) (rest := []) ⟨hx, hb, hml, hown, hts⟩ (m_X12_isGrain l D Y ad_m (sA 64 (fun _ => nI un) (sA 18 (fun _ => nI lv) g_m)) w_m lv cn t lw gx H.size (show lv < 2 from by exact hlv) (show TW cn t lw from by exact hTW) (show TM lv cn t lw (sA 64 (fun _ => nI un) (sA 18 (fun _ => nI lv) g_m)) from by exact hTM)) (cwV 1 hts (lw_V q1993 q1995 qs83 q133 q1996) rfl rfl rfl (by decide +kernel) ⟨Nat.le_of_ble_eq_true rfl, Nat.le_of_ble_eq_true rfl⟩) (zPreV hK hW hR (wj_split3 (B := [(mw Y ad_m (sA 64 (fun _ => nI un) (sA 18 (fun _ => nI lv) g_m)) w_m)]) (R := []) (C := [(mw Y ad_m (sA 64 (fun _ => nI un) (sA 18 (fun _ => nI lv) g_m)) w_m)]) (O := []) (X := []) (List.Perm.refl _)) (va_recv hK.1 hW.1 (ci := 11) (q0 := 0) rfl rfl)) rfl rfl hl.1 rfl (lv_room (Nat.le_of_ble_eq_true rfl)) dX12_lies_22 ⟨Nat.le_refl _, Nat.le_refl _⟩) hW hA (wj_split (B := [(mw Y ad_m (sA 64 (fun _ => nI un) (sA 18 (fun _ => nI lv) g_m)) w_m)]) (C := [(mw Y ad_m (sA 64 (fun _ => nI un) (sA 18 (fun _ => nI lv) g_m)) w_m)]) (R := []) (List.Perm.refl _)) (fun r_5 u H locs hp_6 hW => ?_)
      have hp_6 : r_5 = zb (vp_in gx (cn 0)) := hp_6
      have hW : zW D A s.heap H locs (wj [(mw Y ad_m (sA 64 (fun _ => nI un) (sA 18 (fun _ => nI lv) g_m)) w_m)]) := hW.join
      refine lv_if_ne (tgt := 30) hx hb dX12_lies_25 (by decide) (fun c_7 => ?_) (fun c_7 => ?_)
      · have c_7 : vp_in gx (cn 0) := zb_ne hp_6 c_7
        obtain ⟨gn, hgn, egn⟩ := vp_in_of c_7 (by omega)
        have cgn : gx.toNatClampNeg = gn := by rw [egn]; exact nI_clamp (by omega)
        refine lv_aload_n hx hb dX12_lies_30 rfl (lv_at hl 0 rfl) ?_
        refine z_callv (wc := wj [(mw Y ad_m (sA 64 (fun _ => nI un) (sA 18 (fun _ => nI lv) g_m)) w_m)]) (wr := wj []) (va_runV (As := []) (rest := []) ⟨hx, hb, hml, hown, hts⟩ (m_X12_copies l D Y ad_m (sA 64 (fun _ => nI un) (sA 18 (fun _ => nI lv) g_m)) w_m lv cn t lw σ H.size (show lv < 2 from by exact hlv) (show TW cn t lw from by exact hTW) (show TM lv cn t lw (sA 64 (fun _ => nI un) (sA 18 (fun _ => nI lv) g_m)) from by exact hTM) (show MR (cn 2) σ (g_m 59) from by exact hKN.mr) (show ∀ h, h < cn 1 → σ 1 h = t 2 h from by exact hF1) (show σ 18 0 = t 12 2 from by exact hF2)) (cwV 0 hts (lw_V q2020 q2022 qs86 q133 q2023) rfl rfl rfl (by decide +kernel) ⟨Nat.le_of_ble_eq_true rfl, Nat.le_of_ble_eq_true rfl⟩) (zPreV hK hW hR (wj_split3 (B := [(mw Y ad_m (sA 64 (fun _ => nI un) (sA 18 (fun _ => nI lv) g_m)) w_m)]) (R := []) (C := [(mw Y ad_m (sA 64 (fun _ => nI un) (sA 18 (fun _ => nI lv) g_m)) w_m)]) (O := []) (X := []) (List.Perm.refl _)) (va_recv hK.1 hW.1 (ci := 11) (q0 := 0) rfl rfl)) rfl rfl hl.1 rfl (lv_room (Nat.le_of_ble_eq_true rfl)) dX12_lies_31 ⟨Nat.le_refl _, Nat.le_refl _⟩) hW hA (wj_split (B := [(mw Y ad_m (sA 64 (fun _ => nI un) (sA 18 (fun _ => nI lv) g_m)) w_m)]) (C := [(mw Y ad_m (sA 64 (fun _ => nI un) (sA 18 (fun _ => nI lv) g_m)) w_m)]) (R := []) (List.Perm.refl _)) (fun  u H locs hp_9 hW => ?_)
        obtain ⟨urow_10, ulots_11, ufarNow_12⟩ := u
        have hp_9 : RS cn σ urow_10 ufarNow_12 ulots_11 := hp_9
        have hW : zW D A s.heap H locs (wj [(mw Y ad_m (sA 64 (fun _ => nI un) (sA 62 ufarNow_12 (sA 61 (fun _ => ulots_11) (sA 60 urow_10 (sA 18 (fun _ => nI lv) g_m))))) w_m)]) := hW.join
        refine lv_aload_n hx hb dX12_lies_34 rfl (lv_at hl 0 rfl) ?_
        refine lv_iload_n hx hb dX12_lies_35 rfl (lv_at hl 1 rfl) ?_
        refine lv_topi (nm_r (e' := nI kq) ekq ?_)
        refine z_callv (wc := wj [(mw Y ad_m (sA 64 (fun _ => nI un) (sA 62 ufarNow_12 (sA 61 (fun _ => ulots_11) (sA 60 urow_10 (sA 18 (fun _ => nI lv) g_m))))) w_m)]) (wr := wj []) (va_runV (As := [.int (nI kq)]) (rest := []) ⟨hx, hb, hml, hown, hts⟩ (m_X12_goes l D Y ad_m (sA 64 (fun _ => nI un) (sA 62 ufarNow_12 (sA 61 (fun _ => ulots_11) (sA 60 urow_10 (sA 18 (fun _ => nI lv) g_m))))) w_m lv cn t lw σ B_ kq H.size (show lv < 2 from by exact hlv) (show TW cn t lw from by exact hTW) (show TM lv cn t lw (sA 64 (fun _ => nI un) (sA 62 ufarNow_12 (sA 61 (fun _ => ulots_11) (sA 60 urow_10 (sA 18 (fun _ => nI lv) g_m))))) from by exact hTM) (show RS cn σ urow_10 ufarNow_12 ulots_11 from by exact hp_9) (show WF cn B_ σ from by exact hWF) (show kq < 2000 from by first | assumption | omega | grind)) (cwV 1 hts (lw_V q2039 q2041 qs88 q133 q2042) rfl rfl rfl (by decide +kernel) ⟨Nat.le_of_ble_eq_true rfl, Nat.le_of_ble_eq_true rfl⟩) (zPreV hK hW hR (wj_split3 (B := [(mw Y ad_m (sA 64 (fun _ => nI un) (sA 62 ufarNow_12 (sA 61 (fun _ => ulots_11) (sA 60 urow_10 (sA 18 (fun _ => nI lv) g_m))))) w_m)]) (R := []) (C := [(mw Y ad_m (sA 64 (fun _ => nI un) (sA 62 ufarNow_12 (sA 61 (fun _ => ulots_11) (sA 60 urow_10 (sA 18 (fun _ => nI lv) g_m))))) w_m)]) (O := []) (X := []) (List.Perm.refl _)) (va_recv hK.1 hW.1 (ci := 11) (q0 := 0) rfl rfl)) rfl rfl hl.1 rfl (lv_room (Nat.le_of_ble_eq_true rfl)) dX12_lies_36 ⟨Nat.le_refl _, Nat.le_refl _⟩) hW hA (wj_split (B := [(mw Y ad_m (sA 64 (fun _ => nI un) (sA 62 ufarNow_12 (sA 61 (fun _ => ulots_11) (sA 60 urow_10 (sA 18 (fun _ => nI lv) g_m))))) w_m)]) (C := [(mw Y ad_m (sA 64 (fun _ => nI un) (sA 62 ufarNow_12 (sA 61 (fun _ => ulots_11) (sA 60 urow_10 (sA 18 (fun _ => nI lv) g_m))))) w_m)]) (R := []) (List.Perm.refl _)) (fun  u H locs hp_14 hW => ?_)
        obtain ⟨urow_15, uisLoaded_16, uvariables_17, upile_18, uisBroken_19⟩ := u
        have hp_14 : RS cn (runsP cn lw t σ kq) urow_15 ufarNow_12 ulots_11 := hp_14
        have hW : zW D A s.heap H locs (wj [(mw Y ad_m (sA 64 (fun _ => nI un) (sA 63 uisLoaded_16 (sA 62 ufarNow_12 (sA 61 (fun _ => ulots_11) (sA 60 urow_15 (sA 58 (fun _ => uisBroken_19) (sA 57 upile_18 (sA 56 uvariables_17 (sA 18 (fun _ => nI lv) g_m))))))))) w_m)]) := hW.join
        refine lv_iload_n hx hb dX12_lies_39 rfl (lv_at hl 2 rfl) ?_
        refine lv_iconst (v := (-1)) hx hb dX12_lies_40 (by decide) ?_
        refine lv_icmp_ne (tgt := 53) hx hb dX12_lies_41 (by decide) (fun c_20 => ?_) (fun c_20 => ?_)
        · exact absurd c_4 c_20
        · refine lv_aload_n hx hb dX12_lies_44 rfl (lv_at hl 0 rfl) ?_
          refine va_get (v := .ref (ad_m 60)) (C := RX12) (T := TX12) (N := 75) (ci := 11) hx hb hts in_X12 hown hK.1 hW.1 0 rfl rfl 60 (by decide) (hts _ q1696) (fun _ h9 => h9) rfl dX12_lies_45 ?_
          refine lv_iload_n hx hb dX12_lies_48 rfl (lv_at hl 3 rfl) ?_
          refine lv_topi (nm_r (e' := nI gn) egn ?_)
          refine z_iald (v := (runsP cn lw t σ kq) 0 gn) (f := urow_15) (j := gn) hx hb hK.1 hW.1 43 0 rfl rfl (vp_in_nI (n := gn) (by omega) (by decide)) (nI_clamp (n := gn) (by omega)) (MR.heap hp_14.1 (g := gn) (by omega)) dX12_lies_49 ?_
          refine lv_goto (tgt := 67) hx hb dX12_lies_50 (by decide) ?_
          refine z_ireti ((urow_15, uisLoaded_16, uvariables_17, upile_18, uisBroken_19, ulots_11, ufarNow_12) : (Nat → Int32) × (Nat → Int32) × (Nat → Int32) × (Nat → Int32) × (Int32) × (Int32) × (Nat → Int32)) hx hb hr hlocks rfl hW rfl dX12_lies_67 ?_
          show ((runsP cn lw t σ kq) 0 gn) = liesO cn lw t σ kx ax gx
          unfold liesO
          refine Eq.trans ?_ (Eq.symm (zi_t ⟨c_3, Or.inl c_4, c_7⟩ _ _))
          rw [ckq, cgn]
          unfold liesW
          rw [if_pos c_4]
      · have c_7 : ¬ (vp_in gx (cn 0)) := zb_eq hp_6 c_7
        refine lv_iconst (v := (-1)) hx hb dX12_lies_28 (by decide) ?_
        refine z_ireti ((g_m 60, g_m 63, g_m 56, g_m 57, g_m 58 0, g_m 61 0, g_m 62) : (Nat → Int32) × (Nat → Int32) × (Nat → Int32) × (Nat → Int32) × (Int32) × (Int32) × (Nat → Int32)) hx hb hr hlocks rfl hW rfl dX12_lies_29 ?_
        show (-1) = liesO cn lw t σ kx ax gx
        unfold liesO
        exact Eq.symm (zi_f (by first | (intro hq; exact absurd hq.1 (by assumption)) | (intro hq; exact absurd hq.2.2 (by assumption)) | grind) _ _)
    · refine lv_aload_n hx hb dX12_lies_12 rfl (lv_at hl 0 rfl) ?_
      refine lv_iload_n hx hb dX12_lies_13 rfl (lv_at hl 2 rfl) ?_
      refine z_calli (wc := wj [(mw Y ad_m (sA 64 (fun _ => nI un) (sA 18 (fun _ => nI lv) g_m)) w_m)]) (wr := wj []) (va_runV (As := [.int ax]) (rest := []) ⟨hx, hb, hml, hown, hts⟩ (m_X12_isHole l D Y ad_m (sA 64 (fun _ => nI un) (sA 18 (fun _ => nI lv) g_m)) w_m lv cn t lw ax H.size (show lv < 2 from by exact hlv) (show TW cn t lw from by exact hTW) (show TM lv cn t lw (sA 64 (fun _ => nI un) (sA 18 (fun _ => nI lv) g_m)) from by exact hTM)) (cwV 1 hts (lw_V q2004 q2006 qs84 q133 q2007) rfl rfl rfl (by decide +kernel) ⟨Nat.le_of_ble_eq_true rfl, Nat.le_of_ble_eq_true rfl⟩) (zPreV hK hW hR (wj_split3 (B := [(mw Y ad_m (sA 64 (fun _ => nI un) (sA 18 (fun _ => nI lv) g_m)) w_m)]) (R := []) (C := [(mw Y ad_m (sA 64 (fun _ => nI un) (sA 18 (fun _ => nI lv) g_m)) w_m)]) (O := []) (X := []) (List.Perm.refl _)) (va_recv hK.1 hW.1 (ci := 11) (q0 := 0) rfl rfl)) rfl rfl hl.1 rfl (lv_room (Nat.le_of_ble_eq_true rfl)) dX12_lies_14 ⟨Nat.le_refl _, Nat.le_refl _⟩) hW hA (wj_split (B := [(mw Y ad_m (sA 64 (fun _ => nI un) (sA 18 (fun _ => nI lv) g_m)) w_m)]) (C := [(mw Y ad_m (sA 64 (fun _ => nI un) (sA 18 (fun _ => nI lv) g_m)) w_m)]) (R := []) (List.Perm.refl _)) (fun r_21 u H locs hp_22 hW => ?_)
      have hp_22 : r_21 = zb (vp_in ax (cn 1)) := hp_22
      have hW : zW D A s.heap H locs (wj [(mw Y ad_m (sA 64 (fun _ => nI un) (sA 18 (fun _ => nI lv) g_m)) w_m)]) := hW.join
      refine lv_if_eq (tgt := 28) hx hb dX12_lies_17 (by decide) (fun c_23 => ?_) (fun c_23 => ?_)
      · have c_23 : ¬ (vp_in ax (cn 1)) := zb_eq hp_22 c_23
        refine lv_iconst (v := (-1)) hx hb dX12_lies_28 (by decide) ?_
        refine z_ireti ((g_m 60, g_m 63, g_m 56, g_m 57, g_m 58 0, g_m 61 0, g_m 62) : (Nat → Int32) × (Nat → Int32) × (Nat → Int32) × (Nat → Int32) × (Int32) × (Int32) × (Nat → Int32)) hx hb hr hlocks rfl hW rfl dX12_lies_29 ?_
        show (-1) = liesO cn lw t σ kx ax gx
        unfold liesO
        exact Eq.symm (zi_f (by first | (intro hq; exact absurd hq.1 (by assumption)) | (intro hq; exact absurd hq.2.2 (by assumption)) | grind) _ _)
      · have c_23 : vp_in ax (cn 1) := zb_ne hp_22 c_23
        obtain ⟨an, han, ean⟩ := vp_in_of c_23 (by omega)
        have can : ax.toNatClampNeg = an := by rw [ean]; exact nI_clamp (by omega)
        refine lv_aload_n hx hb dX12_lies_20 rfl (lv_at hl 0 rfl) ?_
        refine lv_iload_n hx hb dX12_lies_21 rfl (lv_at hl 3 rfl) ?_
        refine z_calli (wc := wj [(mw Y ad_m (sA 64 (fun _ => nI un) (sA 18 (fun _ => nI lv) g_m)) w_m)]) (wr := wj []) (va_runV (As := [.int gx]) (rest := []) ⟨hx, hb, hml, hown, hts⟩ (m_X12_isGrain l D Y ad_m (sA 64 (fun _ => nI un) (sA 18 (fun _ => nI lv) g_m)) w_m lv cn t lw gx H.size (show lv < 2 from by exact hlv) (show TW cn t lw from by exact hTW) (show TM lv cn t lw (sA 64 (fun _ => nI un) (sA 18 (fun _ => nI lv) g_m)) from by exact hTM)) (cwV 1 hts (lw_V q1993 q1995 qs83 q133 q1996) rfl rfl rfl (by decide +kernel) ⟨Nat.le_of_ble_eq_true rfl, Nat.le_of_ble_eq_true rfl⟩) (zPreV hK hW hR (wj_split3 (B := [(mw Y ad_m (sA 64 (fun _ => nI un) (sA 18 (fun _ => nI lv) g_m)) w_m)]) (R := []) (C := [(mw Y ad_m (sA 64 (fun _ => nI un) (sA 18 (fun _ => nI lv) g_m)) w_m)]) (O := []) (X := []) (List.Perm.refl _)) (va_recv hK.1 hW.1 (ci := 11) (q0 := 0) rfl rfl)) rfl rfl hl.1 rfl (lv_room (Nat.le_of_ble_eq_true rfl)) dX12_lies_22 ⟨Nat.le_refl _, Nat.le_refl _⟩) hW hA (wj_split (B := [(mw Y ad_m (sA 64 (fun _ => nI un) (sA 18 (fun _ => nI lv) g_m)) w_m)]) (C := [(mw Y ad_m (sA 64 (fun _ => nI un) (sA 18 (fun _ => nI lv) g_m)) w_m)]) (R := []) (List.Perm.refl _)) (fun r_24 u H locs hp_25 hW => ?_)
        have hp_25 : r_24 = zb (vp_in gx (cn 0)) := hp_25
        have hW : zW D A s.heap H locs (wj [(mw Y ad_m (sA 64 (fun _ => nI un) (sA 18 (fun _ => nI lv) g_m)) w_m)]) := hW.join
        refine lv_if_ne (tgt := 30) hx hb dX12_lies_25 (by decide) (fun c_26 => ?_) (fun c_26 => ?_)
        · have c_26 : vp_in gx (cn 0) := zb_ne hp_25 c_26
          obtain ⟨gn, hgn, egn⟩ := vp_in_of c_26 (by omega)
          have cgn : gx.toNatClampNeg = gn := by rw [egn]; exact nI_clamp (by omega)
          refine lv_aload_n hx hb dX12_lies_30 rfl (lv_at hl 0 rfl) ?_
          refine z_callv (wc := wj [(mw Y ad_m (sA 64 (fun _ => nI un) (sA 18 (fun _ => nI lv) g_m)) w_m)]) (wr := wj []) (va_runV (As := []) (rest := []) ⟨hx, hb, hml, hown, hts⟩ (m_X12_copies l D Y ad_m (sA 64 (fun _ => nI un) (sA 18 (fun _ => nI lv) g_m)) w_m lv cn t lw σ H.size (show lv < 2 from by exact hlv) (show TW cn t lw from by exact hTW) (show TM lv cn t lw (sA 64 (fun _ => nI un) (sA 18 (fun _ => nI lv) g_m)) from by exact hTM) (show MR (cn 2) σ (g_m 59) from by exact hKN.mr) (show ∀ h, h < cn 1 → σ 1 h = t 2 h from by exact hF1) (show σ 18 0 = t 12 2 from by exact hF2)) (cwV 0 hts (lw_V q2020 q2022 qs86 q133 q2023) rfl rfl rfl (by decide +kernel) ⟨Nat.le_of_ble_eq_true rfl, Nat.le_of_ble_eq_true rfl⟩) (zPreV hK hW hR (wj_split3 (B := [(mw Y ad_m (sA 64 (fun _ => nI un) (sA 18 (fun _ => nI lv) g_m)) w_m)]) (R := []) (C := [(mw Y ad_m (sA 64 (fun _ => nI un) (sA 18 (fun _ => nI lv) g_m)) w_m)]) (O := []) (X := []) (List.Perm.refl _)) (va_recv hK.1 hW.1 (ci := 11) (q0 := 0) rfl rfl)) rfl rfl hl.1 rfl (lv_room (Nat.le_of_ble_eq_true rfl)) dX12_lies_31 ⟨Nat.le_refl _, Nat.le_refl _⟩) hW hA (wj_split (B := [(mw Y ad_m (sA 64 (fun _ => nI un) (sA 18 (fun _ => nI lv) g_m)) w_m)]) (C := [(mw Y ad_m (sA 64 (fun _ => nI un) (sA 18 (fun _ => nI lv) g_m)) w_m)]) (R := []) (List.Perm.refl _)) (fun  u H locs hp_28 hW => ?_)
          obtain ⟨urow_29, ulots_30, ufarNow_31⟩ := u
          have hp_28 : RS cn σ urow_29 ufarNow_31 ulots_30 := hp_28
          have hW : zW D A s.heap H locs (wj [(mw Y ad_m (sA 64 (fun _ => nI un) (sA 62 ufarNow_31 (sA 61 (fun _ => ulots_30) (sA 60 urow_29 (sA 18 (fun _ => nI lv) g_m))))) w_m)]) := hW.join
          refine lv_aload_n hx hb dX12_lies_34 rfl (lv_at hl 0 rfl) ?_
          refine lv_iload_n hx hb dX12_lies_35 rfl (lv_at hl 1 rfl) ?_
          refine lv_topi (nm_r (e' := nI kq) ekq ?_)
          refine z_callv (wc := wj [(mw Y ad_m (sA 64 (fun _ => nI un) (sA 62 ufarNow_31 (sA 61 (fun _ => ulots_30) (sA 60 urow_29 (sA 18 (fun _ => nI lv) g_m))))) w_m)]) (wr := wj []) (va_runV (As := [.int (nI kq)]) (rest := []) ⟨hx, hb, hml, hown, hts⟩ (m_X12_goes l D Y ad_m (sA 64 (fun _ => nI un) (sA 62 ufarNow_31 (sA 61 (fun _ => ulots_30) (sA 60 urow_29 (sA 18 (fun _ => nI lv) g_m))))) w_m lv cn t lw σ B_ kq H.size (show lv < 2 from by exact hlv) (show TW cn t lw from by exact hTW) (show TM lv cn t lw (sA 64 (fun _ => nI un) (sA 62 ufarNow_31 (sA 61 (fun _ => ulots_30) (sA 60 urow_29 (sA 18 (fun _ => nI lv) g_m))))) from by exact hTM) (show RS cn σ urow_29 ufarNow_31 ulots_30 from by exact hp_28) (show WF cn B_ σ from by exact hWF) (show kq < 2000 from by first | assumption | omega | grind)) (cwV 1 hts (lw_V q2039 q2041 qs88 q133 q2042) rfl rfl rfl (by decide +kernel) ⟨Nat.le_of_ble_eq_true rfl, Nat.le_of_ble_eq_true rfl⟩) (zPreV hK hW hR (wj_split3 (B := [(mw Y ad_m (sA 64 (fun _ => nI un) (sA 62 ufarNow_31 (sA 61 (fun _ => ulots_30) (sA 60 urow_29 (sA 18 (fun _ => nI lv) g_m))))) w_m)]) (R := []) (C := [(mw Y ad_m (sA 64 (fun _ => nI un) (sA 62 ufarNow_31 (sA 61 (fun _ => ulots_30) (sA 60 urow_29 (sA 18 (fun _ => nI lv) g_m))))) w_m)]) (O := []) (X := []) (List.Perm.refl _)) (va_recv hK.1 hW.1 (ci := 11) (q0 := 0) rfl rfl)) rfl rfl hl.1 rfl (lv_room (Nat.le_of_ble_eq_true rfl)) dX12_lies_36 ⟨Nat.le_refl _, Nat.le_refl _⟩) hW hA (wj_split (B := [(mw Y ad_m (sA 64 (fun _ => nI un) (sA 62 ufarNow_31 (sA 61 (fun _ => ulots_30) (sA 60 urow_29 (sA 18 (fun _ => nI lv) g_m))))) w_m)]) (C := [(mw Y ad_m (sA 64 (fun _ => nI un) (sA 62 ufarNow_31 (sA 61 (fun _ => ulots_30) (sA 60 urow_29 (sA 18 (fun _ => nI lv) g_m))))) w_m)]) (R := []) (List.Perm.refl _)) (fun  u H locs hp_33 hW => ?_)
          obtain ⟨urow_34, uisLoaded_35, uvariables_36, upile_37, uisBroken_38⟩ := u
          have hp_33 : RS cn (runsP cn lw t σ kq) urow_34 ufarNow_31 ulots_30 := hp_33
          have hW : zW D A s.heap H locs (wj [(mw Y ad_m (sA 64 (fun _ => nI un) (sA 63 uisLoaded_35 (sA 62 ufarNow_31 (sA 61 (fun _ => ulots_30) (sA 60 urow_34 (sA 58 (fun _ => uisBroken_38) (sA 57 upile_37 (sA 56 uvariables_36 (sA 18 (fun _ => nI lv) g_m))))))))) w_m)]) := hW.join
          refine lv_iload_n hx hb dX12_lies_39 rfl (lv_at hl 2 rfl) ?_
          refine lv_topi (nm_r (e' := nI an) ean ?_)
          refine lv_iconst (v := (-1)) hx hb dX12_lies_40 (by decide) ?_
          refine lv_icmp_ne (tgt := 53) hx hb dX12_lies_41 (by decide) (fun c_39 => ?_) (fun c_39 => ?_)
          · refine lv_aload_n hx hb dX12_lies_53 rfl (lv_at hl 0 rfl) ?_
            refine va_get (v := .ref (ad_m 60)) (C := RX12) (T := TX12) (N := 75) (ci := 11) hx hb hts in_X12 hown hK.1 hW.1 0 rfl rfl 60 (by decide) (hts _ q1696) (fun _ h9 => h9) rfl dX12_lies_54 ?_
            refine lv_bipush (v := 6) hx hb dX12_lies_57 (by decide) ?_
            refine lv_bipush (v := 6) hx hb dX12_lies_59 (by decide) ?_
            refine lv_iload_n hx hb dX12_lies_61 rfl (lv_at hl 2 rfl) ?_
            refine lv_topi (nm_r (e' := nI an) ean ?_)
            refine lv_imul hx hb dX12_lies_62 ?_
            refine lv_topi (nm_r (e' := nI (6 * an)) (pk_mul 6 an) ?_)
            refine lv_iadd hx hb dX12_lies_63 ?_
            refine lv_topi (nm_r (e' := nI (6 + 6 * an)) (nI_add 6 (6 * an)) ?_)
            refine lv_iload_n hx hb dX12_lies_64 rfl (lv_at hl 3 rfl) ?_
            refine lv_topi (nm_r (e' := nI gn) egn ?_)
            refine lv_iadd hx hb dX12_lies_65 ?_
            refine lv_topi (nm_r (e' := nI (6 + 6 * an + gn)) (nI_add (6 + 6 * an) gn) ?_)
            refine z_iald (v := (runsP cn lw t σ kq) (30 + an) gn) (f := urow_34) (j := 6 + 6 * an + gn) hx hb hK.1 hW.1 43 0 rfl rfl (vp_in_nI (n := 6 + 6 * an + gn) (by omega) (by decide)) (nI_clamp (n := 6 + 6 * an + gn) (by omega)) (MR.hole hp_33.1 (a := an) (g := gn) (by omega) (by omega)) dX12_lies_66 ?_
            refine z_ireti ((urow_34, uisLoaded_35, uvariables_36, upile_37, uisBroken_38, ulots_30, ufarNow_31) : (Nat → Int32) × (Nat → Int32) × (Nat → Int32) × (Nat → Int32) × (Int32) × (Int32) × (Nat → Int32)) hx hb hr hlocks rfl hW rfl dX12_lies_67 ?_
            show ((runsP cn lw t σ kq) (30 + an) gn) = liesO cn lw t σ kx ax gx
            unfold liesO
            refine Eq.trans ?_ (Eq.symm (zi_t ⟨c_3, Or.inr c_23, c_26⟩ _ _))
            rw [ckq, cgn]
            unfold liesW
            rw [if_neg (by rw [ean]; exact nI_ne_m1 (by omega)), can]
          · exact absurd c_39 (nI_ne_m1 (by omega))
        · have c_26 : ¬ (vp_in gx (cn 0)) := zb_eq hp_25 c_26
          refine lv_iconst (v := (-1)) hx hb dX12_lies_28 (by decide) ?_
          refine z_ireti ((g_m 60, g_m 63, g_m 56, g_m 57, g_m 58 0, g_m 61 0, g_m 62) : (Nat → Int32) × (Nat → Int32) × (Nat → Int32) × (Nat → Int32) × (Int32) × (Int32) × (Nat → Int32)) hx hb hr hlocks rfl hW rfl dX12_lies_29 ?_
          show (-1) = liesO cn lw t σ kx ax gx
          unfold liesO
          exact Eq.symm (zi_f (by first | (intro hq; exact absurd hq.1 (by assumption)) | (intro hq; exact absurd hq.2.2 (by assumption)) | grind) _ _)
set_option maxHeartbeats 4000000 in
set_option maxRecDepth 100000 in
theorem m_X12_hire (l : Launch) (D : va_G) (Y : Nat → ClassId) (ad_m : Nat → Nat) (g_m : Nat → Nat → Int32) (w_m : Nat → Nat → Int64) (lv : Nat) (cn : Nat → Nat) (t : tab) (lw : Nat → Option LAW) (σ : tab) (U : List tab) (un : Nat) (B_ : Int) (kx : Int32) (wx : Int32) (sz : Nat) (hlv : lv < 2) (hTW : TW cn t lw) (hTM : TM lv cn t lw g_m) (hKN : KN (cn 2) σ U (g_m 59) (g_m 65) un) (hF1 : ∀ h, h < cn 1 → σ 1 h = t 2 h) (hF2 : σ 18 0 = t 12 2) (hWF : WF cn B_ σ) : Met l yX12_hire (ws_ yX12_hire cX12_hire 6 (some .int)) ({ frames := 6, cells := 0, slots := 0, locals := 141 }) (zPc D Y [.ref (ad_m 0), .int kx, .int wx] sz (wj []) (wj [(mw Y ad_m (sA 64 (fun _ => nI un) (sA 18 (fun _ => nI lv) g_m)) w_m)])) (va_Qi (fun (r : Int32) (u : (Nat → Int32) × (Nat → Int32) × (Nat → Int32) × (Nat → Int32) × (Int32) × (Int32) × (Nat → Int32)) => r = hireO cn lw t σ kx wx) (zB D (fun (u : (Nat → Int32) × (Nat → Int32) × (Nat → Int32) × (Nat → Int32) × (Int32) × (Int32) × (Nat → Int32)) => (wj [(mw Y ad_m (sA 64 (fun _ => nI un) (sA 63 u.2.1 (sA 62 u.2.2.2.2.2.2 (sA 61 (fun _ => u.2.2.2.2.2.1) (sA 60 u.1 (sA 58 (fun _ => u.2.2.2.2.1) (sA 57 u.2.2.2.1 (sA 56 u.2.2.1 (sA 18 (fun _ => nI lv) g_m))))))))) w_m)])) (va_A (wj [(mw Y ad_m (sA 64 (fun _ => nI un) (sA 18 (fun _ => nI lv) g_m)) w_m)]) sz)) (va_A (wj [(mw Y ad_m (sA 64 (fun _ => nI un) (sA 18 (fun _ => nI lv) g_m)) w_m)]) sz)) 0 0 (va_A (wj [(mw Y ad_m (sA 64 (fun _ => nI un) (sA 18 (fun _ => nI lv) g_m)) w_m)]) sz) := by
  refine Met.ofW (cc := cX12_hire) (maxL := 6) (ret := (some .int)) (by decide) rfl ?_
  intro p e s m args below meth c s₁ B hml hv
  obtain ⟨rfl, hsz, hW, hR, hK, hA⟩ := zEntry hv
  subst hsz
  have hx := B.exec
  have hb := B.bytes
  have hr := B.returns
  have hlocks := B.notSynchronized
  have hts : ∀ w ∈ lw_all, w.before _ s = true := fun w h => atoms_spec (ws := (ws_ yX12_hire cX12_hire 6 (some .int))) B.pre w (List.mem_cons_of_mem _ h)
  have hown : s.vm.findClass RX12 = some m.cls := findClass_of_methodNamed B.named
  generalize hAe : va_A (wj [(mw Y ad_m (sA 64 (fun _ => nI un) (sA 18 (fun _ => nI lv) g_m)) w_m)]) s.heap.size = A at hW hR hA ⊢
  have hl := lv_entry ([.ref (ad_m 0), .int kx, .int wx]) (n := 6) (Nat.le_of_ble_eq_true rfl)
  rw [lg_entry_eq]
  generalize (lg_sl ([.ref (ad_m 0), .int kx, .int wx]) ++ List.replicate (6 - (lg_sl ([.ref (ad_m 0), .int kx, .int wx])).length) Slot.unset).toArray = ls at hl ⊢
  have hl : lv_has ls 6 [(0, .ref (ad_m 0)), (1, .int kx), (2, .int wx)] := hl
  have hk8 := hTW.n2
  have hk6 := hTW.n1
  have hk60 := hTW.n0
  have hk5 := hTW.n3
  have hsh2 := shl1 (k := cn 2) (by omega)
  have h2n : 2 ^ cn 2 ≤ 256 := (Nat.pow_le_pow_right (by omega) hk8 : 2 ^ cn 2 ≤ 2 ^ 8)
  have h2p : 0 < 2 ^ cn 2 := Nat.pow_pos (by omega)
  refine lv_iload_n hx hb dX12_hire_0 rfl (lv_at hl 1 rfl) ?_
  refine lv_iconst (v := 1) hx hb dX12_hire_1 (by decide) ?_
  refine lv_sipush (v := 300) hx hb dX12_hire_2 (by decide) ?_
  refine z_calli (wc := wj []) (wr := wj [(mw Y ad_m (sA 64 (fun _ => nI un) (sA 18 (fun _ => nI lv) g_m)) w_m)]) (va_runS (As := [.int kx, .int 1, .int 300]) (rest := []) ⟨hx, hb, hml, hown, hts⟩ (m_X12_in l D Y kx 1 300 s.heap.size) (va_cwS 3 hts (lw_S q1997 q1998 q133 q1999) rfl rfl rfl (by decide +kernel) ⟨Nat.le_of_ble_eq_true rfl, Nat.le_of_ble_eq_true rfl⟩) (zPre hK hW hR (wj_split3 (B := [(mw Y ad_m (sA 64 (fun _ => nI un) (sA 18 (fun _ => nI lv) g_m)) w_m)]) (R := []) (C := []) (O := []) (X := [(mw Y ad_m (sA 64 (fun _ => nI un) (sA 18 (fun _ => nI lv) g_m)) w_m)]) (List.Perm.refl _))) rfl rfl hl.1 rfl (lv_room (Nat.le_of_ble_eq_true rfl)) dX12_hire_5 ⟨Nat.le_refl _, Nat.le_refl _⟩) hW hA (wj_split (B := [(mw Y ad_m (sA 64 (fun _ => nI un) (sA 18 (fun _ => nI lv) g_m)) w_m)]) (C := []) (R := [(mw Y ad_m (sA 64 (fun _ => nI un) (sA 18 (fun _ => nI lv) g_m)) w_m)]) (List.Perm.refl _)) (fun r_1 u H locs hp_2 hW => ?_)
  have hp_2 : r_1 = zb (¬ kx < 1 ∧ ¬ 300 < kx) := hp_2
  have hW : zW D A s.heap H locs (wj [(mw Y ad_m (sA 64 (fun _ => nI un) (sA 18 (fun _ => nI lv) g_m)) w_m)]) := hW.join
  refine lv_if_eq (tgt := 20) hx hb dX12_hire_8 (by decide) (fun c_3 => ?_) (fun c_3 => ?_)
  · have c_3 : ¬ (¬ kx < 1 ∧ ¬ 300 < kx) := zb_eq hp_2 c_3
    refine lv_iconst (v := (-1)) hx hb dX12_hire_20 (by decide) ?_
    refine z_ireti ((g_m 60, g_m 63, g_m 56, g_m 57, g_m 58 0, g_m 61 0, g_m 62) : (Nat → Int32) × (Nat → Int32) × (Nat → Int32) × (Nat → Int32) × (Int32) × (Int32) × (Nat → Int32)) hx hb hr hlocks rfl hW rfl dX12_hire_21 ?_
    show (-1) = hireO cn lw t σ kx wx
    unfold hireO
    exact Eq.symm (zi_f (by first | (intro hq; exact absurd hq.1 (by assumption)) | (intro hq; exact absurd hq.2 (by assumption))) _ _)
  · have c_3 : ¬ kx < 1 ∧ ¬ 300 < kx := zb_ne hp_2 c_3
    obtain ⟨kq, lkq, hkq, ekq⟩ := inP_nat (x := kx) (a := 1) (b := 300) c_3 (by omega) (by omega)
    have ckq : kx.toNatClampNeg = kq := by rw [ekq]; exact nI_clamp (by omega)
    refine lv_iload_n hx hb dX12_hire_11 rfl (lv_at hl 2 rfl) ?_
    refine lv_iconst (v := 0) hx hb dX12_hire_12 (by decide) ?_
    refine lv_iconst (v := 1) hx hb dX12_hire_13 (by decide) ?_
    refine z_calli (wc := wj []) (wr := wj [(mw Y ad_m (sA 64 (fun _ => nI un) (sA 18 (fun _ => nI lv) g_m)) w_m)]) (va_runS (As := [.int wx, .int 0, .int 1]) (rest := []) ⟨hx, hb, hml, hown, hts⟩ (m_X12_in l D Y wx 0 1 H.size) (va_cwS 3 hts (lw_S q1997 q1998 q133 q1999) rfl rfl rfl (by decide +kernel) ⟨Nat.le_of_ble_eq_true rfl, Nat.le_of_ble_eq_true rfl⟩) (zPre hK hW hR (wj_split3 (B := [(mw Y ad_m (sA 64 (fun _ => nI un) (sA 18 (fun _ => nI lv) g_m)) w_m)]) (R := []) (C := []) (O := []) (X := [(mw Y ad_m (sA 64 (fun _ => nI un) (sA 18 (fun _ => nI lv) g_m)) w_m)]) (List.Perm.refl _))) rfl rfl hl.1 rfl (lv_room (Nat.le_of_ble_eq_true rfl)) dX12_hire_14 ⟨Nat.le_refl _, Nat.le_refl _⟩) hW hA (wj_split (B := [(mw Y ad_m (sA 64 (fun _ => nI un) (sA 18 (fun _ => nI lv) g_m)) w_m)]) (C := []) (R := [(mw Y ad_m (sA 64 (fun _ => nI un) (sA 18 (fun _ => nI lv) g_m)) w_m)]) (List.Perm.refl _)) (fun r_4 u H locs hp_5 hW => ?_)
    have hp_5 : r_4 = zb (¬ wx < 0 ∧ ¬ 1 < wx) := hp_5
    have hW : zW D A s.heap H locs (wj [(mw Y ad_m (sA 64 (fun _ => nI un) (sA 18 (fun _ => nI lv) g_m)) w_m)]) := hW.join
    refine lv_if_ne (tgt := 22) hx hb dX12_hire_17 (by decide) (fun c_6 => ?_) (fun c_6 => ?_)
    · have c_6 : ¬ wx < 0 ∧ ¬ 1 < wx := zb_ne hp_5 c_6
      refine lv_bipush (v := (-2)) hx hb dX12_hire_22 (by decide) ?_
      refine lv_istore_n (lv' := [(3, .int (-2)), (0, .ref (ad_m 0)), (1, .int kx), (2, .int wx)]) hx hb dX12_hire_24 rfl hl (by decide) rfl (fun ls hl => ?_)
      refine lv_iconst (v := 0) hx hb dX12_hire_25 (by decide) ?_
      refine lv_istore (lv' := [(4, .int 0), (3, .int (-2)), (0, .ref (ad_m 0)), (1, .int kx), (2, .int wx)]) hx hb dX12_hire_26 hl (by decide) rfl (fun ls hl => ?_)
      have loop_28 : ∀ (n : Nat) (s1 : Nat) (v3_28 : Int32) (x_row_28 : Nat → Int32) (x_isLoaded_28 : Nat → Int32) (x_variables_28 : Nat → Int32) (x_pile_28 : Nat → Int32) (x_isBroken_28 : Int32) (x_lots_28 : Int32) (x_farNow_28 : Nat → Int32), 2 ^ cn 2 - s1 < n → (s1 ≤ 2 ^ cn 2) → (v3_28 = hireTo cn lw t σ kq s1) → ∀ (H : Heap) (locs : List Loc), zW D A s.heap H locs (wj [(mw Y ad_m (sA 64 (fun _ => nI un) (sA 63 x_isLoaded_28 (sA 62 x_farNow_28 (sA 61 (fun _ => x_lots_28) (sA 60 x_row_28 (sA 58 (fun _ => x_isBroken_28) (sA 57 x_pile_28 (sA 56 x_variables_28 (sA 18 (fun _ => nI lv) g_m))))))))) w_m)]) → ∀ (ls : Array Slot), lv_has ls 6 [(4, .int (nI s1)), (3, .int v3_28), (0, .ref (ad_m 0)), (1, .int kx), (2, .int wx)] → W p l e (headSpec (ws_ yX12_hire cX12_hire 6 (some .int)) ({ frames := 6, cells := 0, slots := 0, locals := 141 })).room s m ([.ref (ad_m 0), .int kx, .int wx] : List Value).toArray below meth c H locs 0 0 (MQ below (va_Qi (fun (r : Int32) (u : (Nat → Int32) × (Nat → Int32) × (Nat → Int32) × (Nat → Int32) × (Int32) × (Int32) × (Nat → Int32)) => r = hireO cn lw t σ kx wx) (zB D (fun (u : (Nat → Int32) × (Nat → Int32) × (Nat → Int32) × (Nat → Int32) × (Int32) × (Int32) × (Nat → Int32)) => (wj [(mw Y ad_m (sA 64 (fun _ => nI un) (sA 63 u.2.1 (sA 62 u.2.2.2.2.2.2 (sA 61 (fun _ => u.2.2.2.2.2.1) (sA 60 u.1 (sA 58 (fun _ => u.2.2.2.2.1) (sA 57 u.2.2.2.1 (sA 56 u.2.2.1 (sA 18 (fun _ => nI lv) g_m))))))))) w_m)])) A) A) ([.ref (ad_m 0), .int kx, .int wx] : List Value).toArray s 0 0 A) (F0 m 28 ls []) := by
        intro n
        induction n with
        | zero =>
          intro s1 v3_28 x_row_28 x_isLoaded_28 x_variables_28 x_pile_28 x_isBroken_28 x_lots_28 x_farNow_28 hmz
          exact absurd hmz (Nat.not_lt_zero _)
        | succ n ih =>
          intro s1 v3_28 x_row_28 x_isLoaded_28 x_variables_28 x_pile_28 x_isBroken_28 x_lots_28 x_farNow_28 hm_28 hi hv3 H locs hW ls hl
          have ih_28 := ih
          clear ih
          refine lv_iload hx hb dX12_hire_28 (lv_at hl 0 rfl) ?_
          refine lv_iconst (v := 1) hx hb dX12_hire_30 (by decide) ?_
          refine lv_aload_n hx hb dX12_hire_31 rfl (lv_at hl 2 rfl) ?_
          refine va_get (v := .ref (ad_m 30)) (C := RX12) (T := TX12) (N := 75) (ci := 11) hx hb hts in_X12 hown hK.1 hW.1 0 rfl rfl 30 (by decide) (hts _ q1666) (fun _ h9 => h9) rfl dX12_hire_32 ?_
          refine lv_aload_n hx hb dX12_hire_35 rfl (lv_at hl 2 rfl) ?_
          refine va_get (v := .int (nI lv)) (C := RX12) (T := TX12) (N := 75) (ci := 11) hx hb hts in_X12 hown hK.1 hW.1 0 rfl rfl 18 (by decide) (hts _ q1654) (fun _ h9 => h9) rfl dX12_hire_36 ?_
          refine z_iald (v := nI (cn 2)) (f := g_m 30) (j := lv) hx hb hK.1 hW.1 17 0 rfl rfl (vp_in_nI (n := lv) (by omega) (by decide)) (nI_clamp (n := lv) (by omega)) (TM.c30 hTM) dX12_hire_39 ?_
          refine lv_ishl hx hb dX12_hire_40 ?_
          refine lv_topi (nm_r (e' := nI (2 ^ cn 2)) hsh2 ?_)
          refine lv_icmp_ge (tgt := 127) hx hb dX12_hire_41 (by decide) (fun c_7 => ?_) (fun c_7 => ?_)
          · have c_7 : 2 ^ cn 2 ≤ s1 := (nI_leI (a := 2 ^ cn 2) (b := s1) (by omega) (by omega)).mp c_7
            refine lv_iload_n hx hb dX12_hire_127 rfl (lv_at hl 1 rfl) ?_
            refine lv_if_lt (tgt := 136) hx hb dX12_hire_128 (by decide) (fun c_8 => ?_) (fun c_8 => ?_)
            · have hf1 := c_8
              refine lv_iload_n hx hb dX12_hire_136 rfl (lv_at hl 1 rfl) ?_
              refine lv_goto (tgt := 145) hx hb dX12_hire_137 (by decide) ?_
              refine z_ireti ((x_row_28, x_isLoaded_28, x_variables_28, x_pile_28, x_isBroken_28, x_lots_28, x_farNow_28) : (Nat → Int32) × (Nat → Int32) × (Nat → Int32) × (Nat → Int32) × (Int32) × (Int32) × (Nat → Int32)) hx hb hr hlocks rfl hW rfl dX12_hire_145 ?_
              show v3_28 = hireO cn lw t σ kx wx
              have es : s1 = 2 ^ cn 2 := by omega
              unfold hireO
              refine Eq.trans ?_ (Eq.symm (zi_t ⟨c_3, (show inP wx 0 1 from c_6)⟩ _ _))
              rw [ckq, ← es, ← hv3]
              unfold hireW
              first | rw [zi_t (Or.inr hf2)] | rw [zi_t (Or.inl hf1)] | (rw [zi_f (by rintro (q | q); exact hf1 q; exact hf2 q)]; assumption)
            · have hf1 := c_8
              refine lv_iload_n hx hb dX12_hire_131 rfl (lv_at hl 4 rfl) ?_
              refine lv_iconst (v := 1) hx hb dX12_hire_132 (by decide) ?_
              refine lv_icmp_ne (tgt := 140) hx hb dX12_hire_133 (by decide) (fun c_9 => ?_) (fun c_9 => ?_)
              · have hf2 := c_9
                refine lv_aload_n hx hb dX12_hire_140 rfl (lv_at hl 2 rfl) ?_
                refine lv_iload_n hx hb dX12_hire_141 rfl (lv_at hl 1 rfl) ?_
                refine z_calli (wc := wj [(mw Y ad_m (sA 64 (fun _ => nI un) (sA 63 x_isLoaded_28 (sA 62 x_farNow_28 (sA 61 (fun _ => x_lots_28) (sA 60 x_row_28 (sA 58 (fun _ => x_isBroken_28) (sA 57 x_pile_28 (sA 56 x_variables_28 (sA 18 (fun _ => nI lv) g_m))))))))) w_m)]) (wr := wj []) (va_runV (As := [.int v3_28]) (rest := []) ⟨hx, hb, hml, hown, hts⟩ (m_X12_feesOf l D Y ad_m (sA 64 (fun _ => nI un) (sA 63 x_isLoaded_28 (sA 62 x_farNow_28 (sA 61 (fun _ => x_lots_28) (sA 60 x_row_28 (sA 58 (fun _ => x_isBroken_28) (sA 57 x_pile_28 (sA 56 x_variables_28 (sA 18 (fun _ => nI lv) g_m))))))))) w_m lv cn t lw v3_28 H.size (show lv < 2 from by exact hlv) (show TW cn t lw from by exact hTW) (show TM lv cn t lw (sA 64 (fun _ => nI un) (sA 63 x_isLoaded_28 (sA 62 x_farNow_28 (sA 61 (fun _ => x_lots_28) (sA 60 x_row_28 (sA 58 (fun _ => x_isBroken_28) (sA 57 x_pile_28 (sA 56 x_variables_28 (sA 18 (fun _ => nI lv) g_m))))))))) from by exact hTM)) (cwV 1 hts (lw_V q2181 q2183 qs107 q133 q2184) rfl rfl rfl (by decide +kernel) ⟨Nat.le_of_ble_eq_true rfl, Nat.le_of_ble_eq_true rfl⟩) (zPreV hK hW hR (wj_split3 (B := [(mw Y ad_m (sA 64 (fun _ => nI un) (sA 63 x_isLoaded_28 (sA 62 x_farNow_28 (sA 61 (fun _ => x_lots_28) (sA 60 x_row_28 (sA 58 (fun _ => x_isBroken_28) (sA 57 x_pile_28 (sA 56 x_variables_28 (sA 18 (fun _ => nI lv) g_m))))))))) w_m)]) (R := []) (C := [(mw Y ad_m (sA 64 (fun _ => nI un) (sA 63 x_isLoaded_28 (sA 62 x_farNow_28 (sA 61 (fun _ => x_lots_28) (sA 60 x_row_28 (sA 58 (fun _ => x_isBroken_28) (sA 57 x_pile_28 (sA 56 x_variables_28 (sA 18 (fun _ => nI lv) g_m))))))))) w_m)]) (O := []) (X := []) (List.Perm.refl _)) (va_recv hK.1 hW.1 (ci := 11) (q0 := 0) rfl rfl)) rfl rfl hl.1 rfl (lv_room (Nat.le_of_ble_eq_true rfl)) dX12_hire_142 ⟨Nat.le_refl _, Nat.le_refl _⟩) hW hA (wj_split (B := [(mw Y ad_m (sA 64 (fun _ => nI un) (sA 63 x_isLoaded_28 (sA 62 x_farNow_28 (sA 61 (fun _ => x_lots_28) (sA 60 x_row_28 (sA 58 (fun _ => x_isBroken_28) (sA 57 x_pile_28 (sA 56 x_variables_28 (sA 18 (fun _ => nI lv) g_m))))))))) w_m)]) (C := [(mw Y ad_m (sA 64 (fun _ => nI un) (sA 63 x_isLoaded_28 (sA 62 x_farNow_28 (sA 61 (fun _ => x_lots_28) (sA 60 x_row_28 (sA 58 (fun _ => x_isBroken_28) (sA 57 x_pile_28 (sA 56 x_variables_28 (sA 18 (fun _ => nI lv) g_m))))))))) w_m)]) (R := []) (List.Perm.refl _)) (fun r_10 u H locs hp_11 hW => ?_)
                have hp_11 : r_10 = feesTo t v3_28 (cn 2) := hp_11
                have hW : zW D A s.heap H locs (wj [(mw Y ad_m (sA 64 (fun _ => nI un) (sA 63 x_isLoaded_28 (sA 62 x_farNow_28 (sA 61 (fun _ => x_lots_28) (sA 60 x_row_28 (sA 58 (fun _ => x_isBroken_28) (sA 57 x_pile_28 (sA 56 x_variables_28 (sA 18 (fun _ => nI lv) g_m))))))))) w_m)]) := hW.join
                refine z_ireti ((x_row_28, x_isLoaded_28, x_variables_28, x_pile_28, x_isBroken_28, x_lots_28, x_farNow_28) : (Nat → Int32) × (Nat → Int32) × (Nat → Int32) × (Nat → Int32) × (Int32) × (Int32) × (Nat → Int32)) hx hb hr hlocks rfl hW rfl dX12_hire_145 ?_
                show r_10 = hireO cn lw t σ kx wx
                have es : s1 = 2 ^ cn 2 := by omega
                unfold hireO
                refine Eq.trans ?_ (Eq.symm (zi_t ⟨c_3, (show inP wx 0 1 from c_6)⟩ _ _))
                rw [ckq, ← es, ← hv3]
                unfold hireW
                first | rw [zi_t (Or.inr hf2)] | rw [zi_t (Or.inl hf1)] | (rw [zi_f (by rintro (q | q); exact hf1 q; exact hf2 q)]; assumption)
              · have hf2 := c_9
                refine lv_iload_n hx hb dX12_hire_136 rfl (lv_at hl 1 rfl) ?_
                refine lv_goto (tgt := 145) hx hb dX12_hire_137 (by decide) ?_
                refine z_ireti ((x_row_28, x_isLoaded_28, x_variables_28, x_pile_28, x_isBroken_28, x_lots_28, x_farNow_28) : (Nat → Int32) × (Nat → Int32) × (Nat → Int32) × (Nat → Int32) × (Int32) × (Int32) × (Nat → Int32)) hx hb hr hlocks rfl hW rfl dX12_hire_145 ?_
                show v3_28 = hireO cn lw t σ kx wx
                have es : s1 = 2 ^ cn 2 := by omega
                unfold hireO
                refine Eq.trans ?_ (Eq.symm (zi_t ⟨c_3, (show inP wx 0 1 from c_6)⟩ _ _))
                rw [ckq, ← es, ← hv3]
                unfold hireW
                first | rw [zi_t (Or.inr hf2)] | rw [zi_t (Or.inl hf1)] | (rw [zi_f (by rintro (q | q); exact hf1 q; exact hf2 q)]; assumption)
          · have c_7 : ¬ (2 ^ cn 2 ≤ s1) := fun hz_ => c_7 ((nI_leI (a := 2 ^ cn 2) (b := s1) (by omega) (by omega)).mpr hz_)
            refine lv_iload_n hx hb dX12_hire_44 rfl (lv_at hl 1 rfl) ?_
            have join_64 : ∀ (st0_64 : Int32), (st0_64 = if v3_28 < 0 then 0 else feesTo t (nI s1) (cn 2) - feesTo t v3_28 (cn 2)) → ∀ (H : Heap) (locs : List Loc), zW D A s.heap H locs (wj [(mw Y ad_m (sA 64 (fun _ => nI un) (sA 63 x_isLoaded_28 (sA 62 x_farNow_28 (sA 61 (fun _ => x_lots_28) (sA 60 x_row_28 (sA 58 (fun _ => x_isBroken_28) (sA 57 x_pile_28 (sA 56 x_variables_28 (sA 18 (fun _ => nI lv) g_m))))))))) w_m)]) → ∀ (ls : Array Slot), lv_has ls 6 [(4, .int (nI s1)), (3, .int v3_28), (0, .ref (ad_m 0)), (1, .int kx), (2, .int wx)] → W p l e (headSpec (ws_ yX12_hire cX12_hire 6 (some .int)) ({ frames := 6, cells := 0, slots := 0, locals := 141 })).room s m ([.ref (ad_m 0), .int kx, .int wx] : List Value).toArray below meth c H locs 0 0 (MQ below (va_Qi (fun (r : Int32) (u : (Nat → Int32) × (Nat → Int32) × (Nat → Int32) × (Nat → Int32) × (Int32) × (Int32) × (Nat → Int32)) => r = hireO cn lw t σ kx wx) (zB D (fun (u : (Nat → Int32) × (Nat → Int32) × (Nat → Int32) × (Nat → Int32) × (Int32) × (Int32) × (Nat → Int32)) => (wj [(mw Y ad_m (sA 64 (fun _ => nI un) (sA 63 u.2.1 (sA 62 u.2.2.2.2.2.2 (sA 61 (fun _ => u.2.2.2.2.2.1) (sA 60 u.1 (sA 58 (fun _ => u.2.2.2.2.1) (sA 57 u.2.2.2.1 (sA 56 u.2.2.1 (sA 18 (fun _ => nI lv) g_m))))))))) w_m)])) A) A) ([.ref (ad_m 0), .int kx, .int wx] : List Value).toArray s 0 0 A) (F0 m 64 ls [.int st0_64]) := by
              intro st0_64 hmo H locs hW ls hl
              refine lv_istore (lv' := [(5, .int st0_64), (4, .int (nI s1)), (3, .int v3_28), (0, .ref (ad_m 0)), (1, .int kx), (2, .int wx)]) hx hb dX12_hire_64 hl (by decide) rfl (fun ls hl => ?_)
              have join_95 : (¬ hskip cn (fun s => feesTo t s (cn 2)) v3_28 (nI s1)) → ∀ (H : Heap) (locs : List Loc), zW D A s.heap H locs (wj [(mw Y ad_m (sA 64 (fun _ => nI un) (sA 63 x_isLoaded_28 (sA 62 x_farNow_28 (sA 61 (fun _ => x_lots_28) (sA 60 x_row_28 (sA 58 (fun _ => x_isBroken_28) (sA 57 x_pile_28 (sA 56 x_variables_28 (sA 18 (fun _ => nI lv) g_m))))))))) w_m)]) → ∀ (ls : Array Slot), lv_has ls 6 [(4, .int (nI s1)), (3, .int v3_28), (0, .ref (ad_m 0)), (1, .int kx), (2, .int wx)] → W p l e (headSpec (ws_ yX12_hire cX12_hire 6 (some .int)) ({ frames := 6, cells := 0, slots := 0, locals := 141 })).room s m ([.ref (ad_m 0), .int kx, .int wx] : List Value).toArray below meth c H locs 0 0 (MQ below (va_Qi (fun (r : Int32) (u : (Nat → Int32) × (Nat → Int32) × (Nat → Int32) × (Nat → Int32) × (Int32) × (Int32) × (Nat → Int32)) => r = hireO cn lw t σ kx wx) (zB D (fun (u : (Nat → Int32) × (Nat → Int32) × (Nat → Int32) × (Nat → Int32) × (Int32) × (Int32) × (Nat → Int32)) => (wj [(mw Y ad_m (sA 64 (fun _ => nI un) (sA 63 u.2.1 (sA 62 u.2.2.2.2.2.2 (sA 61 (fun _ => u.2.2.2.2.2.1) (sA 60 u.1 (sA 58 (fun _ => u.2.2.2.2.1) (sA 57 u.2.2.2.1 (sA 56 u.2.2.1 (sA 18 (fun _ => nI lv) g_m))))))))) w_m)])) A) A) ([.ref (ad_m 0), .int kx, .int wx] : List Value).toArray s 0 0 A) (F0 m 95 ls []) := by
                intro  hns H locs hW ls hl
                refine lv_aload_n hx hb dX12_hire_95 rfl (lv_at hl 2 rfl) ?_
                refine z_callv (wc := wj [(mw Y ad_m (sA 64 (fun _ => nI un) (sA 63 x_isLoaded_28 (sA 62 x_farNow_28 (sA 61 (fun _ => x_lots_28) (sA 60 x_row_28 (sA 58 (fun _ => x_isBroken_28) (sA 57 x_pile_28 (sA 56 x_variables_28 (sA 18 (fun _ => nI lv) g_m))))))))) w_m)]) (wr := wj []) (va_runV (As := []) (rest := []) ⟨hx, hb, hml, hown, hts⟩ (m_X12_copies l D Y ad_m (sA 64 (fun _ => nI un) (sA 63 x_isLoaded_28 (sA 62 x_farNow_28 (sA 61 (fun _ => x_lots_28) (sA 60 x_row_28 (sA 58 (fun _ => x_isBroken_28) (sA 57 x_pile_28 (sA 56 x_variables_28 (sA 18 (fun _ => nI lv) g_m))))))))) w_m lv cn t lw σ H.size (show lv < 2 from by exact hlv) (show TW cn t lw from by exact hTW) (show TM lv cn t lw (sA 64 (fun _ => nI un) (sA 63 x_isLoaded_28 (sA 62 x_farNow_28 (sA 61 (fun _ => x_lots_28) (sA 60 x_row_28 (sA 58 (fun _ => x_isBroken_28) (sA 57 x_pile_28 (sA 56 x_variables_28 (sA 18 (fun _ => nI lv) g_m))))))))) from by exact hTM) (show MR (cn 2) σ (g_m 59) from by exact hKN.mr) (show ∀ h, h < cn 1 → σ 1 h = t 2 h from by exact hF1) (show σ 18 0 = t 12 2 from by exact hF2)) (cwV 0 hts (lw_V q2020 q2022 qs86 q133 q2023) rfl rfl rfl (by decide +kernel) ⟨Nat.le_of_ble_eq_true rfl, Nat.le_of_ble_eq_true rfl⟩) (zPreV hK hW hR (wj_split3 (B := [(mw Y ad_m (sA 64 (fun _ => nI un) (sA 63 x_isLoaded_28 (sA 62 x_farNow_28 (sA 61 (fun _ => x_lots_28) (sA 60 x_row_28 (sA 58 (fun _ => x_isBroken_28) (sA 57 x_pile_28 (sA 56 x_variables_28 (sA 18 (fun _ => nI lv) g_m))))))))) w_m)]) (R := []) (C := [(mw Y ad_m (sA 64 (fun _ => nI un) (sA 63 x_isLoaded_28 (sA 62 x_farNow_28 (sA 61 (fun _ => x_lots_28) (sA 60 x_row_28 (sA 58 (fun _ => x_isBroken_28) (sA 57 x_pile_28 (sA 56 x_variables_28 (sA 18 (fun _ => nI lv) g_m))))))))) w_m)]) (O := []) (X := []) (List.Perm.refl _)) (va_recv hK.1 hW.1 (ci := 11) (q0 := 0) rfl rfl)) rfl rfl hl.1 rfl (lv_room (Nat.le_of_ble_eq_true rfl)) dX12_hire_96 ⟨Nat.le_refl _, Nat.le_refl _⟩) hW hA (wj_split (B := [(mw Y ad_m (sA 64 (fun _ => nI un) (sA 63 x_isLoaded_28 (sA 62 x_farNow_28 (sA 61 (fun _ => x_lots_28) (sA 60 x_row_28 (sA 58 (fun _ => x_isBroken_28) (sA 57 x_pile_28 (sA 56 x_variables_28 (sA 18 (fun _ => nI lv) g_m))))))))) w_m)]) (C := [(mw Y ad_m (sA 64 (fun _ => nI un) (sA 63 x_isLoaded_28 (sA 62 x_farNow_28 (sA 61 (fun _ => x_lots_28) (sA 60 x_row_28 (sA 58 (fun _ => x_isBroken_28) (sA 57 x_pile_28 (sA 56 x_variables_28 (sA 18 (fun _ => nI lv) g_m))))))))) w_m)]) (R := []) (List.Perm.refl _)) (fun  u H locs hp_19 hW => ?_)
                obtain ⟨urow_20, ulots_21, ufarNow_22⟩ := u
                have hp_19 : RS cn σ urow_20 ufarNow_22 ulots_21 := hp_19
                have hW : zW D A s.heap H locs (wj [(mw Y ad_m (sA 64 (fun _ => nI un) (sA 63 x_isLoaded_28 (sA 62 ufarNow_22 (sA 61 (fun _ => ulots_21) (sA 60 urow_20 (sA 58 (fun _ => x_isBroken_28) (sA 57 x_pile_28 (sA 56 x_variables_28 (sA 18 (fun _ => nI lv) g_m))))))))) w_m)]) := hW.join
                refine lv_aload_n hx hb dX12_hire_99 rfl (lv_at hl 2 rfl) ?_
                refine lv_iload hx hb dX12_hire_100 (lv_at hl 0 rfl) ?_
                refine z_callv (wc := wj [(mw Y ad_m (sA 64 (fun _ => nI un) (sA 63 x_isLoaded_28 (sA 62 ufarNow_22 (sA 61 (fun _ => ulots_21) (sA 60 urow_20 (sA 58 (fun _ => x_isBroken_28) (sA 57 x_pile_28 (sA 56 x_variables_28 (sA 18 (fun _ => nI lv) g_m))))))))) w_m)]) (wr := wj []) (va_runV (As := [.int (nI s1)]) (rest := []) ⟨hx, hb, hml, hown, hts⟩ (m_X12_hires l D Y ad_m (sA 64 (fun _ => nI un) (sA 63 x_isLoaded_28 (sA 62 ufarNow_22 (sA 61 (fun _ => ulots_21) (sA 60 urow_20 (sA 58 (fun _ => x_isBroken_28) (sA 57 x_pile_28 (sA 56 x_variables_28 (sA 18 (fun _ => nI lv) g_m))))))))) w_m lv cn t lw σ (nI s1) B_ H.size (show lv < 2 from by exact hlv) (show TW cn t lw from by exact hTW) (show TM lv cn t lw (sA 64 (fun _ => nI un) (sA 63 x_isLoaded_28 (sA 62 ufarNow_22 (sA 61 (fun _ => ulots_21) (sA 60 urow_20 (sA 58 (fun _ => x_isBroken_28) (sA 57 x_pile_28 (sA 56 x_variables_28 (sA 18 (fun _ => nI lv) g_m))))))))) from by exact hTM) (show RS cn σ urow_20 ufarNow_22 ulots_21 from by exact hp_19) (show WF cn B_ σ from by exact hWF)) (cwV 1 hts (lw_V q2188 q2190 qs108 q133 q2191) rfl rfl rfl (by decide +kernel) ⟨Nat.le_of_ble_eq_true rfl, Nat.le_of_ble_eq_true rfl⟩) (zPreV hK hW hR (wj_split3 (B := [(mw Y ad_m (sA 64 (fun _ => nI un) (sA 63 x_isLoaded_28 (sA 62 ufarNow_22 (sA 61 (fun _ => ulots_21) (sA 60 urow_20 (sA 58 (fun _ => x_isBroken_28) (sA 57 x_pile_28 (sA 56 x_variables_28 (sA 18 (fun _ => nI lv) g_m))))))))) w_m)]) (R := []) (C := [(mw Y ad_m (sA 64 (fun _ => nI un) (sA 63 x_isLoaded_28 (sA 62 ufarNow_22 (sA 61 (fun _ => ulots_21) (sA 60 urow_20 (sA 58 (fun _ => x_isBroken_28) (sA 57 x_pile_28 (sA 56 x_variables_28 (sA 18 (fun _ => nI lv) g_m))))))))) w_m)]) (O := []) (X := []) (List.Perm.refl _)) (va_recv hK.1 hW.1 (ci := 11) (q0 := 0) rfl rfl)) rfl rfl hl.1 rfl (lv_room (Nat.le_of_ble_eq_true rfl)) dX12_hire_102 ⟨Nat.le_refl _, Nat.le_refl _⟩) hW hA (wj_split (B := [(mw Y ad_m (sA 64 (fun _ => nI un) (sA 63 x_isLoaded_28 (sA 62 ufarNow_22 (sA 61 (fun _ => ulots_21) (sA 60 urow_20 (sA 58 (fun _ => x_isBroken_28) (sA 57 x_pile_28 (sA 56 x_variables_28 (sA 18 (fun _ => nI lv) g_m))))))))) w_m)]) (C := [(mw Y ad_m (sA 64 (fun _ => nI un) (sA 63 x_isLoaded_28 (sA 62 ufarNow_22 (sA 61 (fun _ => ulots_21) (sA 60 urow_20 (sA 58 (fun _ => x_isBroken_28) (sA 57 x_pile_28 (sA 56 x_variables_28 (sA 18 (fun _ => nI lv) g_m))))))))) w_m)]) (R := []) (List.Perm.refl _)) (fun  u H locs hp_24 hW => ?_)
                obtain ⟨urow_25, rfl⟩ : ∃ z, z = u := ⟨_, rfl⟩
                have hp_24 : RS cn (hiresTo σ (nI s1) (cn 2)) urow_25 ufarNow_22 ulots_21 := hp_24
                have hW : zW D A s.heap H locs (wj [(mw Y ad_m (sA 64 (fun _ => nI un) (sA 63 x_isLoaded_28 (sA 62 ufarNow_22 (sA 61 (fun _ => ulots_21) (sA 60 urow_25 (sA 58 (fun _ => x_isBroken_28) (sA 57 x_pile_28 (sA 56 x_variables_28 (sA 18 (fun _ => nI lv) g_m))))))))) w_m)]) := hW.join
                refine lv_aload_n hx hb dX12_hire_105 rfl (lv_at hl 2 rfl) ?_
                refine lv_iload_n hx hb dX12_hire_106 rfl (lv_at hl 3 rfl) ?_
                refine lv_topi (nm_r (e' := nI kq) ekq ?_)
                refine z_callv (wc := wj [(mw Y ad_m (sA 64 (fun _ => nI un) (sA 63 x_isLoaded_28 (sA 62 ufarNow_22 (sA 61 (fun _ => ulots_21) (sA 60 urow_25 (sA 58 (fun _ => x_isBroken_28) (sA 57 x_pile_28 (sA 56 x_variables_28 (sA 18 (fun _ => nI lv) g_m))))))))) w_m)]) (wr := wj []) (va_runV (As := [.int (nI kq)]) (rest := []) ⟨hx, hb, hml, hown, hts⟩ (m_X12_goes l D Y ad_m (sA 64 (fun _ => nI un) (sA 63 x_isLoaded_28 (sA 62 ufarNow_22 (sA 61 (fun _ => ulots_21) (sA 60 urow_25 (sA 58 (fun _ => x_isBroken_28) (sA 57 x_pile_28 (sA 56 x_variables_28 (sA 18 (fun _ => nI lv) g_m))))))))) w_m lv cn t lw (hiresTo σ (nI s1) (cn 2)) B_ kq H.size (show lv < 2 from by exact hlv) (show TW cn t lw from by exact hTW) (show TM lv cn t lw (sA 64 (fun _ => nI un) (sA 63 x_isLoaded_28 (sA 62 ufarNow_22 (sA 61 (fun _ => ulots_21) (sA 60 urow_25 (sA 58 (fun _ => x_isBroken_28) (sA 57 x_pile_28 (sA 56 x_variables_28 (sA 18 (fun _ => nI lv) g_m))))))))) from by exact hTM) (show RS cn (hiresTo σ (nI s1) (cn 2)) urow_25 ufarNow_22 ulots_21 from by exact hp_24) (show WF cn B_ (hiresTo σ (nI s1) (cn 2)) from by exact WF.hires hTW hWF _ (Nat.le_refl _)) (show kq < 2000 from by first | assumption | omega | grind)) (cwV 1 hts (lw_V q2039 q2041 qs88 q133 q2042) rfl rfl rfl (by decide +kernel) ⟨Nat.le_of_ble_eq_true rfl, Nat.le_of_ble_eq_true rfl⟩) (zPreV hK hW hR (wj_split3 (B := [(mw Y ad_m (sA 64 (fun _ => nI un) (sA 63 x_isLoaded_28 (sA 62 ufarNow_22 (sA 61 (fun _ => ulots_21) (sA 60 urow_25 (sA 58 (fun _ => x_isBroken_28) (sA 57 x_pile_28 (sA 56 x_variables_28 (sA 18 (fun _ => nI lv) g_m))))))))) w_m)]) (R := []) (C := [(mw Y ad_m (sA 64 (fun _ => nI un) (sA 63 x_isLoaded_28 (sA 62 ufarNow_22 (sA 61 (fun _ => ulots_21) (sA 60 urow_25 (sA 58 (fun _ => x_isBroken_28) (sA 57 x_pile_28 (sA 56 x_variables_28 (sA 18 (fun _ => nI lv) g_m))))))))) w_m)]) (O := []) (X := []) (List.Perm.refl _)) (va_recv hK.1 hW.1 (ci := 11) (q0 := 0) rfl rfl)) rfl rfl hl.1 rfl (lv_room (Nat.le_of_ble_eq_true rfl)) dX12_hire_107 ⟨Nat.le_refl _, Nat.le_refl _⟩) hW hA (wj_split (B := [(mw Y ad_m (sA 64 (fun _ => nI un) (sA 63 x_isLoaded_28 (sA 62 ufarNow_22 (sA 61 (fun _ => ulots_21) (sA 60 urow_25 (sA 58 (fun _ => x_isBroken_28) (sA 57 x_pile_28 (sA 56 x_variables_28 (sA 18 (fun _ => nI lv) g_m))))))))) w_m)]) (C := [(mw Y ad_m (sA 64 (fun _ => nI un) (sA 63 x_isLoaded_28 (sA 62 ufarNow_22 (sA 61 (fun _ => ulots_21) (sA 60 urow_25 (sA 58 (fun _ => x_isBroken_28) (sA 57 x_pile_28 (sA 56 x_variables_28 (sA 18 (fun _ => nI lv) g_m))))))))) w_m)]) (R := []) (List.Perm.refl _)) (fun  u H locs hp_27 hW => ?_)
                obtain ⟨urow_28, uisLoaded_29, uvariables_30, upile_31, uisBroken_32⟩ := u
                have hp_27 : RS cn (runsP cn lw t (hiresTo σ (nI s1) (cn 2)) kq) urow_28 ufarNow_22 ulots_21 := hp_27
                have hW : zW D A s.heap H locs (wj [(mw Y ad_m (sA 64 (fun _ => nI un) (sA 63 uisLoaded_29 (sA 62 ufarNow_22 (sA 61 (fun _ => ulots_21) (sA 60 urow_28 (sA 58 (fun _ => uisBroken_32) (sA 57 upile_31 (sA 56 uvariables_30 (sA 18 (fun _ => nI lv) g_m))))))))) w_m)]) := hW.join
                refine lv_aload_n hx hb dX12_hire_110 rfl (lv_at hl 2 rfl) ?_
                refine lv_iconst (v := 1) hx hb dX12_hire_111 (by decide) ?_
                refine z_calli (wc := wj [(mw Y ad_m (sA 64 (fun _ => nI un) (sA 63 uisLoaded_29 (sA 62 ufarNow_22 (sA 61 (fun _ => ulots_21) (sA 60 urow_28 (sA 58 (fun _ => uisBroken_32) (sA 57 upile_31 (sA 56 uvariables_30 (sA 18 (fun _ => nI lv) g_m))))))))) w_m)]) (wr := wj []) (va_runV (As := [.int 1]) (rest := []) ⟨hx, hb, hml, hown, hts⟩ (m_X12_isCleanNow_1 l D Y ad_m (sA 64 (fun _ => nI un) (sA 63 uisLoaded_29 (sA 62 ufarNow_22 (sA 61 (fun _ => ulots_21) (sA 60 urow_28 (sA 58 (fun _ => uisBroken_32) (sA 57 upile_31 (sA 56 uvariables_30 (sA 18 (fun _ => nI lv) g_m))))))))) w_m lv cn t lw (runsP cn lw t (hiresTo σ (nI s1) (cn 2)) kq) B_ H.size (show lv < 2 from by exact hlv) (show TW cn t lw from by exact hTW) (show TM lv cn t lw (sA 64 (fun _ => nI un) (sA 63 uisLoaded_29 (sA 62 ufarNow_22 (sA 61 (fun _ => ulots_21) (sA 60 urow_28 (sA 58 (fun _ => uisBroken_32) (sA 57 upile_31 (sA 56 uvariables_30 (sA 18 (fun _ => nI lv) g_m))))))))) from by exact hTM) (show RS cn (runsP cn lw t (hiresTo σ (nI s1) (cn 2)) kq) urow_28 ufarNow_22 ulots_21 from by exact hp_27) (show WF cn B_ (runsP cn lw t (hiresTo σ (nI s1) (cn 2)) kq) from by exact WF.runs hTW (WF.hires hTW hWF _ (Nat.le_refl _)) _)) (cwV 1 hts (lw_V q2142 q2144 qs102 q133 q2145) rfl rfl rfl (by decide +kernel) ⟨Nat.le_of_ble_eq_true rfl, Nat.le_of_ble_eq_true rfl⟩) (zPreV hK hW hR (wj_split3 (B := [(mw Y ad_m (sA 64 (fun _ => nI un) (sA 63 uisLoaded_29 (sA 62 ufarNow_22 (sA 61 (fun _ => ulots_21) (sA 60 urow_28 (sA 58 (fun _ => uisBroken_32) (sA 57 upile_31 (sA 56 uvariables_30 (sA 18 (fun _ => nI lv) g_m))))))))) w_m)]) (R := []) (C := [(mw Y ad_m (sA 64 (fun _ => nI un) (sA 63 uisLoaded_29 (sA 62 ufarNow_22 (sA 61 (fun _ => ulots_21) (sA 60 urow_28 (sA 58 (fun _ => uisBroken_32) (sA 57 upile_31 (sA 56 uvariables_30 (sA 18 (fun _ => nI lv) g_m))))))))) w_m)]) (O := []) (X := []) (List.Perm.refl _)) (va_recv hK.1 hW.1 (ci := 11) (q0 := 0) rfl rfl)) rfl rfl hl.1 rfl (lv_room (Nat.le_of_ble_eq_true rfl)) dX12_hire_112 ⟨Nat.le_refl _, Nat.le_refl _⟩) hW hA (wj_split (B := [(mw Y ad_m (sA 64 (fun _ => nI un) (sA 63 uisLoaded_29 (sA 62 ufarNow_22 (sA 61 (fun _ => ulots_21) (sA 60 urow_28 (sA 58 (fun _ => uisBroken_32) (sA 57 upile_31 (sA 56 uvariables_30 (sA 18 (fun _ => nI lv) g_m))))))))) w_m)]) (C := [(mw Y ad_m (sA 64 (fun _ => nI un) (sA 63 uisLoaded_29 (sA 62 ufarNow_22 (sA 61 (fun _ => ulots_21) (sA 60 urow_28 (sA 58 (fun _ => uisBroken_32) (sA 57 upile_31 (sA 56 uvariables_30 (sA 18 (fun _ => nI lv) g_m))))))))) w_m)]) (R := []) (List.Perm.refl _)) (fun r_33 u H locs hp_34 hW => ?_)
                have hp_34 : r_33 = zb (cleanP cn (runsP cn lw t (hiresTo σ (nI s1) (cn 2)) kq) true) := hp_34
                have hW : zW D A s.heap H locs (wj [(mw Y ad_m (sA 64 (fun _ => nI un) (sA 63 uisLoaded_29 (sA 62 ufarNow_22 (sA 61 (fun _ => ulots_21) (sA 60 urow_28 (sA 58 (fun _ => uisBroken_32) (sA 57 upile_31 (sA 56 uvariables_30 (sA 18 (fun _ => nI lv) g_m))))))))) w_m)]) := hW.join
                refine lv_if_eq (tgt := 121) hx hb dX12_hire_115 (by decide) (fun c_35 => ?_) (fun c_35 => ?_)
                · have c_35 : ¬ (cleanP cn (runsP cn lw t (hiresTo σ (nI s1) (cn 2)) kq) true) := zb_eq hp_34 c_35
                  have hcl := c_35
                  refine lv_iinc (v := nI (s1 + 1)) (lv' := [(4, .int (nI (s1 + 1))), (3, .int v3_28), (0, .ref (ad_m 0)), (1, .int kx), (2, .int wx)]) hx hb dX12_hire_121 hl (k := 0) rfl (nI_add s1 1) (by decide) rfl (fun ls hl => ?_)
                  refine lv_goto (tgt := 28) hx hb dX12_hire_124 (by decide) ?_
                  exact ih_28 (s1 + 1) v3_28 urow_28 uisLoaded_29 uvariables_30 upile_31 uisBroken_32 ulots_21 ufarNow_22 (by omega) (by omega) (by
                      simp only [hireTo]
                      rw [← hv3]
                      first | exact (zi_f (fun q => q.elim hns (fun z => z hcl)) _ _).symm | exact (zi_t (Or.inr hcl) _ _).symm | exact (zi_t (Or.inl (hs_d hTW hmo hb1 hm1)) _ _).symm | exact (zi_t (Or.inl (hs_e hTW hmo hb1 hm2 (hs_ge (by assumption) (by assumption) hbi))) _ _).symm) _ _ hW _ (lv_sub hl [0, 1, 2, 3, 4] rfl)
                · have c_35 : cleanP cn (runsP cn lw t (hiresTo σ (nI s1) (cn 2)) kq) true := zb_ne hp_34 c_35
                  have hcl := c_35
                  refine lv_iload hx hb dX12_hire_118 (lv_at hl 0 rfl) ?_
                  refine lv_istore_n (lv' := [(3, .int (nI s1)), (4, .int (nI s1)), (0, .ref (ad_m 0)), (1, .int kx), (2, .int wx)]) hx hb dX12_hire_120 rfl hl (by decide) rfl (fun ls hl => ?_)
                  refine lv_iinc (v := nI (s1 + 1)) (lv' := [(4, .int (nI (s1 + 1))), (3, .int (nI s1)), (0, .ref (ad_m 0)), (1, .int kx), (2, .int wx)]) hx hb dX12_hire_121 hl (k := 1) rfl (nI_add s1 1) (by decide) rfl (fun ls hl => ?_)
                  refine lv_goto (tgt := 28) hx hb dX12_hire_124 (by decide) ?_
                  exact ih_28 (s1 + 1) (nI s1) urow_28 uisLoaded_29 uvariables_30 upile_31 uisBroken_32 ulots_21 ufarNow_22 (by omega) (by omega) (by
                      simp only [hireTo]
                      rw [← hv3]
                      first | exact (zi_f (fun q => q.elim hns (fun z => z hcl)) _ _).symm | exact (zi_t (Or.inr hcl) _ _).symm | exact (zi_t (Or.inl (hs_d hTW hmo hb1 hm1)) _ _).symm | exact (zi_t (Or.inl (hs_e hTW hmo hb1 hm2 (hs_ge (by assumption) (by assumption) hbi))) _ _).symm) _ _ hW _ (lv_sub hl [0, 1, 2, 3, 4] rfl)
              refine lv_iload_n hx hb dX12_hire_66 rfl (lv_at hl 2 rfl) ?_
              refine lv_if_lt (tgt := 95) hx hb dX12_hire_67 (by decide) (fun c_36 => ?_) (fun c_36 => ?_)
              · have hb1 := c_36
                exact join_95  (by first | exact hs_a hb1 | exact hs_b hTW hmo hb1 hm1 hm2 | exact hs_c hTW hmo hb1 hm2 (hs_lt (by assumption) (by assumption) hbi)) _ _ hW _ (lv_sub hl [1, 2, 3, 4, 5] rfl)
              · have hb1 := c_36
                refine lv_iload hx hb dX12_hire_70 (lv_at hl 0 rfl) ?_
                refine lv_if_gt (tgt := 121) hx hb dX12_hire_72 (by decide) (fun c_37 => ?_) (fun c_37 => ?_)
                · have hm1 := c_37
                  refine lv_iinc (v := nI (s1 + 1)) (lv' := [(4, .int (nI (s1 + 1))), (5, .int st0_64), (3, .int v3_28), (0, .ref (ad_m 0)), (1, .int kx), (2, .int wx)]) hx hb dX12_hire_121 hl (k := 1) rfl (nI_add s1 1) (by decide) rfl (fun ls hl => ?_)
                  refine lv_goto (tgt := 28) hx hb dX12_hire_124 (by decide) ?_
                  exact ih_28 (s1 + 1) v3_28 x_row_28 x_isLoaded_28 x_variables_28 x_pile_28 x_isBroken_28 x_lots_28 x_farNow_28 (by omega) (by omega) (by
                      simp only [hireTo]
                      rw [← hv3]
                      first | exact (zi_f (fun q => q.elim hns (fun z => z hcl)) _ _).symm | exact (zi_t (Or.inr hcl) _ _).symm | exact (zi_t (Or.inl (hs_d hTW hmo hb1 hm1)) _ _).symm | exact (zi_t (Or.inl (hs_e hTW hmo hb1 hm2 (hs_ge (by assumption) (by assumption) hbi))) _ _).symm) _ _ hW _ (lv_sub hl [0, 2, 3, 4, 5] rfl)
                · have hm1 := c_37
                  refine lv_iload hx hb dX12_hire_75 (lv_at hl 0 rfl) ?_
                  refine lv_if_ne (tgt := 95) hx hb dX12_hire_77 (by decide) (fun c_38 => ?_) (fun c_38 => ?_)
                  · have hm2 := c_38
                    exact join_95  (by first | exact hs_a hb1 | exact hs_b hTW hmo hb1 hm1 hm2 | exact hs_c hTW hmo hb1 hm2 (hs_lt (by assumption) (by assumption) hbi)) _ _ hW _ (lv_sub hl [1, 2, 3, 4, 5] rfl)
                  · have hm2 := c_38
                    refine lv_iload hx hb dX12_hire_80 (lv_at hl 1 rfl) ?_
                    refine z_calli (wc := wj []) (wr := wj [(mw Y ad_m (sA 64 (fun _ => nI un) (sA 63 x_isLoaded_28 (sA 62 x_farNow_28 (sA 61 (fun _ => x_lots_28) (sA 60 x_row_28 (sA 58 (fun _ => x_isBroken_28) (sA 57 x_pile_28 (sA 56 x_variables_28 (sA 18 (fun _ => nI lv) g_m))))))))) w_m)]) (va_runS (As := [.int (nI s1)]) (rest := []) ⟨hx, hb, hml, hown, hts⟩ (m_X12_bits l D Y (nI s1) H.size) (va_cwS 1 hts (lw_S q2185 q2186 q133 q2187) rfl rfl rfl (by decide +kernel) ⟨Nat.le_of_ble_eq_true rfl, Nat.le_of_ble_eq_true rfl⟩) (zPre hK hW hR (wj_split3 (B := [(mw Y ad_m (sA 64 (fun _ => nI un) (sA 63 x_isLoaded_28 (sA 62 x_farNow_28 (sA 61 (fun _ => x_lots_28) (sA 60 x_row_28 (sA 58 (fun _ => x_isBroken_28) (sA 57 x_pile_28 (sA 56 x_variables_28 (sA 18 (fun _ => nI lv) g_m))))))))) w_m)]) (R := []) (C := []) (O := []) (X := [(mw Y ad_m (sA 64 (fun _ => nI un) (sA 63 x_isLoaded_28 (sA 62 x_farNow_28 (sA 61 (fun _ => x_lots_28) (sA 60 x_row_28 (sA 58 (fun _ => x_isBroken_28) (sA 57 x_pile_28 (sA 56 x_variables_28 (sA 18 (fun _ => nI lv) g_m))))))))) w_m)]) (List.Perm.refl _))) rfl rfl hl.1 rfl (lv_room (Nat.le_of_ble_eq_true rfl)) dX12_hire_82 ⟨Nat.le_refl _, Nat.le_refl _⟩) hW hA (wj_split (B := [(mw Y ad_m (sA 64 (fun _ => nI un) (sA 63 x_isLoaded_28 (sA 62 x_farNow_28 (sA 61 (fun _ => x_lots_28) (sA 60 x_row_28 (sA 58 (fun _ => x_isBroken_28) (sA 57 x_pile_28 (sA 56 x_variables_28 (sA 18 (fun _ => nI lv) g_m))))))))) w_m)]) (C := []) (R := [(mw Y ad_m (sA 64 (fun _ => nI un) (sA 63 x_isLoaded_28 (sA 62 x_farNow_28 (sA 61 (fun _ => x_lots_28) (sA 60 x_row_28 (sA 58 (fun _ => x_isBroken_28) (sA 57 x_pile_28 (sA 56 x_variables_28 (sA 18 (fun _ => nI lv) g_m))))))))) w_m)]) (List.Perm.refl _)) (fun r_39 u H locs hp_40 hW => ?_)
                    have hp_40 : r_39 = bitsTo (nI s1) 8 := hp_40
                    have hW : zW D A s.heap H locs (wj [(mw Y ad_m (sA 64 (fun _ => nI un) (sA 63 x_isLoaded_28 (sA 62 x_farNow_28 (sA 61 (fun _ => x_lots_28) (sA 60 x_row_28 (sA 58 (fun _ => x_isBroken_28) (sA 57 x_pile_28 (sA 56 x_variables_28 (sA 18 (fun _ => nI lv) g_m))))))))) w_m)]) := hW.join
                    refine lv_iload_n hx hb dX12_hire_85 rfl (lv_at hl 2 rfl) ?_
                    refine z_calli (wc := wj []) (wr := wj [(mw Y ad_m (sA 64 (fun _ => nI un) (sA 63 x_isLoaded_28 (sA 62 x_farNow_28 (sA 61 (fun _ => x_lots_28) (sA 60 x_row_28 (sA 58 (fun _ => x_isBroken_28) (sA 57 x_pile_28 (sA 56 x_variables_28 (sA 18 (fun _ => nI lv) g_m))))))))) w_m)]) (va_runS (As := [.int v3_28]) (rest := [.int r_39]) ⟨hx, hb, hml, hown, hts⟩ (m_X12_bits l D Y v3_28 H.size) (va_cwS 1 hts (lw_S q2185 q2186 q133 q2187) rfl rfl rfl (by decide +kernel) ⟨Nat.le_of_ble_eq_true rfl, Nat.le_of_ble_eq_true rfl⟩) (zPre hK hW hR (wj_split3 (B := [(mw Y ad_m (sA 64 (fun _ => nI un) (sA 63 x_isLoaded_28 (sA 62 x_farNow_28 (sA 61 (fun _ => x_lots_28) (sA 60 x_row_28 (sA 58 (fun _ => x_isBroken_28) (sA 57 x_pile_28 (sA 56 x_variables_28 (sA 18 (fun _ => nI lv) g_m))))))))) w_m)]) (R := []) (C := []) (O := []) (X := [(mw Y ad_m (sA 64 (fun _ => nI un) (sA 63 x_isLoaded_28 (sA 62 x_farNow_28 (sA 61 (fun _ => x_lots_28) (sA 60 x_row_28 (sA 58 (fun _ => x_isBroken_28) (sA 57 x_pile_28 (sA 56 x_variables_28 (sA 18 (fun _ => nI lv) g_m))))))))) w_m)]) (List.Perm.refl _))) rfl rfl hl.1 rfl (lv_room (Nat.le_of_ble_eq_true rfl)) dX12_hire_86 ⟨Nat.le_refl _, Nat.le_refl _⟩) hW hA (wj_split (B := [(mw Y ad_m (sA 64 (fun _ => nI un) (sA 63 x_isLoaded_28 (sA 62 x_farNow_28 (sA 61 (fun _ => x_lots_28) (sA 60 x_row_28 (sA 58 (fun _ => x_isBroken_28) (sA 57 x_pile_28 (sA 56 x_variables_28 (sA 18 (fun _ => nI lv) g_m))))))))) w_m)]) (C := []) (R := [(mw Y ad_m (sA 64 (fun _ => nI un) (sA 63 x_isLoaded_28 (sA 62 x_farNow_28 (sA 61 (fun _ => x_lots_28) (sA 60 x_row_28 (sA 58 (fun _ => x_isBroken_28) (sA 57 x_pile_28 (sA 56 x_variables_28 (sA 18 (fun _ => nI lv) g_m))))))))) w_m)]) (List.Perm.refl _)) (fun r_41 u H locs hp_42 hW => ?_)
                    have hp_42 : r_41 = bitsTo v3_28 8 := hp_42
                    have hW : zW D A s.heap H locs (wj [(mw Y ad_m (sA 64 (fun _ => nI un) (sA 63 x_isLoaded_28 (sA 62 x_farNow_28 (sA 61 (fun _ => x_lots_28) (sA 60 x_row_28 (sA 58 (fun _ => x_isBroken_28) (sA 57 x_pile_28 (sA 56 x_variables_28 (sA 18 (fun _ => nI lv) g_m))))))))) w_m)]) := hW.join
                    refine lv_icmp_lt (tgt := 95) hx hb dX12_hire_89 (by decide) (fun c_43 => ?_) (fun c_43 => ?_)
                    · have hbi := c_43
                      exact join_95  (by first | exact hs_a hb1 | exact hs_b hTW hmo hb1 hm1 hm2 | exact hs_c hTW hmo hb1 hm2 (hs_lt (by assumption) (by assumption) hbi)) _ _ hW _ (lv_sub hl [1, 2, 3, 4, 5] rfl)
                    · have hbi := c_43
                      refine lv_goto (tgt := 121) hx hb dX12_hire_92 (by decide) ?_
                      refine lv_iinc (v := nI (s1 + 1)) (lv' := [(4, .int (nI (s1 + 1))), (5, .int st0_64), (3, .int v3_28), (0, .ref (ad_m 0)), (1, .int kx), (2, .int wx)]) hx hb dX12_hire_121 hl (k := 1) rfl (nI_add s1 1) (by decide) rfl (fun ls hl => ?_)
                      refine lv_goto (tgt := 28) hx hb dX12_hire_124 (by decide) ?_
                      exact ih_28 (s1 + 1) v3_28 x_row_28 x_isLoaded_28 x_variables_28 x_pile_28 x_isBroken_28 x_lots_28 x_farNow_28 (by omega) (by omega) (by
                          simp only [hireTo]
                          rw [← hv3]
                          first | exact (zi_f (fun q => q.elim hns (fun z => z hcl)) _ _).symm | exact (zi_t (Or.inr hcl) _ _).symm | exact (zi_t (Or.inl (hs_d hTW hmo hb1 hm1)) _ _).symm | exact (zi_t (Or.inl (hs_e hTW hmo hb1 hm2 (hs_ge (by assumption) (by assumption) hbi))) _ _).symm) _ _ hW _ (lv_sub hl [0, 2, 3, 4, 5] rfl)
            refine lv_if_ge (tgt := 52) hx hb dX12_hire_45 (by decide) (fun c_44 => ?_) (fun c_44 => ?_)
            · have hb0 := c_44
              refine lv_aload_n hx hb dX12_hire_52 rfl (lv_at hl 2 rfl) ?_
              refine lv_iload hx hb dX12_hire_53 (lv_at hl 0 rfl) ?_
              refine z_calli (wc := wj [(mw Y ad_m (sA 64 (fun _ => nI un) (sA 63 x_isLoaded_28 (sA 62 x_farNow_28 (sA 61 (fun _ => x_lots_28) (sA 60 x_row_28 (sA 58 (fun _ => x_isBroken_28) (sA 57 x_pile_28 (sA 56 x_variables_28 (sA 18 (fun _ => nI lv) g_m))))))))) w_m)]) (wr := wj []) (va_runV (As := [.int (nI s1)]) (rest := []) ⟨hx, hb, hml, hown, hts⟩ (m_X12_feesOf l D Y ad_m (sA 64 (fun _ => nI un) (sA 63 x_isLoaded_28 (sA 62 x_farNow_28 (sA 61 (fun _ => x_lots_28) (sA 60 x_row_28 (sA 58 (fun _ => x_isBroken_28) (sA 57 x_pile_28 (sA 56 x_variables_28 (sA 18 (fun _ => nI lv) g_m))))))))) w_m lv cn t lw (nI s1) H.size (show lv < 2 from by exact hlv) (show TW cn t lw from by exact hTW) (show TM lv cn t lw (sA 64 (fun _ => nI un) (sA 63 x_isLoaded_28 (sA 62 x_farNow_28 (sA 61 (fun _ => x_lots_28) (sA 60 x_row_28 (sA 58 (fun _ => x_isBroken_28) (sA 57 x_pile_28 (sA 56 x_variables_28 (sA 18 (fun _ => nI lv) g_m))))))))) from by exact hTM)) (cwV 1 hts (lw_V q2181 q2183 qs107 q133 q2184) rfl rfl rfl (by decide +kernel) ⟨Nat.le_of_ble_eq_true rfl, Nat.le_of_ble_eq_true rfl⟩) (zPreV hK hW hR (wj_split3 (B := [(mw Y ad_m (sA 64 (fun _ => nI un) (sA 63 x_isLoaded_28 (sA 62 x_farNow_28 (sA 61 (fun _ => x_lots_28) (sA 60 x_row_28 (sA 58 (fun _ => x_isBroken_28) (sA 57 x_pile_28 (sA 56 x_variables_28 (sA 18 (fun _ => nI lv) g_m))))))))) w_m)]) (R := []) (C := [(mw Y ad_m (sA 64 (fun _ => nI un) (sA 63 x_isLoaded_28 (sA 62 x_farNow_28 (sA 61 (fun _ => x_lots_28) (sA 60 x_row_28 (sA 58 (fun _ => x_isBroken_28) (sA 57 x_pile_28 (sA 56 x_variables_28 (sA 18 (fun _ => nI lv) g_m))))))))) w_m)]) (O := []) (X := []) (List.Perm.refl _)) (va_recv hK.1 hW.1 (ci := 11) (q0 := 0) rfl rfl)) rfl rfl hl.1 rfl (lv_room (Nat.le_of_ble_eq_true rfl)) dX12_hire_55 ⟨Nat.le_refl _, Nat.le_refl _⟩) hW hA (wj_split (B := [(mw Y ad_m (sA 64 (fun _ => nI un) (sA 63 x_isLoaded_28 (sA 62 x_farNow_28 (sA 61 (fun _ => x_lots_28) (sA 60 x_row_28 (sA 58 (fun _ => x_isBroken_28) (sA 57 x_pile_28 (sA 56 x_variables_28 (sA 18 (fun _ => nI lv) g_m))))))))) w_m)]) (C := [(mw Y ad_m (sA 64 (fun _ => nI un) (sA 63 x_isLoaded_28 (sA 62 x_farNow_28 (sA 61 (fun _ => x_lots_28) (sA 60 x_row_28 (sA 58 (fun _ => x_isBroken_28) (sA 57 x_pile_28 (sA 56 x_variables_28 (sA 18 (fun _ => nI lv) g_m))))))))) w_m)]) (R := []) (List.Perm.refl _)) (fun r_45 u H locs hp_46 hW => ?_)
              have hp_46 : r_45 = feesTo t (nI s1) (cn 2) := hp_46
              have hW : zW D A s.heap H locs (wj [(mw Y ad_m (sA 64 (fun _ => nI un) (sA 63 x_isLoaded_28 (sA 62 x_farNow_28 (sA 61 (fun _ => x_lots_28) (sA 60 x_row_28 (sA 58 (fun _ => x_isBroken_28) (sA 57 x_pile_28 (sA 56 x_variables_28 (sA 18 (fun _ => nI lv) g_m))))))))) w_m)]) := hW.join
              refine lv_aload_n hx hb dX12_hire_58 rfl (lv_at hl 2 rfl) ?_
              refine lv_iload_n hx hb dX12_hire_59 rfl (lv_at hl 1 rfl) ?_
              refine z_calli (wc := wj [(mw Y ad_m (sA 64 (fun _ => nI un) (sA 63 x_isLoaded_28 (sA 62 x_farNow_28 (sA 61 (fun _ => x_lots_28) (sA 60 x_row_28 (sA 58 (fun _ => x_isBroken_28) (sA 57 x_pile_28 (sA 56 x_variables_28 (sA 18 (fun _ => nI lv) g_m))))))))) w_m)]) (wr := wj []) (va_runV (As := [.int v3_28]) (rest := [.int r_45]) ⟨hx, hb, hml, hown, hts⟩ (m_X12_feesOf l D Y ad_m (sA 64 (fun _ => nI un) (sA 63 x_isLoaded_28 (sA 62 x_farNow_28 (sA 61 (fun _ => x_lots_28) (sA 60 x_row_28 (sA 58 (fun _ => x_isBroken_28) (sA 57 x_pile_28 (sA 56 x_variables_28 (sA 18 (fun _ => nI lv) g_m))))))))) w_m lv cn t lw v3_28 H.size (show lv < 2 from by exact hlv) (show TW cn t lw from by exact hTW) (show TM lv cn t lw (sA 64 (fun _ => nI un) (sA 63 x_isLoaded_28 (sA 62 x_farNow_28 (sA 61 (fun _ => x_lots_28) (sA 60 x_row_28 (sA 58 (fun _ => x_isBroken_28) (sA 57 x_pile_28 (sA 56 x_variables_28 (sA 18 (fun _ => nI lv) g_m))))))))) from by exact hTM)) (cwV 1 hts (lw_V q2181 q2183 qs107 q133 q2184) rfl rfl rfl (by decide +kernel) ⟨Nat.le_of_ble_eq_true rfl, Nat.le_of_ble_eq_true rfl⟩) (zPreV hK hW hR (wj_split3 (B := [(mw Y ad_m (sA 64 (fun _ => nI un) (sA 63 x_isLoaded_28 (sA 62 x_farNow_28 (sA 61 (fun _ => x_lots_28) (sA 60 x_row_28 (sA 58 (fun _ => x_isBroken_28) (sA 57 x_pile_28 (sA 56 x_variables_28 (sA 18 (fun _ => nI lv) g_m))))))))) w_m)]) (R := []) (C := [(mw Y ad_m (sA 64 (fun _ => nI un) (sA 63 x_isLoaded_28 (sA 62 x_farNow_28 (sA 61 (fun _ => x_lots_28) (sA 60 x_row_28 (sA 58 (fun _ => x_isBroken_28) (sA 57 x_pile_28 (sA 56 x_variables_28 (sA 18 (fun _ => nI lv) g_m))))))))) w_m)]) (O := []) (X := []) (List.Perm.refl _)) (va_recv hK.1 hW.1 (ci := 11) (q0 := 0) rfl rfl)) rfl rfl hl.1 rfl (lv_room (Nat.le_of_ble_eq_true rfl)) dX12_hire_60 ⟨Nat.le_refl _, Nat.le_refl _⟩) hW hA (wj_split (B := [(mw Y ad_m (sA 64 (fun _ => nI un) (sA 63 x_isLoaded_28 (sA 62 x_farNow_28 (sA 61 (fun _ => x_lots_28) (sA 60 x_row_28 (sA 58 (fun _ => x_isBroken_28) (sA 57 x_pile_28 (sA 56 x_variables_28 (sA 18 (fun _ => nI lv) g_m))))))))) w_m)]) (C := [(mw Y ad_m (sA 64 (fun _ => nI un) (sA 63 x_isLoaded_28 (sA 62 x_farNow_28 (sA 61 (fun _ => x_lots_28) (sA 60 x_row_28 (sA 58 (fun _ => x_isBroken_28) (sA 57 x_pile_28 (sA 56 x_variables_28 (sA 18 (fun _ => nI lv) g_m))))))))) w_m)]) (R := []) (List.Perm.refl _)) (fun r_47 u H locs hp_48 hW => ?_)
              have hp_48 : r_47 = feesTo t v3_28 (cn 2) := hp_48
              have hW : zW D A s.heap H locs (wj [(mw Y ad_m (sA 64 (fun _ => nI un) (sA 63 x_isLoaded_28 (sA 62 x_farNow_28 (sA 61 (fun _ => x_lots_28) (sA 60 x_row_28 (sA 58 (fun _ => x_isBroken_28) (sA 57 x_pile_28 (sA 56 x_variables_28 (sA 18 (fun _ => nI lv) g_m))))))))) w_m)]) := hW.join
              refine lv_isub hx hb dX12_hire_63 ?_
              exact join_64 (r_45 - r_47) (by first | exact (if_pos hb0).symm | exact (if_pos (Int32.not_le.mp hb0)).symm | (rw [if_neg (Int32.not_lt.mpr hb0)]; grind) | (rw [if_neg hb0]; grind)) _ _ hW _ (lv_sub hl [0, 1, 2, 3, 4] rfl)
            · have hb0 := c_44
              refine lv_iconst (v := 0) hx hb dX12_hire_48 (by decide) ?_
              refine lv_goto (tgt := 64) hx hb dX12_hire_49 (by decide) ?_
              exact join_64 0 (by first | exact (if_pos hb0).symm | exact (if_pos (Int32.not_le.mp hb0)).symm | (rw [if_neg (Int32.not_lt.mpr hb0)]; grind) | (rw [if_neg hb0]; grind)) _ _ hW _ (lv_sub hl [0, 1, 2, 3, 4] rfl)
      exact loop_28 _ 0 (-2) (g_m 60) (g_m 63) (g_m 56) (g_m 57) (g_m 58 0) (g_m 61 0) (g_m 62) (Nat.lt_succ_self _) (by omega) (by rfl) _ _ hW _ (lv_sub hl [0, 1, 2, 3, 4] rfl)
    · have c_6 : ¬ (¬ wx < 0 ∧ ¬ 1 < wx) := zb_eq hp_5 c_6
      refine lv_iconst (v := (-1)) hx hb dX12_hire_20 (by decide) ?_
      refine z_ireti ((g_m 60, g_m 63, g_m 56, g_m 57, g_m 58 0, g_m 61 0, g_m 62) : (Nat → Int32) × (Nat → Int32) × (Nat → Int32) × (Nat → Int32) × (Int32) × (Int32) × (Nat → Int32)) hx hb hr hlocks rfl hW rfl dX12_hire_21 ?_
      show (-1) = hireO cn lw t σ kx wx
      unfold hireO
      exact Eq.symm (zi_f (by first | (intro hq; exact absurd hq.1 (by assumption)) | (intro hq; exact absurd hq.2 (by assumption))) _ _)
set_option maxHeartbeats 4000000 in
set_option maxRecDepth 100000 in
theorem m_X12_bestSwap (l : Launch) (D : va_G) (Y : Nat → ClassId) (ad_m : Nat → Nat) (g_m : Nat → Nat → Int32) (w_m : Nat → Nat → Int64) (lv : Nat) (cn : Nat → Nat) (t : tab) (lw : Nat → Option LAW) (σ : tab) (U : List tab) (un : Nat) (B_ : Int) (wx : Int32) (sz : Nat) (hlv : lv < 2) (hTW : TW cn t lw) (hTM : TM lv cn t lw g_m) (hKN : KN (cn 2) σ U (g_m 59) (g_m 65) un) (hF1 : ∀ h, h < cn 1 → σ 1 h = t 2 h) (hF2 : σ 18 0 = t 12 2) (hWF : WF cn B_ σ) : Met l yX12_bestSwap (ws_ yX12_bestSwap cX12_bestSwap 8 (some .int)) ({ frames := 6, cells := 0, slots := 0, locals := 140 }) (zPc D Y [.ref (ad_m 0), .int wx] sz (wj []) (wj [(mw Y ad_m (sA 64 (fun _ => nI un) (sA 18 (fun _ => nI lv) g_m)) w_m)])) (va_Qi (fun (r : Int32) (u : (Nat → Int32) × (Nat → Int32) × (Nat → Int32) × (Nat → Int32) × (Int32) × (Int32) × (Nat → Int32)) => r = bestSwapO cn lw t σ wx) (zB D (fun (u : (Nat → Int32) × (Nat → Int32) × (Nat → Int32) × (Nat → Int32) × (Int32) × (Int32) × (Nat → Int32)) => (wj [(mw Y ad_m (sA 64 (fun _ => nI un) (sA 63 u.2.1 (sA 62 u.2.2.2.2.2.2 (sA 61 (fun _ => u.2.2.2.2.2.1) (sA 60 u.1 (sA 58 (fun _ => u.2.2.2.2.1) (sA 57 u.2.2.2.1 (sA 56 u.2.2.1 (sA 18 (fun _ => nI lv) g_m))))))))) w_m)])) (va_A (wj [(mw Y ad_m (sA 64 (fun _ => nI un) (sA 18 (fun _ => nI lv) g_m)) w_m)]) sz)) (va_A (wj [(mw Y ad_m (sA 64 (fun _ => nI un) (sA 18 (fun _ => nI lv) g_m)) w_m)]) sz)) 0 0 (va_A (wj [(mw Y ad_m (sA 64 (fun _ => nI un) (sA 18 (fun _ => nI lv) g_m)) w_m)]) sz) := by
  refine Met.ofW (cc := cX12_bestSwap) (maxL := 8) (ret := (some .int)) (by decide) rfl ?_
  intro p e s m args below meth c s₁ B hml hv
  obtain ⟨rfl, hsz, hW, hR, hK, hA⟩ := zEntry hv
  subst hsz
  have hx := B.exec
  have hb := B.bytes
  have hr := B.returns
  have hlocks := B.notSynchronized
  have hts : ∀ w ∈ lw_all, w.before _ s = true := fun w h => atoms_spec (ws := (ws_ yX12_bestSwap cX12_bestSwap 8 (some .int))) B.pre w (List.mem_cons_of_mem _ h)
  have hown : s.vm.findClass RX12 = some m.cls := findClass_of_methodNamed B.named
  generalize hAe : va_A (wj [(mw Y ad_m (sA 64 (fun _ => nI un) (sA 18 (fun _ => nI lv) g_m)) w_m)]) s.heap.size = A at hW hR hA ⊢
  have hl := lv_entry ([.ref (ad_m 0), .int wx]) (n := 8) (Nat.le_of_ble_eq_true rfl)
  rw [lg_entry_eq]
  generalize (lg_sl ([.ref (ad_m 0), .int wx]) ++ List.replicate (8 - (lg_sl ([.ref (ad_m 0), .int wx])).length) Slot.unset).toArray = ls at hl ⊢
  have hl : lv_has ls 8 [(0, .ref (ad_m 0)), (1, .int wx)] := hl
  have hk8 := hTW.n2
  have hk6 := hTW.n1
  have hk60 := hTW.n0
  have hk5 := hTW.n3
  refine lv_iload_n hx hb dX12_bestSwap_0 rfl (lv_at hl 1 rfl) ?_
  refine lv_iconst (v := 0) hx hb dX12_bestSwap_1 (by decide) ?_
  refine lv_iconst (v := 1) hx hb dX12_bestSwap_2 (by decide) ?_
  refine z_calli (wc := wj []) (wr := wj [(mw Y ad_m (sA 64 (fun _ => nI un) (sA 18 (fun _ => nI lv) g_m)) w_m)]) (va_runS (As := [.int wx, .int 0, .int 1]) (rest := []) ⟨hx, hb, hml, hown, hts⟩ (m_X12_in l D Y wx 0 1 s.heap.size) (va_cwS 3 hts (lw_S q1997 q1998 q133 q1999) rfl rfl rfl (by decide +kernel) ⟨Nat.le_of_ble_eq_true rfl, Nat.le_of_ble_eq_true rfl⟩) (zPre hK hW hR (wj_split3 (B := [(mw Y ad_m (sA 64 (fun _ => nI un) (sA 18 (fun _ => nI lv) g_m)) w_m)]) (R := []) (C := []) (O := []) (X := [(mw Y ad_m (sA 64 (fun _ => nI un) (sA 18 (fun _ => nI lv) g_m)) w_m)]) (List.Perm.refl _))) rfl rfl hl.1 rfl (lv_room (Nat.le_of_ble_eq_true rfl)) dX12_bestSwap_3 ⟨Nat.le_refl _, Nat.le_refl _⟩) hW hA (wj_split (B := [(mw Y ad_m (sA 64 (fun _ => nI un) (sA 18 (fun _ => nI lv) g_m)) w_m)]) (C := []) (R := [(mw Y ad_m (sA 64 (fun _ => nI un) (sA 18 (fun _ => nI lv) g_m)) w_m)]) (List.Perm.refl _)) (fun r_1 u H locs hp_2 hW => ?_)
  have hp_2 : r_1 = zb (¬ wx < 0 ∧ ¬ 1 < wx) := hp_2
  have hW : zW D A s.heap H locs (wj [(mw Y ad_m (sA 64 (fun _ => nI un) (sA 18 (fun _ => nI lv) g_m)) w_m)]) := hW.join
  refine lv_if_ne (tgt := 11) hx hb dX12_bestSwap_6 (by decide) (fun c_3 => ?_) (fun c_3 => ?_)
  · have c_3 : ¬ wx < 0 ∧ ¬ 1 < wx := zb_ne hp_2 c_3
    refine lv_aload_n hx hb dX12_bestSwap_11 rfl (lv_at hl 0 rfl) ?_
    refine z_callv (wc := wj [(mw Y ad_m (sA 64 (fun _ => nI un) (sA 18 (fun _ => nI lv) g_m)) w_m)]) (wr := wj []) (va_runV (As := []) (rest := []) ⟨hx, hb, hml, hown, hts⟩ (m_X12_copies l D Y ad_m (sA 64 (fun _ => nI un) (sA 18 (fun _ => nI lv) g_m)) w_m lv cn t lw σ H.size (show lv < 2 from by exact hlv) (show TW cn t lw from by exact hTW) (show TM lv cn t lw (sA 64 (fun _ => nI un) (sA 18 (fun _ => nI lv) g_m)) from by exact hTM) (show MR (cn 2) σ (g_m 59) from by exact hKN.mr) (show ∀ h, h < cn 1 → σ 1 h = t 2 h from by exact hF1) (show σ 18 0 = t 12 2 from by exact hF2)) (cwV 0 hts (lw_V q2020 q2022 qs86 q133 q2023) rfl rfl rfl (by decide +kernel) ⟨Nat.le_of_ble_eq_true rfl, Nat.le_of_ble_eq_true rfl⟩) (zPreV hK hW hR (wj_split3 (B := [(mw Y ad_m (sA 64 (fun _ => nI un) (sA 18 (fun _ => nI lv) g_m)) w_m)]) (R := []) (C := [(mw Y ad_m (sA 64 (fun _ => nI un) (sA 18 (fun _ => nI lv) g_m)) w_m)]) (O := []) (X := []) (List.Perm.refl _)) (va_recv hK.1 hW.1 (ci := 11) (q0 := 0) rfl rfl)) rfl rfl hl.1 rfl (lv_room (Nat.le_of_ble_eq_true rfl)) dX12_bestSwap_12 ⟨Nat.le_refl _, Nat.le_refl _⟩) hW hA (wj_split (B := [(mw Y ad_m (sA 64 (fun _ => nI un) (sA 18 (fun _ => nI lv) g_m)) w_m)]) (C := [(mw Y ad_m (sA 64 (fun _ => nI un) (sA 18 (fun _ => nI lv) g_m)) w_m)]) (R := []) (List.Perm.refl _)) (fun  u H locs hp_5 hW => ?_)
    obtain ⟨urow_6, ulots_7, ufarNow_8⟩ := u
    have hp_5 : RS cn σ urow_6 ufarNow_8 ulots_7 := hp_5
    have hW : zW D A s.heap H locs (wj [(mw Y ad_m (sA 64 (fun _ => nI un) (sA 62 ufarNow_8 (sA 61 (fun _ => ulots_7) (sA 60 urow_6 (sA 18 (fun _ => nI lv) g_m))))) w_m)]) := hW.join
    refine lv_bipush (v := (-2)) hx hb dX12_bestSwap_15 (by decide) ?_
    refine lv_istore_n (lv' := [(2, .int (-2)), (0, .ref (ad_m 0)), (1, .int wx)]) hx hb dX12_bestSwap_17 rfl hl (by decide) rfl (fun ls hl => ?_)
    refine lv_aload_n hx hb dX12_bestSwap_18 rfl (lv_at hl 1 rfl) ?_
    refine z_calli (wc := wj [(mw Y ad_m (sA 64 (fun _ => nI un) (sA 62 ufarNow_8 (sA 61 (fun _ => ulots_7) (sA 60 urow_6 (sA 18 (fun _ => nI lv) g_m))))) w_m)]) (wr := wj []) (va_runV (As := []) (rest := []) ⟨hx, hb, hml, hown, hts⟩ (m_X12_cleanBy l D Y ad_m (sA 64 (fun _ => nI un) (sA 62 ufarNow_8 (sA 61 (fun _ => ulots_7) (sA 60 urow_6 (sA 18 (fun _ => nI lv) g_m))))) w_m lv cn t lw σ B_ H.size (show lv < 2 from by exact hlv) (show TW cn t lw from by exact hTW) (show TM lv cn t lw (sA 64 (fun _ => nI un) (sA 62 ufarNow_8 (sA 61 (fun _ => ulots_7) (sA 60 urow_6 (sA 18 (fun _ => nI lv) g_m))))) from by exact hTM) (show RS cn σ urow_6 ufarNow_8 ulots_7 from by exact hp_5) (show WF cn B_ σ from by exact hWF)) (cwV 0 hts (lw_V q2150 q2152 qs103 q133 q2153) rfl rfl rfl (by decide +kernel) ⟨Nat.le_of_ble_eq_true rfl, Nat.le_of_ble_eq_true rfl⟩) (zPreV hK hW hR (wj_split3 (B := [(mw Y ad_m (sA 64 (fun _ => nI un) (sA 62 ufarNow_8 (sA 61 (fun _ => ulots_7) (sA 60 urow_6 (sA 18 (fun _ => nI lv) g_m))))) w_m)]) (R := []) (C := [(mw Y ad_m (sA 64 (fun _ => nI un) (sA 62 ufarNow_8 (sA 61 (fun _ => ulots_7) (sA 60 urow_6 (sA 18 (fun _ => nI lv) g_m))))) w_m)]) (O := []) (X := []) (List.Perm.refl _)) (va_recv hK.1 hW.1 (ci := 11) (q0 := 0) rfl rfl)) rfl rfl hl.1 rfl (lv_room (Nat.le_of_ble_eq_true rfl)) dX12_bestSwap_19 ⟨Nat.le_refl _, Nat.le_refl _⟩) hW hA (wj_split (B := [(mw Y ad_m (sA 64 (fun _ => nI un) (sA 62 ufarNow_8 (sA 61 (fun _ => ulots_7) (sA 60 urow_6 (sA 18 (fun _ => nI lv) g_m))))) w_m)]) (C := [(mw Y ad_m (sA 64 (fun _ => nI un) (sA 62 ufarNow_8 (sA 61 (fun _ => ulots_7) (sA 60 urow_6 (sA 18 (fun _ => nI lv) g_m))))) w_m)]) (R := []) (List.Perm.refl _)) (fun r_9 u H locs hp_10 hW => ?_)
    obtain ⟨urow_11, uisLoaded_12, uvariables_13, upile_14, uisBroken_15⟩ := u
    have hp_10 : r_9 = cleanByP cn lw t σ ∧ True := hp_10
    have hW : zW D A s.heap H locs (wj [(mw Y ad_m (sA 64 (fun _ => nI un) (sA 63 uisLoaded_12 (sA 62 ufarNow_8 (sA 61 (fun _ => ulots_7) (sA 60 urow_11 (sA 58 (fun _ => uisBroken_15) (sA 57 upile_14 (sA 56 uvariables_13 (sA 18 (fun _ => nI lv) g_m))))))))) w_m)]) := hW.join
    refine lv_istore_n (lv' := [(3, .int r_9), (2, .int (-2)), (0, .ref (ad_m 0)), (1, .int wx)]) hx hb dX12_bestSwap_22 rfl hl (by decide) rfl (fun ls hl => ?_)
    refine lv_iconst (v := 0) hx hb dX12_bestSwap_23 (by decide) ?_
    refine lv_istore (lv' := [(4, .int 0), (3, .int r_9), (2, .int (-2)), (0, .ref (ad_m 0)), (1, .int wx)]) hx hb dX12_bestSwap_24 hl (by decide) rfl (fun ls hl => ?_)
    have loop_26 : ∀ (n : Nat) (aa : Nat) (v3_26 : Int32) (v2_26 : Int32) (x_row_26 : Nat → Int32) (x_isLoaded_26 : Nat → Int32) (x_variables_26 : Nat → Int32) (x_pile_26 : Nat → Int32) (x_isBroken_26 : Int32) (x_lots_26 : Int32) (x_farNow_26 : Nat → Int32), cn 1 - aa < n → (aa ≤ cn 1) → (swOut cn lw t σ aa = (v2_26, v3_26)) → ∀ (H : Heap) (locs : List Loc), zW D A s.heap H locs (wj [(mw Y ad_m (sA 64 (fun _ => nI un) (sA 63 x_isLoaded_26 (sA 62 x_farNow_26 (sA 61 (fun _ => x_lots_26) (sA 60 x_row_26 (sA 58 (fun _ => x_isBroken_26) (sA 57 x_pile_26 (sA 56 x_variables_26 (sA 18 (fun _ => nI lv) g_m))))))))) w_m)]) → ∀ (ls : Array Slot), lv_has ls 8 [(4, .int (nI aa)), (3, .int v3_26), (2, .int v2_26), (0, .ref (ad_m 0)), (1, .int wx)] → W p l e (headSpec (ws_ yX12_bestSwap cX12_bestSwap 8 (some .int)) ({ frames := 6, cells := 0, slots := 0, locals := 140 })).room s m ([.ref (ad_m 0), .int wx] : List Value).toArray below meth c H locs 0 0 (MQ below (va_Qi (fun (r : Int32) (u : (Nat → Int32) × (Nat → Int32) × (Nat → Int32) × (Nat → Int32) × (Int32) × (Int32) × (Nat → Int32)) => r = bestSwapO cn lw t σ wx) (zB D (fun (u : (Nat → Int32) × (Nat → Int32) × (Nat → Int32) × (Nat → Int32) × (Int32) × (Int32) × (Nat → Int32)) => (wj [(mw Y ad_m (sA 64 (fun _ => nI un) (sA 63 u.2.1 (sA 62 u.2.2.2.2.2.2 (sA 61 (fun _ => u.2.2.2.2.2.1) (sA 60 u.1 (sA 58 (fun _ => u.2.2.2.2.1) (sA 57 u.2.2.2.1 (sA 56 u.2.2.1 (sA 18 (fun _ => nI lv) g_m))))))))) w_m)])) A) A) ([.ref (ad_m 0), .int wx] : List Value).toArray s 0 0 A) (F0 m 26 ls []) := by
      intro n
      induction n with
      | zero =>
        intro aa v3_26 v2_26 x_row_26 x_isLoaded_26 x_variables_26 x_pile_26 x_isBroken_26 x_lots_26 x_farNow_26 hmz
        exact absurd hmz (Nat.not_lt_zero _)
      | succ n ih =>
        intro aa v3_26 v2_26 x_row_26 x_isLoaded_26 x_variables_26 x_pile_26 x_isBroken_26 x_lots_26 x_farNow_26 hm_26 hi hs H locs hW ls hl
        have ih_26 := ih
        clear ih
        refine lv_iload hx hb dX12_bestSwap_26 (lv_at hl 0 rfl) ?_
        refine lv_aload_n hx hb dX12_bestSwap_28 rfl (lv_at hl 3 rfl) ?_
        refine va_get (v := .ref (ad_m 27)) (C := RX12) (T := TX12) (N := 75) (ci := 11) hx hb hts in_X12 hown hK.1 hW.1 0 rfl rfl 27 (by decide) (hts _ q1663) (fun _ h9 => h9) rfl dX12_bestSwap_29 ?_
        refine lv_aload_n hx hb dX12_bestSwap_32 rfl (lv_at hl 3 rfl) ?_
        refine va_get (v := .int (nI lv)) (C := RX12) (T := TX12) (N := 75) (ci := 11) hx hb hts in_X12 hown hK.1 hW.1 0 rfl rfl 18 (by decide) (hts _ q1654) (fun _ h9 => h9) rfl dX12_bestSwap_33 ?_
        refine z_iald (v := nI (cn 1)) (f := g_m 27) (j := lv) hx hb hK.1 hW.1 14 0 rfl rfl (vp_in_nI (n := lv) (by omega) (by decide)) (nI_clamp (n := lv) (by omega)) (TM.c27 hTM) dX12_bestSwap_36 ?_
        refine lv_icmp_ge (tgt := 144) hx hb dX12_bestSwap_37 (by decide) (fun c_16 => ?_) (fun c_16 => ?_)
        · have c_16 : cn 1 ≤ aa := (nI_leI (a := cn 1) (b := aa) (by omega) (by omega)).mp c_16
          refine lv_iload_n hx hb dX12_bestSwap_144 rfl (lv_at hl 4 rfl) ?_
          refine lv_if_ne (tgt := 152) hx hb dX12_bestSwap_145 (by decide) (fun c_17 => ?_) (fun c_17 => ?_)
          · have hw := c_17
            refine lv_iload_n hx hb dX12_bestSwap_152 rfl (lv_at hl 1 rfl) ?_
            refine z_ireti ((x_row_26, x_isLoaded_26, x_variables_26, x_pile_26, x_isBroken_26, x_lots_26, x_farNow_26) : (Nat → Int32) × (Nat → Int32) × (Nat → Int32) × (Nat → Int32) × (Int32) × (Int32) × (Nat → Int32)) hx hb hr hlocks rfl hW rfl dX12_bestSwap_153 ?_
            show v3_26 = bestSwapO cn lw t σ wx
            have ea : aa = cn 1 := by omega
            unfold bestSwapO
            refine Eq.trans ?_ (Eq.symm (zi_t (show inP wx 0 1 from c_3) _ _))
            rw [← ea, hs]
            first | rw [if_pos hw] | rw [if_neg hw]
          · have hw := c_17
            refine lv_iload_n hx hb dX12_bestSwap_148 rfl (lv_at hl 2 rfl) ?_
            refine lv_goto (tgt := 153) hx hb dX12_bestSwap_149 (by decide) ?_
            refine z_ireti ((x_row_26, x_isLoaded_26, x_variables_26, x_pile_26, x_isBroken_26, x_lots_26, x_farNow_26) : (Nat → Int32) × (Nat → Int32) × (Nat → Int32) × (Nat → Int32) × (Int32) × (Int32) × (Nat → Int32)) hx hb hr hlocks rfl hW rfl dX12_bestSwap_153 ?_
            show v2_26 = bestSwapO cn lw t σ wx
            have ea : aa = cn 1 := by omega
            unfold bestSwapO
            refine Eq.trans ?_ (Eq.symm (zi_t (show inP wx 0 1 from c_3) _ _))
            rw [← ea, hs]
            first | rw [if_pos hw] | rw [if_neg hw]
        · have c_16 : ¬ (cn 1 ≤ aa) := fun hz_ => c_16 ((nI_leI (a := cn 1) (b := aa) (by omega) (by omega)).mpr hz_)
          refine lv_iload hx hb dX12_bestSwap_40 (lv_at hl 0 rfl) ?_
          refine lv_iconst (v := 1) hx hb dX12_bestSwap_42 (by decide) ?_
          refine lv_iadd hx hb dX12_bestSwap_43 ?_
          refine lv_topi (nm_r (e' := nI (aa + 1)) (nI_add aa 1) ?_)
          refine lv_istore (lv' := [(5, .int (nI (aa + 1))), (4, .int (nI aa)), (3, .int v3_26), (2, .int v2_26), (0, .ref (ad_m 0)), (1, .int wx)]) hx hb dX12_bestSwap_44 hl (by decide) rfl (fun ls hl => ?_)
          have loop_46 : ∀ (n : Nat) (bb : Nat) (v3_46 : Int32) (v2_46 : Int32) (x_row_46 : Nat → Int32) (x_isLoaded_46 : Nat → Int32) (x_variables_46 : Nat → Int32) (x_pile_46 : Nat → Int32) (x_isBroken_46 : Int32) (x_lots_46 : Int32) (x_farNow_46 : Nat → Int32), cn 1 - bb < n → (aa + 1 ≤ bb ∧ bb ≤ cn 1) → (swIn cn lw t σ aa (v2_26, v3_26) (bb - (aa + 1)) = (v2_46, v3_46)) → ∀ (H : Heap) (locs : List Loc), zW D A s.heap H locs (wj [(mw Y ad_m (sA 64 (fun _ => nI un) (sA 63 x_isLoaded_46 (sA 62 x_farNow_46 (sA 61 (fun _ => x_lots_46) (sA 60 x_row_46 (sA 58 (fun _ => x_isBroken_46) (sA 57 x_pile_46 (sA 56 x_variables_46 (sA 18 (fun _ => nI lv) g_m))))))))) w_m)]) → ∀ (ls : Array Slot), lv_has ls 8 [(5, .int (nI bb)), (4, .int (nI aa)), (3, .int v3_46), (2, .int v2_46), (0, .ref (ad_m 0)), (1, .int wx)] → W p l e (headSpec (ws_ yX12_bestSwap cX12_bestSwap 8 (some .int)) ({ frames := 6, cells := 0, slots := 0, locals := 140 })).room s m ([.ref (ad_m 0), .int wx] : List Value).toArray below meth c H locs 0 0 (MQ below (va_Qi (fun (r : Int32) (u : (Nat → Int32) × (Nat → Int32) × (Nat → Int32) × (Nat → Int32) × (Int32) × (Int32) × (Nat → Int32)) => r = bestSwapO cn lw t σ wx) (zB D (fun (u : (Nat → Int32) × (Nat → Int32) × (Nat → Int32) × (Nat → Int32) × (Int32) × (Int32) × (Nat → Int32)) => (wj [(mw Y ad_m (sA 64 (fun _ => nI un) (sA 63 u.2.1 (sA 62 u.2.2.2.2.2.2 (sA 61 (fun _ => u.2.2.2.2.2.1) (sA 60 u.1 (sA 58 (fun _ => u.2.2.2.2.1) (sA 57 u.2.2.2.1 (sA 56 u.2.2.1 (sA 18 (fun _ => nI lv) g_m))))))))) w_m)])) A) A) ([.ref (ad_m 0), .int wx] : List Value).toArray s 0 0 A) (F0 m 46 ls []) := by
            intro n
            induction n with
            | zero =>
              intro bb v3_46 v2_46 x_row_46 x_isLoaded_46 x_variables_46 x_pile_46 x_isBroken_46 x_lots_46 x_farNow_46 hmz
              exact absurd hmz (Nat.not_lt_zero _)
            | succ n ih =>
              intro bb v3_46 v2_46 x_row_46 x_isLoaded_46 x_variables_46 x_pile_46 x_isBroken_46 x_lots_46 x_farNow_46 hm_46 hi2 hs2 H locs hW ls hl
              have ih_46 := ih
              clear ih
              refine lv_iload hx hb dX12_bestSwap_46 (lv_at hl 0 rfl) ?_
              refine lv_aload_n hx hb dX12_bestSwap_48 rfl (lv_at hl 4 rfl) ?_
              refine va_get (v := .ref (ad_m 27)) (C := RX12) (T := TX12) (N := 75) (ci := 11) hx hb hts in_X12 hown hK.1 hW.1 0 rfl rfl 27 (by decide) (hts _ q1663) (fun _ h9 => h9) rfl dX12_bestSwap_49 ?_
              refine lv_aload_n hx hb dX12_bestSwap_52 rfl (lv_at hl 4 rfl) ?_
              refine va_get (v := .int (nI lv)) (C := RX12) (T := TX12) (N := 75) (ci := 11) hx hb hts in_X12 hown hK.1 hW.1 0 rfl rfl 18 (by decide) (hts _ q1654) (fun _ h9 => h9) rfl dX12_bestSwap_53 ?_
              refine z_iald (v := nI (cn 1)) (f := g_m 27) (j := lv) hx hb hK.1 hW.1 14 0 rfl rfl (vp_in_nI (n := lv) (by omega) (by decide)) (nI_clamp (n := lv) (by omega)) (TM.c27 hTM) dX12_bestSwap_56 ?_
              refine lv_icmp_ge (tgt := 138) hx hb dX12_bestSwap_57 (by decide) (fun c_18 => ?_) (fun c_18 => ?_)
              · have c_18 : cn 1 ≤ bb := (nI_leI (a := cn 1) (b := bb) (by omega) (by omega)).mp c_18
                refine lv_iinc (v := nI (aa + 1)) (lv' := [(4, .int (nI (aa + 1))), (5, .int (nI bb)), (3, .int v3_46), (2, .int v2_46), (0, .ref (ad_m 0)), (1, .int wx)]) hx hb dX12_bestSwap_138 hl (k := 1) rfl (nI_add aa 1) (by decide) rfl (fun ls hl => ?_)
                refine lv_goto (tgt := 26) hx hb dX12_bestSwap_141 (by decide) ?_
                exact ih_26 (aa + 1) v3_46 v2_46 x_row_46 x_isLoaded_46 x_variables_46 x_pile_46 x_isBroken_46 x_lots_46 x_farNow_46 (by omega) (by omega) (by simp only [swOut]; rw [hs, show cn 1 - (aa + 1) = bb - (aa + 1) by omega]; exact hs2) _ _ hW _ (lv_sub hl [0, 2, 3, 4, 5] rfl)
              · have c_18 : ¬ (cn 1 ≤ bb) := fun hz_ => c_18 ((nI_leI (a := cn 1) (b := bb) (by omega) (by omega)).mpr hz_)
                refine lv_aload_n hx hb dX12_bestSwap_60 rfl (lv_at hl 4 rfl) ?_
                refine z_callv (wc := wj [(mw Y ad_m (sA 64 (fun _ => nI un) (sA 63 x_isLoaded_46 (sA 62 x_farNow_46 (sA 61 (fun _ => x_lots_46) (sA 60 x_row_46 (sA 58 (fun _ => x_isBroken_46) (sA 57 x_pile_46 (sA 56 x_variables_46 (sA 18 (fun _ => nI lv) g_m))))))))) w_m)]) (wr := wj []) (va_runV (As := []) (rest := []) ⟨hx, hb, hml, hown, hts⟩ (m_X12_copies l D Y ad_m (sA 64 (fun _ => nI un) (sA 63 x_isLoaded_46 (sA 62 x_farNow_46 (sA 61 (fun _ => x_lots_46) (sA 60 x_row_46 (sA 58 (fun _ => x_isBroken_46) (sA 57 x_pile_46 (sA 56 x_variables_46 (sA 18 (fun _ => nI lv) g_m))))))))) w_m lv cn t lw σ H.size (show lv < 2 from by exact hlv) (show TW cn t lw from by exact hTW) (show TM lv cn t lw (sA 64 (fun _ => nI un) (sA 63 x_isLoaded_46 (sA 62 x_farNow_46 (sA 61 (fun _ => x_lots_46) (sA 60 x_row_46 (sA 58 (fun _ => x_isBroken_46) (sA 57 x_pile_46 (sA 56 x_variables_46 (sA 18 (fun _ => nI lv) g_m))))))))) from by exact hTM) (show MR (cn 2) σ (g_m 59) from by exact hKN.mr) (show ∀ h, h < cn 1 → σ 1 h = t 2 h from by exact hF1) (show σ 18 0 = t 12 2 from by exact hF2)) (cwV 0 hts (lw_V q2020 q2022 qs86 q133 q2023) rfl rfl rfl (by decide +kernel) ⟨Nat.le_of_ble_eq_true rfl, Nat.le_of_ble_eq_true rfl⟩) (zPreV hK hW hR (wj_split3 (B := [(mw Y ad_m (sA 64 (fun _ => nI un) (sA 63 x_isLoaded_46 (sA 62 x_farNow_46 (sA 61 (fun _ => x_lots_46) (sA 60 x_row_46 (sA 58 (fun _ => x_isBroken_46) (sA 57 x_pile_46 (sA 56 x_variables_46 (sA 18 (fun _ => nI lv) g_m))))))))) w_m)]) (R := []) (C := [(mw Y ad_m (sA 64 (fun _ => nI un) (sA 63 x_isLoaded_46 (sA 62 x_farNow_46 (sA 61 (fun _ => x_lots_46) (sA 60 x_row_46 (sA 58 (fun _ => x_isBroken_46) (sA 57 x_pile_46 (sA 56 x_variables_46 (sA 18 (fun _ => nI lv) g_m))))))))) w_m)]) (O := []) (X := []) (List.Perm.refl _)) (va_recv hK.1 hW.1 (ci := 11) (q0 := 0) rfl rfl)) rfl rfl hl.1 rfl (lv_room (Nat.le_of_ble_eq_true rfl)) dX12_bestSwap_61 ⟨Nat.le_refl _, Nat.le_refl _⟩) hW hA (wj_split (B := [(mw Y ad_m (sA 64 (fun _ => nI un) (sA 63 x_isLoaded_46 (sA 62 x_farNow_46 (sA 61 (fun _ => x_lots_46) (sA 60 x_row_46 (sA 58 (fun _ => x_isBroken_46) (sA 57 x_pile_46 (sA 56 x_variables_46 (sA 18 (fun _ => nI lv) g_m))))))))) w_m)]) (C := [(mw Y ad_m (sA 64 (fun _ => nI un) (sA 63 x_isLoaded_46 (sA 62 x_farNow_46 (sA 61 (fun _ => x_lots_46) (sA 60 x_row_46 (sA 58 (fun _ => x_isBroken_46) (sA 57 x_pile_46 (sA 56 x_variables_46 (sA 18 (fun _ => nI lv) g_m))))))))) w_m)]) (R := []) (List.Perm.refl _)) (fun  u H locs hp_20 hW => ?_)
                obtain ⟨urow_21, ulots_22, ufarNow_23⟩ := u
                have hp_20 : RS cn σ urow_21 ufarNow_23 ulots_22 := hp_20
                have hW : zW D A s.heap H locs (wj [(mw Y ad_m (sA 64 (fun _ => nI un) (sA 63 x_isLoaded_46 (sA 62 ufarNow_23 (sA 61 (fun _ => ulots_22) (sA 60 urow_21 (sA 58 (fun _ => x_isBroken_46) (sA 57 x_pile_46 (sA 56 x_variables_46 (sA 18 (fun _ => nI lv) g_m))))))))) w_m)]) := hW.join
                refine lv_aload_n hx hb dX12_bestSwap_64 rfl (lv_at hl 4 rfl) ?_
                refine va_get (v := .ref (ad_m 62)) (C := RX12) (T := TX12) (N := 75) (ci := 11) hx hb hts in_X12 hown hK.1 hW.1 0 rfl rfl 62 (by decide) (hts _ q1698) (fun _ h9 => h9) rfl dX12_bestSwap_65 ?_
                refine lv_iload hx hb dX12_bestSwap_68 (lv_at hl 1 rfl) ?_
                refine z_iald (v := σ 1 aa) (f := ufarNow_23) (j := aa) hx hb hK.1 hW.1 44 0 rfl rfl (vp_in_nI (n := aa) (by omega) (by decide)) (nI_clamp (n := aa) (by omega)) (hp_20.2.1 aa (by omega)) dX12_bestSwap_70 ?_
                refine lv_istore (lv' := [(6, .int (σ 1 aa)), (5, .int (nI bb)), (4, .int (nI aa)), (3, .int v3_46), (2, .int v2_46), (0, .ref (ad_m 0)), (1, .int wx)]) hx hb dX12_bestSwap_71 hl (by decide) rfl (fun ls hl => ?_)
                refine lv_aload_n hx hb dX12_bestSwap_73 rfl (lv_at hl 5 rfl) ?_
                refine va_get (v := .ref (ad_m 62)) (C := RX12) (T := TX12) (N := 75) (ci := 11) hx hb hts in_X12 hown hK.1 hW.1 0 rfl rfl 62 (by decide) (hts _ q1698) (fun _ h9 => h9) rfl dX12_bestSwap_74 ?_
                refine lv_iload hx hb dX12_bestSwap_77 (lv_at hl 2 rfl) ?_
                refine lv_aload_n hx hb dX12_bestSwap_79 rfl (lv_at hl 5 rfl) ?_
                refine va_get (v := .ref (ad_m 62)) (C := RX12) (T := TX12) (N := 75) (ci := 11) hx hb hts in_X12 hown hK.1 hW.1 0 rfl rfl 62 (by decide) (hts _ q1698) (fun _ h9 => h9) rfl dX12_bestSwap_80 ?_
                refine lv_iload hx hb dX12_bestSwap_83 (lv_at hl 1 rfl) ?_
                refine z_iald (v := σ 1 bb) (f := ufarNow_23) (j := bb) hx hb hK.1 hW.1 44 0 rfl rfl (vp_in_nI (n := bb) (by omega) (by decide)) (nI_clamp (n := bb) (by omega)) (hp_20.2.1 bb (by omega)) dX12_bestSwap_85 ?_
                refine z_iast (x := σ 1 bb) (f := ufarNow_23) (j := aa) (wn := (wj [(mw Y ad_m (sA 64 (fun _ => nI un) (sA 63 x_isLoaded_46 (sA 62 (upd ufarNow_23 aa (σ 1 bb)) (sA 61 (fun _ => ulots_22) (sA 60 urow_21 (sA 58 (fun _ => x_isBroken_46) (sA 57 x_pile_46 (sA 56 x_variables_46 (sA 18 (fun _ => nI lv) g_m))))))))) w_m)])) hx hb hK.1 hW 44 0 rfl rfl (vp_in_nI (n := aa) (by omega) (by decide)) (nI_clamp (n := aa) (by omega)) dX12_bestSwap_86 rfl (fun H locs hW => ?_)
                refine lv_aload_n hx hb dX12_bestSwap_87 rfl (lv_at hl 5 rfl) ?_
                refine va_get (v := .ref (ad_m 62)) (C := RX12) (T := TX12) (N := 75) (ci := 11) hx hb hts in_X12 hown hK.1 hW.1 0 rfl rfl 62 (by decide) (hts _ q1698) (fun _ h9 => h9) rfl dX12_bestSwap_88 ?_
                refine lv_iload hx hb dX12_bestSwap_91 (lv_at hl 1 rfl) ?_
                refine lv_iload hx hb dX12_bestSwap_93 (lv_at hl 0 rfl) ?_
                refine z_iast (x := σ 1 aa) (f := upd ufarNow_23 aa (σ 1 bb)) (j := bb) (wn := (wj [(mw Y ad_m (sA 64 (fun _ => nI un) (sA 63 x_isLoaded_46 (sA 62 (upd (upd ufarNow_23 aa (σ 1 bb)) bb (σ 1 aa)) (sA 61 (fun _ => ulots_22) (sA 60 urow_21 (sA 58 (fun _ => x_isBroken_46) (sA 57 x_pile_46 (sA 56 x_variables_46 (sA 18 (fun _ => nI lv) g_m))))))))) w_m)])) hx hb hK.1 hW 44 0 rfl rfl (vp_in_nI (n := bb) (by omega) (by decide)) (nI_clamp (n := bb) (by omega)) dX12_bestSwap_95 rfl (fun H locs hW => ?_)
                have hRSf : RS cn (farT σ aa bb) urow_21 (upd (upd ufarNow_23 aa (σ 1 bb)) bb (σ 1 aa)) ulots_22 := RS.far' hp_20
                refine lv_aload_n hx hb dX12_bestSwap_96 rfl (lv_at hl 5 rfl) ?_
                refine z_calli (wc := wj [(mw Y ad_m (sA 64 (fun _ => nI un) (sA 63 x_isLoaded_46 (sA 62 (upd (upd ufarNow_23 aa (σ 1 bb)) bb (σ 1 aa)) (sA 61 (fun _ => ulots_22) (sA 60 urow_21 (sA 58 (fun _ => x_isBroken_46) (sA 57 x_pile_46 (sA 56 x_variables_46 (sA 18 (fun _ => nI lv) g_m))))))))) w_m)]) (wr := wj []) (va_runV (As := []) (rest := []) ⟨hx, hb, hml, hown, hts⟩ (m_X12_cleanBy l D Y ad_m (sA 64 (fun _ => nI un) (sA 63 x_isLoaded_46 (sA 62 (upd (upd ufarNow_23 aa (σ 1 bb)) bb (σ 1 aa)) (sA 61 (fun _ => ulots_22) (sA 60 urow_21 (sA 58 (fun _ => x_isBroken_46) (sA 57 x_pile_46 (sA 56 x_variables_46 (sA 18 (fun _ => nI lv) g_m))))))))) w_m lv cn t lw (farT σ aa bb) B_ H.size (show lv < 2 from by exact hlv) (show TW cn t lw from by exact hTW) (show TM lv cn t lw (sA 64 (fun _ => nI un) (sA 63 x_isLoaded_46 (sA 62 (upd (upd ufarNow_23 aa (σ 1 bb)) bb (σ 1 aa)) (sA 61 (fun _ => ulots_22) (sA 60 urow_21 (sA 58 (fun _ => x_isBroken_46) (sA 57 x_pile_46 (sA 56 x_variables_46 (sA 18 (fun _ => nI lv) g_m))))))))) from by exact hTM) (show RS cn (farT σ aa bb) urow_21 (upd (upd ufarNow_23 aa (σ 1 bb)) bb (σ 1 aa)) ulots_22 from by exact hRSf) (show WF cn B_ (farT σ aa bb) from by exact hWF.far (by omega) (by omega))) (cwV 0 hts (lw_V q2150 q2152 qs103 q133 q2153) rfl rfl rfl (by decide +kernel) ⟨Nat.le_of_ble_eq_true rfl, Nat.le_of_ble_eq_true rfl⟩) (zPreV hK hW hR (wj_split3 (B := [(mw Y ad_m (sA 64 (fun _ => nI un) (sA 63 x_isLoaded_46 (sA 62 (upd (upd ufarNow_23 aa (σ 1 bb)) bb (σ 1 aa)) (sA 61 (fun _ => ulots_22) (sA 60 urow_21 (sA 58 (fun _ => x_isBroken_46) (sA 57 x_pile_46 (sA 56 x_variables_46 (sA 18 (fun _ => nI lv) g_m))))))))) w_m)]) (R := []) (C := [(mw Y ad_m (sA 64 (fun _ => nI un) (sA 63 x_isLoaded_46 (sA 62 (upd (upd ufarNow_23 aa (σ 1 bb)) bb (σ 1 aa)) (sA 61 (fun _ => ulots_22) (sA 60 urow_21 (sA 58 (fun _ => x_isBroken_46) (sA 57 x_pile_46 (sA 56 x_variables_46 (sA 18 (fun _ => nI lv) g_m))))))))) w_m)]) (O := []) (X := []) (List.Perm.refl _)) (va_recv hK.1 hW.1 (ci := 11) (q0 := 0) rfl rfl)) rfl rfl hl.1 rfl (lv_room (Nat.le_of_ble_eq_true rfl)) dX12_bestSwap_97 ⟨Nat.le_refl _, Nat.le_refl _⟩) hW hA (wj_split (B := [(mw Y ad_m (sA 64 (fun _ => nI un) (sA 63 x_isLoaded_46 (sA 62 (upd (upd ufarNow_23 aa (σ 1 bb)) bb (σ 1 aa)) (sA 61 (fun _ => ulots_22) (sA 60 urow_21 (sA 58 (fun _ => x_isBroken_46) (sA 57 x_pile_46 (sA 56 x_variables_46 (sA 18 (fun _ => nI lv) g_m))))))))) w_m)]) (C := [(mw Y ad_m (sA 64 (fun _ => nI un) (sA 63 x_isLoaded_46 (sA 62 (upd (upd ufarNow_23 aa (σ 1 bb)) bb (σ 1 aa)) (sA 61 (fun _ => ulots_22) (sA 60 urow_21 (sA 58 (fun _ => x_isBroken_46) (sA 57 x_pile_46 (sA 56 x_variables_46 (sA 18 (fun _ => nI lv) g_m))))))))) w_m)]) (R := []) (List.Perm.refl _)) (fun r_24 u H locs hp_25 hW => ?_)
                obtain ⟨urow_26, uisLoaded_27, uvariables_28, upile_29, uisBroken_30⟩ := u
                have hp_25 : r_24 = cleanByP cn lw t (farT σ aa bb) ∧ True := hp_25
                have hW : zW D A s.heap H locs (wj [(mw Y ad_m (sA 64 (fun _ => nI un) (sA 63 uisLoaded_27 (sA 62 (upd (upd ufarNow_23 aa (σ 1 bb)) bb (σ 1 aa)) (sA 61 (fun _ => ulots_22) (sA 60 urow_26 (sA 58 (fun _ => uisBroken_30) (sA 57 upile_29 (sA 56 uvariables_28 (sA 18 (fun _ => nI lv) g_m))))))))) w_m)]) := hW.join
                refine lv_istore (lv' := [(7, .int r_24), (6, .int (σ 1 aa)), (5, .int (nI bb)), (4, .int (nI aa)), (3, .int v3_46), (2, .int v2_46), (0, .ref (ad_m 0)), (1, .int wx)]) hx hb dX12_bestSwap_100 hl (by decide) rfl (fun ls hl => ?_)
                refine lv_iload hx hb dX12_bestSwap_102 (lv_at hl 0 rfl) ?_
                refine lv_if_lt (tgt := 132) hx hb dX12_bestSwap_104 (by decide) (fun c_31 => ?_) (fun c_31 => ?_)
                · have hx1 := c_31
                  refine lv_iinc (v := nI (bb + 1)) (lv' := [(5, .int (nI (bb + 1))), (7, .int r_24), (6, .int (σ 1 aa)), (4, .int (nI aa)), (3, .int v3_46), (2, .int v2_46), (0, .ref (ad_m 0)), (1, .int wx)]) hx hb dX12_bestSwap_132 hl (k := 2) rfl (nI_add bb 1) (by decide) rfl (fun ls hl => ?_)
                  refine lv_goto (tgt := 46) hx hb dX12_bestSwap_135 (by decide) ?_
                  exact ih_46 (bb + 1) v3_46 v2_46 urow_26 uisLoaded_27 uvariables_28 upile_29 uisBroken_30 ulots_22 (upd (upd ufarNow_23 aa (σ 1 bb)) bb (σ 1 aa)) (by omega) (by omega) (by
                      rw [show bb + 1 - (aa + 1) = (bb - (aa + 1)) + 1 by omega]
                      simp only [swIn]
                      rw [hs2, show aa + 1 + (bb - (aa + 1)) = bb by omega]
                      unfold swStep
                      rw [← hp_25.1]
                      first | exact zi_t (Or.inl (by first | assumption | exact Int32.not_le.mp hx1)) _ _ | exact zi_t (Or.inr ⟨Int32.not_lt.mpr (by first | assumption | exact Int32.not_lt.mp hx2), by first | assumption | exact Int32.not_lt.mp hx3⟩) _ _ | exact zi_f (by rintro (q | q); exact absurd q (by first | assumption | exact Int32.not_lt.mpr hx1); first | exact absurd (by first | assumption | exact Int32.not_le.mp hx2) q.1 | exact absurd q.2 (by first | assumption | exact Int32.not_le.mpr hx3)) _ _) _ _ hW _ (lv_sub hl [0, 3, 4, 5, 6, 7] rfl)
                · have hx1 := c_31
                  refine lv_iload_n hx hb dX12_bestSwap_107 rfl (lv_at hl 4 rfl) ?_
                  refine lv_if_lt (tgt := 120) hx hb dX12_bestSwap_108 (by decide) (fun c_32 => ?_) (fun c_32 => ?_)
                  · have hx2 := c_32
                    refine lv_bipush (v := 10) hx hb dX12_bestSwap_120 (by decide) ?_
                    refine lv_iload hx hb dX12_bestSwap_122 (lv_at hl 3 rfl) ?_
                    refine lv_imul hx hb dX12_bestSwap_124 ?_
                    refine lv_topi (nm_r (e' := nI (10 * aa)) (pk_mul 10 aa) ?_)
                    refine lv_iload hx hb dX12_bestSwap_125 (lv_at hl 2 rfl) ?_
                    refine lv_iadd hx hb dX12_bestSwap_127 ?_
                    refine lv_topi (nm_r (e' := nI (10 * aa + bb)) (nI_add (10 * aa) bb) ?_)
                    refine lv_istore_n (lv' := [(2, .int (nI (10 * aa + bb))), (7, .int r_24), (6, .int (σ 1 aa)), (5, .int (nI bb)), (4, .int (nI aa)), (3, .int v3_46), (0, .ref (ad_m 0)), (1, .int wx)]) hx hb dX12_bestSwap_128 rfl hl (by decide) rfl (fun ls hl => ?_)
                    refine lv_iload hx hb dX12_bestSwap_129 (lv_at hl 1 rfl) ?_
                    refine lv_istore_n (lv' := [(3, .int r_24), (2, .int (nI (10 * aa + bb))), (7, .int r_24), (6, .int (σ 1 aa)), (5, .int (nI bb)), (4, .int (nI aa)), (0, .ref (ad_m 0)), (1, .int wx)]) hx hb dX12_bestSwap_131 rfl hl (by decide) rfl (fun ls hl => ?_)
                    refine lv_iinc (v := nI (bb + 1)) (lv' := [(5, .int (nI (bb + 1))), (3, .int r_24), (2, .int (nI (10 * aa + bb))), (7, .int r_24), (6, .int (σ 1 aa)), (4, .int (nI aa)), (0, .ref (ad_m 0)), (1, .int wx)]) hx hb dX12_bestSwap_132 hl (k := 4) rfl (nI_add bb 1) (by decide) rfl (fun ls hl => ?_)
                    refine lv_goto (tgt := 46) hx hb dX12_bestSwap_135 (by decide) ?_
                    exact ih_46 (bb + 1) r_24 (nI (10 * aa + bb)) urow_26 uisLoaded_27 uvariables_28 upile_29 uisBroken_30 ulots_22 (upd (upd ufarNow_23 aa (σ 1 bb)) bb (σ 1 aa)) (by omega) (by omega) (by
                        rw [show bb + 1 - (aa + 1) = (bb - (aa + 1)) + 1 by omega]
                        simp only [swIn]
                        rw [hs2, show aa + 1 + (bb - (aa + 1)) = bb by omega]
                        unfold swStep
                        rw [← hp_25.1]
                        first | exact zi_t (Or.inl (by first | assumption | exact Int32.not_le.mp hx1)) _ _ | exact zi_t (Or.inr ⟨Int32.not_lt.mpr (by first | assumption | exact Int32.not_lt.mp hx2), by first | assumption | exact Int32.not_lt.mp hx3⟩) _ _ | exact zi_f (by rintro (q | q); exact absurd q (by first | assumption | exact Int32.not_lt.mpr hx1); first | exact absurd (by first | assumption | exact Int32.not_le.mp hx2) q.1 | exact absurd q.2 (by first | assumption | exact Int32.not_le.mpr hx3)) _ _) _ _ hW _ (lv_sub hl [0, 5, 1, 2, 6, 7] rfl)
                  · have hx2 := c_32
                    refine lv_iload hx hb dX12_bestSwap_111 (lv_at hl 0 rfl) ?_
                    refine lv_iload_n hx hb dX12_bestSwap_113 rfl (lv_at hl 4 rfl) ?_
                    refine lv_icmp_lt (tgt := 120) hx hb dX12_bestSwap_114 (by decide) (fun c_33 => ?_) (fun c_33 => ?_)
                    · have hx3 := c_33
                      refine lv_bipush (v := 10) hx hb dX12_bestSwap_120 (by decide) ?_
                      refine lv_iload hx hb dX12_bestSwap_122 (lv_at hl 3 rfl) ?_
                      refine lv_imul hx hb dX12_bestSwap_124 ?_
                      refine lv_topi (nm_r (e' := nI (10 * aa)) (pk_mul 10 aa) ?_)
                      refine lv_iload hx hb dX12_bestSwap_125 (lv_at hl 2 rfl) ?_
                      refine lv_iadd hx hb dX12_bestSwap_127 ?_
                      refine lv_topi (nm_r (e' := nI (10 * aa + bb)) (nI_add (10 * aa) bb) ?_)
                      refine lv_istore_n (lv' := [(2, .int (nI (10 * aa + bb))), (7, .int r_24), (6, .int (σ 1 aa)), (5, .int (nI bb)), (4, .int (nI aa)), (3, .int v3_46), (0, .ref (ad_m 0)), (1, .int wx)]) hx hb dX12_bestSwap_128 rfl hl (by decide) rfl (fun ls hl => ?_)
                      refine lv_iload hx hb dX12_bestSwap_129 (lv_at hl 1 rfl) ?_
                      refine lv_istore_n (lv' := [(3, .int r_24), (2, .int (nI (10 * aa + bb))), (7, .int r_24), (6, .int (σ 1 aa)), (5, .int (nI bb)), (4, .int (nI aa)), (0, .ref (ad_m 0)), (1, .int wx)]) hx hb dX12_bestSwap_131 rfl hl (by decide) rfl (fun ls hl => ?_)
                      refine lv_iinc (v := nI (bb + 1)) (lv' := [(5, .int (nI (bb + 1))), (3, .int r_24), (2, .int (nI (10 * aa + bb))), (7, .int r_24), (6, .int (σ 1 aa)), (4, .int (nI aa)), (0, .ref (ad_m 0)), (1, .int wx)]) hx hb dX12_bestSwap_132 hl (k := 4) rfl (nI_add bb 1) (by decide) rfl (fun ls hl => ?_)
                      refine lv_goto (tgt := 46) hx hb dX12_bestSwap_135 (by decide) ?_
                      exact ih_46 (bb + 1) r_24 (nI (10 * aa + bb)) urow_26 uisLoaded_27 uvariables_28 upile_29 uisBroken_30 ulots_22 (upd (upd ufarNow_23 aa (σ 1 bb)) bb (σ 1 aa)) (by omega) (by omega) (by
                          rw [show bb + 1 - (aa + 1) = (bb - (aa + 1)) + 1 by omega]
                          simp only [swIn]
                          rw [hs2, show aa + 1 + (bb - (aa + 1)) = bb by omega]
                          unfold swStep
                          rw [← hp_25.1]
                          first | exact zi_t (Or.inl (by first | assumption | exact Int32.not_le.mp hx1)) _ _ | exact zi_t (Or.inr ⟨Int32.not_lt.mpr (by first | assumption | exact Int32.not_lt.mp hx2), by first | assumption | exact Int32.not_lt.mp hx3⟩) _ _ | exact zi_f (by rintro (q | q); exact absurd q (by first | assumption | exact Int32.not_lt.mpr hx1); first | exact absurd (by first | assumption | exact Int32.not_le.mp hx2) q.1 | exact absurd q.2 (by first | assumption | exact Int32.not_le.mpr hx3)) _ _) _ _ hW _ (lv_sub hl [0, 5, 1, 2, 6, 7] rfl)
                    · have hx3 := c_33
                      refine lv_goto (tgt := 132) hx hb dX12_bestSwap_117 (by decide) ?_
                      refine lv_iinc (v := nI (bb + 1)) (lv' := [(5, .int (nI (bb + 1))), (7, .int r_24), (6, .int (σ 1 aa)), (4, .int (nI aa)), (3, .int v3_46), (2, .int v2_46), (0, .ref (ad_m 0)), (1, .int wx)]) hx hb dX12_bestSwap_132 hl (k := 2) rfl (nI_add bb 1) (by decide) rfl (fun ls hl => ?_)
                      refine lv_goto (tgt := 46) hx hb dX12_bestSwap_135 (by decide) ?_
                      exact ih_46 (bb + 1) v3_46 v2_46 urow_26 uisLoaded_27 uvariables_28 upile_29 uisBroken_30 ulots_22 (upd (upd ufarNow_23 aa (σ 1 bb)) bb (σ 1 aa)) (by omega) (by omega) (by
                          rw [show bb + 1 - (aa + 1) = (bb - (aa + 1)) + 1 by omega]
                          simp only [swIn]
                          rw [hs2, show aa + 1 + (bb - (aa + 1)) = bb by omega]
                          unfold swStep
                          rw [← hp_25.1]
                          first | exact zi_t (Or.inl (by first | assumption | exact Int32.not_le.mp hx1)) _ _ | exact zi_t (Or.inr ⟨Int32.not_lt.mpr (by first | assumption | exact Int32.not_lt.mp hx2), by first | assumption | exact Int32.not_lt.mp hx3⟩) _ _ | exact zi_f (by rintro (q | q); exact absurd q (by first | assumption | exact Int32.not_lt.mpr hx1); first | exact absurd (by first | assumption | exact Int32.not_le.mp hx2) q.1 | exact absurd q.2 (by first | assumption | exact Int32.not_le.mpr hx3)) _ _) _ _ hW _ (lv_sub hl [0, 3, 4, 5, 6, 7] rfl)
          exact loop_46 _ (aa + 1) v3_26 v2_26 x_row_26 x_isLoaded_26 x_variables_26 x_pile_26 x_isBroken_26 x_lots_26 x_farNow_26 (Nat.lt_succ_self _) (by omega) (by rw [show aa + 1 - (aa + 1) = 0 by omega]; rfl) _ _ hW _ (lv_sub hl [0, 1, 2, 3, 4, 5] rfl)
    exact loop_26 _ 0 r_9 (-2) urow_11 uisLoaded_12 uvariables_13 upile_14 uisBroken_15 ulots_7 ufarNow_8 (Nat.lt_succ_self _) (by omega) (by unfold swOut; rw [← hp_10.1]) _ _ hW _ (lv_sub hl [0, 1, 2, 3, 4] rfl)
  · have c_3 : ¬ (¬ wx < 0 ∧ ¬ 1 < wx) := zb_eq hp_2 c_3
    refine lv_iconst (v := (-1)) hx hb dX12_bestSwap_9 (by decide) ?_
    refine z_ireti ((g_m 60, g_m 63, g_m 56, g_m 57, g_m 58 0, g_m 61 0, g_m 62) : (Nat → Int32) × (Nat → Int32) × (Nat → Int32) × (Nat → Int32) × (Int32) × (Int32) × (Nat → Int32)) hx hb hr hlocks rfl hW rfl dX12_bestSwap_10 ?_
    show (-1) = bestSwapO cn lw t σ wx
    unfold bestSwapO
    exact Eq.symm (zi_f (by assumption) _ _)
