/-! the model: minutes -/
set_option maxRecDepth 100000
set_option maxHeartbeats 4000000 in
set_option maxRecDepth 100000 in
theorem m_X12_minuteGoes (l : Launch) (D : va_G) (Y : Nat → ClassId) (ad_m : Nat → Nat) (g_m : Nat → Nat → Int32) (w_m : Nat → Nat → Int64) (lv : Nat) (cn : Nat → Nat) (t : tab) (lw : Nat → Option LAW) (σ : tab) (B_ : Int) (sz : Nat) (hlv : lv < 2) (hTW : TW cn t lw) (hTM : TM lv cn t lw g_m) (hRS : RS cn σ (g_m 60) (g_m 62) (g_m 61 0)) (hWF : WF cn B_ σ) : Met l yX12_minuteGoes (ws_ yX12_minuteGoes cX12_minuteGoes 3 none) ({ frames := 4, cells := 0, slots := 0, locals := 97 }) (zPc D Y [.ref (ad_m 0)] sz (wj []) (wj [(mw Y ad_m (sA 18 (fun _ => nI lv) g_m) w_m)])) (va_Qv (fun (u : (Nat → Int32) × (Nat → Int32) × (Nat → Int32) × (Nat → Int32) × (Int32)) => RS cn (minuteP cn lw t σ) u.1 (g_m 62) (g_m 61 0)) (zB D (fun (u : (Nat → Int32) × (Nat → Int32) × (Nat → Int32) × (Nat → Int32) × (Int32)) => (wj [(mw Y ad_m (sA 63 u.2.1 (sA 60 u.1 (sA 58 (fun _ => u.2.2.2.2) (sA 57 u.2.2.2.1 (sA 56 u.2.2.1 (sA 18 (fun _ => nI lv) g_m)))))) w_m)])) (va_A (wj [(mw Y ad_m (sA 18 (fun _ => nI lv) g_m) w_m)]) sz)) (va_A (wj [(mw Y ad_m (sA 18 (fun _ => nI lv) g_m) w_m)]) sz)) 0 0 (va_A (wj [(mw Y ad_m (sA 18 (fun _ => nI lv) g_m) w_m)]) sz) := by
  refine Met.ofW (cc := cX12_minuteGoes) (maxL := 3) (ret := none) (by decide) rfl ?_
  intro p e s m args below meth c s₁ B hml hv
  obtain ⟨rfl, hsz, hW, hR, hK, hA⟩ := zEntry hv
  subst hsz
  have hx := B.exec
  have hb := B.bytes
  have hr := B.returns
  have hlocks := B.notSynchronized
  have hts : ∀ w ∈ lw_all, w.before _ s = true := fun w h => atoms_spec (ws := (ws_ yX12_minuteGoes cX12_minuteGoes 3 none)) B.pre w (List.mem_cons_of_mem _ h)
  have hown : s.vm.findClass RX12 = some m.cls := findClass_of_methodNamed B.named
  generalize hAe : va_A (wj [(mw Y ad_m (sA 18 (fun _ => nI lv) g_m) w_m)]) s.heap.size = A at hW hR hA ⊢
  have hl := lv_entry ([.ref (ad_m 0)]) (n := 3) (Nat.le_of_ble_eq_true rfl)
  rw [lg_entry_eq]
  generalize (lg_sl ([.ref (ad_m 0)]) ++ List.replicate (3 - (lg_sl ([.ref (ad_m 0)])).length) Slot.unset).toArray = ls at hl ⊢
  have hl : lv_has ls 3 [(0, .ref (ad_m 0))] := hl
  have hLT := hRS.2.2
  have hk8 := hTW.n2
  have hk6 := hTW.n1
  have hk60 := hTW.n0
  have hk5 := hTW.n3
  refine lv_iconst (v := 0) hx hb dX12_minuteGoes_0 (by decide) ?_
  refine lv_istore_n (lv' := [(1, .int 0), (0, .ref (ad_m 0))]) hx hb dX12_minuteGoes_1 rfl hl (by decide) rfl (fun ls hl => ?_)
  have loop_2 : ∀ (n : Nat) (g : Nat) (x_isLoaded_2 : Nat → Int32), 6 - g < n → (g ≤ 6) → (∀ j, j < g → x_isLoaded_2 j = 0) → ∀ (H : Heap) (locs : List Loc), zW D A s.heap H locs (wj [(mw Y ad_m (sA 63 x_isLoaded_2 (sA 18 (fun _ => nI lv) g_m)) w_m)]) → ∀ (ls : Array Slot), lv_has ls 3 [(1, .int (nI g)), (0, .ref (ad_m 0))] → W p l e (headSpec (ws_ yX12_minuteGoes cX12_minuteGoes 3 none) ({ frames := 4, cells := 0, slots := 0, locals := 97 })).room s m ([.ref (ad_m 0)] : List Value).toArray below meth c H locs 0 0 (MQ below (va_Qv (fun (u : (Nat → Int32) × (Nat → Int32) × (Nat → Int32) × (Nat → Int32) × (Int32)) => RS cn (minuteP cn lw t σ) u.1 (g_m 62) (g_m 61 0)) (zB D (fun (u : (Nat → Int32) × (Nat → Int32) × (Nat → Int32) × (Nat → Int32) × (Int32)) => (wj [(mw Y ad_m (sA 63 u.2.1 (sA 60 u.1 (sA 58 (fun _ => u.2.2.2.2) (sA 57 u.2.2.2.1 (sA 56 u.2.2.1 (sA 18 (fun _ => nI lv) g_m)))))) w_m)])) A) A) ([.ref (ad_m 0)] : List Value).toArray s 0 0 A) (F0 m 2 ls []) := by
    intro n
    induction n with
    | zero =>
      intro g x_isLoaded_2 hmz
      exact absurd hmz (Nat.not_lt_zero _)
    | succ n ih =>
      intro g x_isLoaded_2 hm_2 hg hz H locs hW ls hl
      have ih_2 := ih
      clear ih
      refine lv_iload_n hx hb dX12_minuteGoes_2 rfl (lv_at hl 0 rfl) ?_
      refine lv_bipush (v := 6) hx hb dX12_minuteGoes_3 (by decide) ?_
      refine lv_icmp_ge (tgt := 21) hx hb dX12_minuteGoes_5 (by decide) (fun c_1 => ?_) (fun c_1 => ?_)
      · have c_1 : 6 ≤ g := (nI_leI (a := 6) (b := g) (by omega) (by omega)).mp c_1
        refine lv_iconst (v := 0) hx hb dX12_minuteGoes_21 (by decide) ?_
        refine lv_istore_n (lv' := [(1, .int 0), (0, .ref (ad_m 0))]) hx hb dX12_minuteGoes_22 rfl hl (by decide) rfl (fun ls hl => ?_)
        have loop_23 : ∀ (n : Nat) (rr : Nat) (x_row_23 : Nat → Int32) (x_isLoaded_23 : Nat → Int32) (x_variables_23 : Nat → Int32) (x_pile_23 : Nat → Int32) (x_isBroken_23 : Int32) (τ : tab), cn 2 - rr < n → (rr ≤ cn 2) → (ratsP cn lw t (sS 19 0 σ) rr = τ) → (RS cn τ x_row_23 (g_m 62) (g_m 61 0)) → (LD τ x_isLoaded_23) → (WF cn B_ τ) → ∀ (H : Heap) (locs : List Loc), zW D A s.heap H locs (wj [(mw Y ad_m (sA 63 x_isLoaded_23 (sA 60 x_row_23 (sA 58 (fun _ => x_isBroken_23) (sA 57 x_pile_23 (sA 56 x_variables_23 (sA 18 (fun _ => nI lv) g_m)))))) w_m)]) → ∀ (ls : Array Slot), lv_has ls 3 [(1, .int (nI rr)), (0, .ref (ad_m 0))] → W p l e (headSpec (ws_ yX12_minuteGoes cX12_minuteGoes 3 none) ({ frames := 4, cells := 0, slots := 0, locals := 97 })).room s m ([.ref (ad_m 0)] : List Value).toArray below meth c H locs 0 0 (MQ below (va_Qv (fun (u : (Nat → Int32) × (Nat → Int32) × (Nat → Int32) × (Nat → Int32) × (Int32)) => RS cn (minuteP cn lw t σ) u.1 (g_m 62) (g_m 61 0)) (zB D (fun (u : (Nat → Int32) × (Nat → Int32) × (Nat → Int32) × (Nat → Int32) × (Int32)) => (wj [(mw Y ad_m (sA 63 u.2.1 (sA 60 u.1 (sA 58 (fun _ => u.2.2.2.2) (sA 57 u.2.2.2.1 (sA 56 u.2.2.1 (sA 18 (fun _ => nI lv) g_m)))))) w_m)])) A) A) ([.ref (ad_m 0)] : List Value).toArray s 0 0 A) (F0 m 23 ls []) := by
          intro n
          induction n with
          | zero =>
            intro rr x_row_23 x_isLoaded_23 x_variables_23 x_pile_23 x_isBroken_23 τ hmz
            exact absurd hmz (Nat.not_lt_zero _)
          | succ n ih =>
            intro rr x_row_23 x_isLoaded_23 x_variables_23 x_pile_23 x_isBroken_23 τ hm_23 hi hτ hRSr hLD hWr H locs hW ls hl
            have ih_23 := ih
            clear ih
            refine lv_iload_n hx hb dX12_minuteGoes_23 rfl (lv_at hl 0 rfl) ?_
            refine lv_aload_n hx hb dX12_minuteGoes_24 rfl (lv_at hl 1 rfl) ?_
            refine va_get (v := .ref (ad_m 30)) (C := RX12) (T := TX12) (N := 75) (ci := 11) hx hb hts in_X12 hown hK.1 hW.1 0 rfl rfl 30 (by decide) (hts _ q1666) (fun _ h9 => h9) rfl dX12_minuteGoes_25 ?_
            refine lv_aload_n hx hb dX12_minuteGoes_28 rfl (lv_at hl 1 rfl) ?_
            refine va_get (v := .int (nI lv)) (C := RX12) (T := TX12) (N := 75) (ci := 11) hx hb hts in_X12 hown hK.1 hW.1 0 rfl rfl 18 (by decide) (hts _ q1654) (fun _ h9 => h9) rfl dX12_minuteGoes_29 ?_
            refine z_iald (v := nI (cn 2)) (f := g_m 30) (j := lv) hx hb hK.1 hW.1 17 0 rfl rfl (vp_in_nI (n := lv) (by omega) (by decide)) (nI_clamp (n := lv) (by omega)) (TM.c30 hTM) dX12_minuteGoes_32 ?_
            refine lv_icmp_ge (tgt := 150) hx hb dX12_minuteGoes_33 (by decide) (fun c_2 => ?_) (fun c_2 => ?_)
            · have c_2 : cn 2 ≤ rr := (nI_leI (a := cn 2) (b := rr) (by omega) (by omega)).mp c_2
              have err : rr = cn 2 := by omega
              refine lv_aload_n hx hb dX12_minuteGoes_150 rfl (lv_at hl 1 rfl) ?_
              refine va_get (v := .ref (ad_m 60)) (C := RX12) (T := TX12) (N := 75) (ci := 11) hx hb hts in_X12 hown hK.1 hW.1 0 rfl rfl 60 (by decide) (hts _ q1696) (fun _ h9 => h9) rfl dX12_minuteGoes_151 ?_
              refine lv_bipush (v := 118) hx hb dX12_minuteGoes_154 (by decide) ?_
              refine z_iald (v := τ 12 0) (f := x_row_23) (j := 118) hx hb hK.1 hW.1 43 0 rfl rfl (vp_in_nI (n := 118) (by omega) (by decide)) (by decide) (MR.s12 hRSr.1) dX12_minuteGoes_156 ?_
              have join_171 : ∀ (x_row_171 : Nat → Int32), (RS cn (sS 12 (if 0 < τ 12 0 - 1 then τ 12 0 - 1 else 0) τ) x_row_171 (g_m 62) (g_m 61 0)) → ∀ (H : Heap) (locs : List Loc), zW D A s.heap H locs (wj [(mw Y ad_m (sA 63 x_isLoaded_23 (sA 60 x_row_171 (sA 58 (fun _ => x_isBroken_23) (sA 57 x_pile_23 (sA 56 x_variables_23 (sA 18 (fun _ => nI lv) g_m)))))) w_m)]) → ∀ (ls : Array Slot), lv_has ls 3 [(1, .int (nI rr)), (0, .ref (ad_m 0))] → W p l e (headSpec (ws_ yX12_minuteGoes cX12_minuteGoes 3 none) ({ frames := 4, cells := 0, slots := 0, locals := 97 })).room s m ([.ref (ad_m 0)] : List Value).toArray below meth c H locs 0 0 (MQ below (va_Qv (fun (u : (Nat → Int32) × (Nat → Int32) × (Nat → Int32) × (Nat → Int32) × (Int32)) => RS cn (minuteP cn lw t σ) u.1 (g_m 62) (g_m 61 0)) (zB D (fun (u : (Nat → Int32) × (Nat → Int32) × (Nat → Int32) × (Nat → Int32) × (Int32)) => (wj [(mw Y ad_m (sA 63 u.2.1 (sA 60 u.1 (sA 58 (fun _ => u.2.2.2.2) (sA 57 u.2.2.2.1 (sA 56 u.2.2.1 (sA 18 (fun _ => nI lv) g_m)))))) w_m)])) A) A) ([.ref (ad_m 0)] : List Value).toArray s 0 0 A) (F0 m 171 ls []) := by
                intro x_row_171 hRSc H locs hW ls hl
                refine lv_aload_n hx hb dX12_minuteGoes_171 rfl (lv_at hl 1 rfl) ?_
                refine va_get (v := .ref (ad_m 60)) (C := RX12) (T := TX12) (N := 75) (ci := 11) hx hb hts in_X12 hown hK.1 hW.1 0 rfl rfl 60 (by decide) (hts _ q1696) (fun _ h9 => h9) rfl dX12_minuteGoes_172 ?_
                refine lv_bipush (v := 114) hx hb dX12_minuteGoes_175 (by decide) ?_
                refine lv_dup2_11 hx hb dX12_minuteGoes_177 rfl rfl ?_
                refine z_iald (v := (sS 12 (if 0 < τ 12 0 - 1 then τ 12 0 - 1 else 0) τ) 13 0) (f := x_row_171) (j := 114) hx hb hK.1 hW.1 43 0 rfl rfl (vp_in_nI (n := 114) (by omega) (by decide)) (by decide) (MR.s13 hRSc.1) dX12_minuteGoes_178 ?_
                refine lv_iconst (v := 1) hx hb dX12_minuteGoes_179 (by decide) ?_
                refine lv_iadd hx hb dX12_minuteGoes_180 ?_
                refine z_iast (x := ((sS 12 (if 0 < τ 12 0 - 1 then τ 12 0 - 1 else 0) τ) 13 0) + 1) (f := x_row_171) (j := 114) (wn := (wj [(mw Y ad_m (sA 63 x_isLoaded_23 (sA 60 (upd x_row_171 114 (((sS 12 (if 0 < τ 12 0 - 1 then τ 12 0 - 1 else 0) τ) 13 0) + 1)) (sA 58 (fun _ => x_isBroken_23) (sA 57 x_pile_23 (sA 56 x_variables_23 (sA 18 (fun _ => nI lv) g_m)))))) w_m)])) hx hb hK.1 hW 43 0 rfl rfl (vp_in_nI (n := 114) (by omega) (by decide)) (by decide) dX12_minuteGoes_181 rfl (fun H locs hW => ?_)
                refine z_vret ((upd x_row_171 114 (((sS 12 (if 0 < τ 12 0 - 1 then τ 12 0 - 1 else 0) τ) 13 0) + 1), x_isLoaded_23, x_variables_23, x_pile_23, x_isBroken_23) : (Nat → Int32) × (Nat → Int32) × (Nat → Int32) × (Nat → Int32) × (Int32)) hx hb hr hlocks hW rfl dX12_minuteGoes_182 ?_
                show RS cn (minuteP cn lw t σ) (upd x_row_171 114 (((sS 12 (if 0 < τ 12 0 - 1 then τ 12 0 - 1 else 0) τ) 13 0) + 1)) (g_m 62) (g_m 61 0)
                have hfin : RS cn (sS 13 (((sS 12 (if 0 < τ 12 0 - 1 then τ 12 0 - 1 else 0) τ) 13 0) + 1) (sS 12 (if 0 < τ 12 0 - 1 then τ 12 0 - 1 else 0) τ)) (upd x_row_171 114 (((sS 12 (if 0 < τ 12 0 - 1 then τ 12 0 - 1 else 0) τ) 13 0) + 1)) (g_m 62) (g_m 61 0) := (RS.mk' hRSc (MR.v13 hk8 hRSc.1 (((sS 12 (if 0 < τ 12 0 - 1 then τ 12 0 - 1 else 0) τ) 13 0) + 1)) (by rw [sS_ne (by omega)]) (by rw [sS_ne (by omega)]))
                have efin : minuteP cn lw t σ = sS 13 (((sS 12 (if 0 < τ 12 0 - 1 then τ 12 0 - 1 else 0) τ) 13 0) + 1) (sS 12 (if 0 < τ 12 0 - 1 then τ 12 0 - 1 else 0) τ) := by
                  unfold minuteP
                  rw [← err, hτ]
                  rfl
                rw [efin]; exact hfin
              refine lv_if_le (tgt := 171) hx hb dX12_minuteGoes_157 (by decide) (fun c_4 => ?_) (fun c_4 => ?_)
              · have hncat := c_4
                exact join_171 x_row_23 (by first | exact hRSc1 | exact RS.mk' hRSr (MR.same12 hRSr.1 (cat_no hWr.w12 hncat)) rfl rfl) _ _ hW _ (lv_sub hl [0, 1] rfl)
              · have hcat := c_4
                refine lv_aload_n hx hb dX12_minuteGoes_160 rfl (lv_at hl 1 rfl) ?_
                refine va_get (v := .ref (ad_m 60)) (C := RX12) (T := TX12) (N := 75) (ci := 11) hx hb hts in_X12 hown hK.1 hW.1 0 rfl rfl 60 (by decide) (hts _ q1696) (fun _ h9 => h9) rfl dX12_minuteGoes_161 ?_
                refine lv_bipush (v := 118) hx hb dX12_minuteGoes_164 (by decide) ?_
                refine lv_dup2_11 hx hb dX12_minuteGoes_166 rfl rfl ?_
                refine z_iald (v := τ 12 0) (f := x_row_23) (j := 118) hx hb hK.1 hW.1 43 0 rfl rfl (vp_in_nI (n := 118) (by omega) (by decide)) (by decide) (MR.s12 hRSr.1) dX12_minuteGoes_167 ?_
                refine lv_iconst (v := 1) hx hb dX12_minuteGoes_168 (by decide) ?_
                refine lv_isub hx hb dX12_minuteGoes_169 ?_
                refine z_iast (x := (τ 12 0) - 1) (f := x_row_23) (j := 118) (wn := (wj [(mw Y ad_m (sA 63 x_isLoaded_23 (sA 60 (upd x_row_23 118 ((τ 12 0) - 1)) (sA 58 (fun _ => x_isBroken_23) (sA 57 x_pile_23 (sA 56 x_variables_23 (sA 18 (fun _ => nI lv) g_m)))))) w_m)])) hx hb hK.1 hW 43 0 rfl rfl (vp_in_nI (n := 118) (by omega) (by decide)) (by decide) dX12_minuteGoes_170 rfl (fun H locs hW => ?_)
                have hRSc1 : RS cn (sS 12 (if 0 < τ 12 0 - 1 then τ 12 0 - 1 else 0) τ) (upd x_row_23 118 ((τ 12 0) - 1)) (g_m 62) (g_m 61 0) := by
                  have e_5 : sS 12 (if 0 < τ 12 0 - 1 then τ 12 0 - 1 else 0) τ = sS 12 ((τ 12 0) - 1) τ := by
                    rw [cat_up hcat]
                  rw [e_5]; exact (RS.mk' hRSr (MR.v12 hk8 hRSr.1 ((τ 12 0) - 1)) (by rw [sS_ne (by omega)]) (by rw [sS_ne (by omega)]))
                exact join_171 (upd x_row_23 118 ((τ 12 0) - 1)) (by first | exact hRSc1 | exact RS.mk' hRSr (MR.same12 hRSr.1 (cat_no hWr.w12 hncat)) rfl rfl) _ _ hW _ (lv_sub hl [0, 1] rfl)
            · have c_2 : ¬ (cn 2 ≤ rr) := fun hz_ => c_2 ((nI_leI (a := cn 2) (b := rr) (by omega) (by omega)).mpr hz_)
              refine lv_aload_n hx hb dX12_minuteGoes_36 rfl (lv_at hl 1 rfl) ?_
              refine va_get (v := .ref (ad_m 60)) (C := RX12) (T := TX12) (N := 75) (ci := 11) hx hb hts in_X12 hown hK.1 hW.1 0 rfl rfl 60 (by decide) (hts _ q1696) (fun _ h9 => h9) rfl dX12_minuteGoes_37 ?_
              refine lv_bipush (v := 42) hx hb dX12_minuteGoes_40 (by decide) ?_
              refine lv_iload_n hx hb dX12_minuteGoes_42 rfl (lv_at hl 0 rfl) ?_
              refine lv_iadd hx hb dX12_minuteGoes_43 ?_
              refine lv_topi (nm_r (e' := nI (42 + rr)) (nI_add 42 rr) ?_)
              refine z_iald (v := τ 3 rr) (f := x_row_23) (j := 42 + rr) hx hb hK.1 hW.1 43 0 rfl rfl (vp_in_nI (n := 42 + rr) (by omega) (by decide)) (nI_clamp (n := 42 + rr) (by omega)) (MR.r3 hRSr.1 (r := rr) (by omega)) dX12_minuteGoes_44 ?_
              refine lv_istore_n (lv' := [(2, .int (τ 3 rr)), (1, .int (nI rr)), (0, .ref (ad_m 0))]) hx hb dX12_minuteGoes_45 rfl hl (by decide) rfl (fun ls hl => ?_)
              refine lv_iload_n hx hb dX12_minuteGoes_46 rfl (lv_at hl 0 rfl) ?_
              refine lv_iconst (v := 3) hx hb dX12_minuteGoes_47 (by decide) ?_
              refine lv_icmp_ne (tgt := 54) hx hb dX12_minuteGoes_48 (by decide) (fun c_6 => ?_) (fun c_6 => ?_)
              · have h33n := c_6
                refine lv_aload_n hx hb dX12_minuteGoes_54 rfl (lv_at hl 2 rfl) ?_
                refine va_get (v := .ref (ad_m 60)) (C := RX12) (T := TX12) (N := 75) (ci := 11) hx hb hts in_X12 hown hK.1 hW.1 0 rfl rfl 60 (by decide) (hts _ q1696) (fun _ h9 => h9) rfl dX12_minuteGoes_55 ?_
                refine lv_bipush (v := 74) hx hb dX12_minuteGoes_58 (by decide) ?_
                refine lv_iload_n hx hb dX12_minuteGoes_60 rfl (lv_at hl 1 rfl) ?_
                refine lv_iadd hx hb dX12_minuteGoes_61 ?_
                refine lv_topi (nm_r (e' := nI (74 + rr)) (nI_add 74 rr) ?_)
                refine z_iald (v := τ 8 rr) (f := x_row_23) (j := 74 + rr) hx hb hK.1 hW.1 43 0 rfl rfl (vp_in_nI (n := 74 + rr) (by omega) (by decide)) (nI_clamp (n := 74 + rr) (by omega)) (MR.r8 hRSr.1 (r := rr) (by omega)) dX12_minuteGoes_62 ?_
                refine lv_bipush (v := 99) hx hb dX12_minuteGoes_63 (by decide) ?_
                have join_81 : ∀ (x_row_81 : Nat → Int32), (RS cn (workP τ rr) x_row_81 (g_m 62) (g_m 61 0)) → ∀ (H : Heap) (locs : List Loc), zW D A s.heap H locs (wj [(mw Y ad_m (sA 63 x_isLoaded_23 (sA 60 x_row_81 (sA 58 (fun _ => x_isBroken_23) (sA 57 x_pile_23 (sA 56 x_variables_23 (sA 18 (fun _ => nI lv) g_m)))))) w_m)]) → ∀ (ls : Array Slot), lv_has ls 3 [(2, .int (τ 3 rr)), (1, .int (nI rr)), (0, .ref (ad_m 0))] → W p l e (headSpec (ws_ yX12_minuteGoes cX12_minuteGoes 3 none) ({ frames := 4, cells := 0, slots := 0, locals := 97 })).room s m ([.ref (ad_m 0)] : List Value).toArray below meth c H locs 0 0 (MQ below (va_Qv (fun (u : (Nat → Int32) × (Nat → Int32) × (Nat → Int32) × (Nat → Int32) × (Int32)) => RS cn (minuteP cn lw t σ) u.1 (g_m 62) (g_m 61 0)) (zB D (fun (u : (Nat → Int32) × (Nat → Int32) × (Nat → Int32) × (Nat → Int32) × (Int32)) => (wj [(mw Y ad_m (sA 63 u.2.1 (sA 60 u.1 (sA 58 (fun _ => u.2.2.2.2) (sA 57 u.2.2.2.1 (sA 56 u.2.2.1 (sA 18 (fun _ => nI lv) g_m)))))) w_m)])) A) A) ([.ref (ad_m 0)] : List Value).toArray s 0 0 A) (F0 m 81 ls []) := by
                  intro x_row_81 hRSw H locs hW ls hl
                  refine lv_iload_n hx hb dX12_minuteGoes_81 rfl (lv_at hl 0 rfl) ?_
                  refine lv_if_ne (tgt := 93) hx hb dX12_minuteGoes_82 (by decide) (fun c_8 => ?_) (fun c_8 => ?_)
                  · have h30n := c_8
                    refine lv_aload_n hx hb dX12_minuteGoes_93 rfl (lv_at hl 2 rfl) ?_
                    refine va_get (v := .ref (ad_m 60)) (C := RX12) (T := TX12) (N := 75) (ci := 11) hx hb hts in_X12 hown hK.1 hW.1 0 rfl rfl 60 (by decide) (hts _ q1696) (fun _ h9 => h9) rfl dX12_minuteGoes_94 ?_
                    refine lv_bipush (v := 50) hx hb dX12_minuteGoes_97 (by decide) ?_
                    refine lv_iload_n hx hb dX12_minuteGoes_99 rfl (lv_at hl 1 rfl) ?_
                    refine lv_iadd hx hb dX12_minuteGoes_100 ?_
                    refine lv_topi (nm_r (e' := nI (50 + rr)) (nI_add 50 rr) ?_)
                    refine lv_dup2_11 hx hb dX12_minuteGoes_101 rfl rfl ?_
                    refine z_iald (v := (workP τ rr) 4 rr) (f := x_row_81) (j := 50 + rr) hx hb hK.1 hW.1 43 0 rfl rfl (vp_in_nI (n := 50 + rr) (by omega) (by decide)) (nI_clamp (n := 50 + rr) (by omega)) (MR.r4 hRSw.1 (r := rr) (by omega)) dX12_minuteGoes_102 ?_
                    refine lv_iconst (v := 1) hx hb dX12_minuteGoes_103 (by decide) ?_
                    refine lv_isub hx hb dX12_minuteGoes_104 ?_
                    refine z_iast (x := ((workP τ rr) 4 rr) - 1) (f := x_row_81) (j := 50 + rr) (wn := (wj [(mw Y ad_m (sA 63 x_isLoaded_23 (sA 60 (upd x_row_81 (50 + rr) (((workP τ rr) 4 rr) - 1)) (sA 58 (fun _ => x_isBroken_23) (sA 57 x_pile_23 (sA 56 x_variables_23 (sA 18 (fun _ => nI lv) g_m)))))) w_m)])) hx hb hK.1 hW 43 0 rfl rfl (vp_in_nI (n := 50 + rr) (by omega) (by decide)) (nI_clamp (n := 50 + rr) (by omega)) dX12_minuteGoes_105 rfl (fun H locs hW => ?_)
                    refine lv_aload_n hx hb dX12_minuteGoes_106 rfl (lv_at hl 2 rfl) ?_
                    refine va_get (v := .ref (ad_m 60)) (C := RX12) (T := TX12) (N := 75) (ci := 11) hx hb hts in_X12 hown hK.1 hW.1 0 rfl rfl 60 (by decide) (hts _ q1696) (fun _ h9 => h9) rfl dX12_minuteGoes_107 ?_
                    refine lv_bipush (v := 50) hx hb dX12_minuteGoes_110 (by decide) ?_
                    refine lv_iload_n hx hb dX12_minuteGoes_112 rfl (lv_at hl 1 rfl) ?_
                    refine lv_iadd hx hb dX12_minuteGoes_113 ?_
                    refine lv_topi (nm_r (e' := nI (50 + rr)) (nI_add 50 rr) ?_)
                    refine z_iald (v := ((workP τ rr) 4 rr) - 1) (f := upd x_row_81 (50 + rr) (((workP τ rr) 4 rr) - 1)) (j := 50 + rr) hx hb hK.1 hW.1 43 0 rfl rfl (vp_in_nI (n := 50 + rr) (by omega) (by decide)) (nI_clamp (n := 50 + rr) (by omega)) pk_us dX12_minuteGoes_114 ?_
                    refine lv_if_le (tgt := 121) hx hb dX12_minuteGoes_115 (by decide) (fun c_9 => ?_) (fun c_9 => ?_)
                    · have hle := c_9
                      refine lv_iload_n hx hb dX12_minuteGoes_121 rfl (lv_at hl 0 rfl) ?_
                      refine lv_iconst (v := 1) hx hb dX12_minuteGoes_122 (by decide) ?_
                      refine lv_icmp_ne (tgt := 134) hx hb dX12_minuteGoes_123 (by decide) (fun c_10 => ?_) (fun c_10 => ?_)
                      · have h31n := c_10
                        have hq2 : τ 3 rr = 2 := by
                          rcases hWr.w3 (show rr < cn 2 by omega) with q | q | q | q <;> first | exact q | exact absurd q h30n | exact absurd q h31n | exact absurd q h33n
                        have hw4 := hWr.w4 (show rr < cn 2 by omega) hq2
                        have hz4 : workP τ rr 4 rr - 1 = 0 := by
                          have e4 : workP τ rr 4 rr = τ 4 rr := rfl
                          rw [e4] at hle ⊢
                          exact left_z hle hw4
                        have hrat : ratP cn lw t τ rr = sU 3 rr 0 (sU 4 rr (workP τ rr 4 rr - 1) (workP τ rr)) := by
                          unfold ratP backP
                          rw [if_neg h30n, if_neg h31n, if_pos hq2]
                          show (if sU 4 rr (workP τ rr 4 rr - 1) (workP τ rr) 4 rr = 0 then _ else _) = _
                          rw [if_pos (by rw [sU_if, if_pos ⟨rfl, rfl⟩]; exact hz4)]
                        refine lv_aload_n hx hb dX12_minuteGoes_134 rfl (lv_at hl 2 rfl) ?_
                        refine va_get (v := .ref (ad_m 60)) (C := RX12) (T := TX12) (N := 75) (ci := 11) hx hb hts in_X12 hown hK.1 hW.1 0 rfl rfl 60 (by decide) (hts _ q1696) (fun _ h9 => h9) rfl dX12_minuteGoes_135 ?_
                        refine lv_bipush (v := 42) hx hb dX12_minuteGoes_138 (by decide) ?_
                        refine lv_iload_n hx hb dX12_minuteGoes_140 rfl (lv_at hl 1 rfl) ?_
                        refine lv_iadd hx hb dX12_minuteGoes_141 ?_
                        refine lv_topi (nm_r (e' := nI (42 + rr)) (nI_add 42 rr) ?_)
                        refine lv_iconst (v := 0) hx hb dX12_minuteGoes_142 (by decide) ?_
                        refine z_iast (x := 0) (f := upd x_row_81 (50 + rr) (((workP τ rr) 4 rr) - 1)) (j := 42 + rr) (wn := (wj [(mw Y ad_m (sA 63 x_isLoaded_23 (sA 60 (upd (upd x_row_81 (50 + rr) (((workP τ rr) 4 rr) - 1)) (42 + rr) 0) (sA 58 (fun _ => x_isBroken_23) (sA 57 x_pile_23 (sA 56 x_variables_23 (sA 18 (fun _ => nI lv) g_m)))))) w_m)])) hx hb hK.1 hW 43 0 rfl rfl (vp_in_nI (n := 42 + rr) (by omega) (by decide)) (nI_clamp (n := 42 + rr) (by omega)) dX12_minuteGoes_143 rfl (fun H locs hW => ?_)
                        refine lv_iinc (v := nI (rr + 1)) (lv' := [(1, .int (nI (rr + 1))), (2, .int (τ 3 rr)), (0, .ref (ad_m 0))]) hx hb dX12_minuteGoes_144 hl (k := 1) rfl (nI_add rr 1) (by decide) rfl (fun ls hl => ?_)
                        refine lv_goto (tgt := 23) hx hb dX12_minuteGoes_147 (by decide) ?_
                        have hRSn : RS cn (ratP cn lw t τ rr) (upd (upd x_row_81 (50 + rr) (((workP τ rr) 4 rr) - 1)) (42 + rr) 0) (g_m 62) (g_m 61 0) := by
                          have e_11 : ratP cn lw t τ rr = sU 3 rr 0 (sU 4 rr (((workP τ rr) 4 rr) - 1) (workP τ rr)) := by
                            rw [hrat]
                            try first | rfl | (simp [sU, sS, sA_ne, sA_eq, sA_sA, sA_comm, dropsP_ne]; try (funext k_; simp only [sA_if]; grind))
                          rw [e_11]; exact (RS.mk' hRSw (MR.u3 hk8 (MR.u4 hk8 hRSw.1 (r := rr) (by omega) (((workP τ rr) 4 rr) - 1)) (r := rr) (by omega) 0) (by rw [sU_ne (by omega), sU_ne (by omega)]) (by rw [sU_ne (by omega), sU_ne (by omega)]))
                        exact ih_23 (rr + 1) (upd (upd x_row_81 (50 + rr) (((workP τ rr) 4 rr) - 1)) (42 + rr) 0) x_isLoaded_23 x_variables_23 x_pile_23 x_isBroken_23 (ratP cn lw t τ rr) (by omega) (by omega) (by show ratP cn lw t (ratsP cn lw t (sS 19 0 σ) rr) rr = _; rw [hτ]) (by exact hRSn) (by first | exact hLDn | exact LD.of19 hLD (by rw [hrat]; try first | rfl | simp [sU_ne, dropsP_ne, workP])) (by exact WF.rat hTW hWr (by omega)) _ _ hW _ (lv_sub hl [0, 2] rfl)
                      · have h31 := c_10
                        refine lv_aload_n hx hb dX12_minuteGoes_126 rfl (lv_at hl 2 rfl) ?_
                        refine lv_iload_n hx hb dX12_minuteGoes_127 rfl (lv_at hl 1 rfl) ?_
                        refine z_callv (wc := wj [(mw Y ad_m (sA 63 x_isLoaded_23 (sA 60 (upd x_row_81 (50 + rr) (((workP τ rr) 4 rr) - 1)) (sA 58 (fun _ => x_isBroken_23) (sA 57 x_pile_23 (sA 56 x_variables_23 (sA 18 (fun _ => nI lv) g_m)))))) w_m)]) (wr := wj []) (va_runV (As := [.int (nI rr)]) (rest := []) ⟨hx, hb, hml, hown, hts⟩ (m_X12_drops l D Y ad_m (sA 63 x_isLoaded_23 (sA 60 (upd x_row_81 (50 + rr) (((workP τ rr) 4 rr) - 1)) (sA 58 (fun _ => x_isBroken_23) (sA 57 x_pile_23 (sA 56 x_variables_23 (sA 18 (fun _ => nI lv) g_m)))))) w_m lv cn t lw (sU 4 rr (((workP τ rr) 4 rr) - 1) (workP τ rr)) rr H.size (show lv < 2 from by exact hlv) (show TW cn t lw from by exact hTW) (show TM lv cn t lw (sA 63 x_isLoaded_23 (sA 60 (upd x_row_81 (50 + rr) (((workP τ rr) 4 rr) - 1)) (sA 58 (fun _ => x_isBroken_23) (sA 57 x_pile_23 (sA 56 x_variables_23 (sA 18 (fun _ => nI lv) g_m)))))) from by exact hTM) (show RS cn (sU 4 rr (((workP τ rr) 4 rr) - 1) (workP τ rr)) (upd x_row_81 (50 + rr) (((workP τ rr) 4 rr) - 1)) (g_m 62) (g_m 61 0) from by exact (RS.mk' hRSw (MR.u4 hk8 hRSw.1 (r := rr) (by omega) (((workP τ rr) 4 rr) - 1)) (by rw [sU_ne (by omega)]) (by rw [sU_ne (by omega)]))) (show rr < cn 2 from by omega) (show vp_in ((sU 4 rr (((workP τ rr) 4 rr) - 1) (workP τ rr)) 7 rr) (cn 1) from by exact hWr.w7 (by omega) h31) (show ¬ (sU 4 rr (((workP τ rr) 4 rr) - 1) (workP τ rr)) 5 rr ≤ 0 → vp_in ((sU 4 rr (((workP τ rr) 4 rr) - 1) (workP τ rr)) 6 rr) 6 from by exact fun q => vp_mono (hWr.w5 (by omega) q).2 hk60)) (cwV 1 hts (lw_V q2074 q2076 qs95 q133 q2077) rfl rfl rfl (by decide +kernel) ⟨Nat.le_of_ble_eq_true rfl, Nat.le_of_ble_eq_true rfl⟩) (zPreV hK hW hR (wj_split3 (B := [(mw Y ad_m (sA 63 x_isLoaded_23 (sA 60 (upd x_row_81 (50 + rr) (((workP τ rr) 4 rr) - 1)) (sA 58 (fun _ => x_isBroken_23) (sA 57 x_pile_23 (sA 56 x_variables_23 (sA 18 (fun _ => nI lv) g_m)))))) w_m)]) (R := []) (C := [(mw Y ad_m (sA 63 x_isLoaded_23 (sA 60 (upd x_row_81 (50 + rr) (((workP τ rr) 4 rr) - 1)) (sA 58 (fun _ => x_isBroken_23) (sA 57 x_pile_23 (sA 56 x_variables_23 (sA 18 (fun _ => nI lv) g_m)))))) w_m)]) (O := []) (X := []) (List.Perm.refl _)) (va_recv hK.1 hW.1 (ci := 11) (q0 := 0) rfl rfl)) rfl rfl hl.1 rfl (lv_room (Nat.le_of_ble_eq_true rfl)) dX12_minuteGoes_128 ⟨Nat.le_refl _, Nat.le_refl _⟩) hW hA (wj_split (B := [(mw Y ad_m (sA 63 x_isLoaded_23 (sA 60 (upd x_row_81 (50 + rr) (((workP τ rr) 4 rr) - 1)) (sA 58 (fun _ => x_isBroken_23) (sA 57 x_pile_23 (sA 56 x_variables_23 (sA 18 (fun _ => nI lv) g_m)))))) w_m)]) (C := [(mw Y ad_m (sA 63 x_isLoaded_23 (sA 60 (upd x_row_81 (50 + rr) (((workP τ rr) 4 rr) - 1)) (sA 58 (fun _ => x_isBroken_23) (sA 57 x_pile_23 (sA 56 x_variables_23 (sA 18 (fun _ => nI lv) g_m)))))) w_m)]) (R := []) (List.Perm.refl _)) (fun  u H locs hp_13 hW => ?_)
                        obtain ⟨urow_14, rfl⟩ : ∃ z, z = u := ⟨_, rfl⟩
                        have hp_13 : RS cn (sU 4 rr ((sU 4 rr (((workP τ rr) 4 rr) - 1) (workP τ rr)) 1 ((sU 4 rr (((workP τ rr) 4 rr) - 1) (workP τ rr)) 7 rr).toNatClampNeg) (sU 3 rr 2 (sU 7 rr (-2) (dropsP (sU 4 rr (((workP τ rr) 4 rr) - 1) (workP τ rr)) rr)))) urow_14 (g_m 62) (g_m 61 0) := hp_13
                        have hW : zW D A s.heap H locs (wj [(mw Y ad_m (sA 63 x_isLoaded_23 (sA 60 urow_14 (sA 58 (fun _ => x_isBroken_23) (sA 57 x_pile_23 (sA 56 x_variables_23 (sA 18 (fun _ => nI lv) g_m)))))) w_m)]) := hW.join
                        have hrat : ratP cn lw t τ rr = sU 7 rr (-2) (sU 4 rr (workP τ rr 1 (workP τ rr 7 rr).toNatClampNeg) (sU 3 rr 2 (dropsP (sU 4 rr (workP τ rr 4 rr - 1) (workP τ rr)) rr))) := by
                          unfold ratP goingP
                          rw [if_neg h30n, if_pos h31]
                          show (if 0 < sU 4 rr (workP τ rr 4 rr - 1) (workP τ rr) 4 rr then _ else _) = _
                          rw [if_neg (by rw [sU_if, if_pos ⟨rfl, rfl⟩]; exact Int32.not_lt.mpr hle)]
                          simp [sU_ne, dropsP_ne]
                        refine lv_goto (tgt := 144) hx hb dX12_minuteGoes_131 (by decide) ?_
                        refine lv_iinc (v := nI (rr + 1)) (lv' := [(1, .int (nI (rr + 1))), (2, .int (τ 3 rr)), (0, .ref (ad_m 0))]) hx hb dX12_minuteGoes_144 hl (k := 1) rfl (nI_add rr 1) (by decide) rfl (fun ls hl => ?_)
                        refine lv_goto (tgt := 23) hx hb dX12_minuteGoes_147 (by decide) ?_
                        have hRSn : RS cn (ratP cn lw t τ rr) urow_14 (g_m 62) (g_m 61 0) := by
                          have e_15 : ratP cn lw t τ rr = sU 4 rr ((sU 4 rr (((workP τ rr) 4 rr) - 1) (workP τ rr)) 1 ((sU 4 rr (((workP τ rr) 4 rr) - 1) (workP τ rr)) 7 rr).toNatClampNeg) (sU 3 rr 2 (sU 7 rr (-2) (dropsP (sU 4 rr (((workP τ rr) 4 rr) - 1) (workP τ rr)) rr))) := by
                            rw [hrat]
                            try first | rfl | (simp [sU, sS, sA_ne, sA_eq, sA_sA, sA_comm, dropsP_ne]; try (funext k_; simp only [sA_if]; grind))
                          rw [e_15]; exact hp_13
                        exact ih_23 (rr + 1) urow_14 x_isLoaded_23 x_variables_23 x_pile_23 x_isBroken_23 (ratP cn lw t τ rr) (by omega) (by omega) (by show ratP cn lw t (ratsP cn lw t (sS 19 0 σ) rr) rr = _; rw [hτ]) (by exact hRSn) (by first | exact hLDn | exact LD.of19 hLD (by rw [hrat]; try first | rfl | simp [sU_ne, dropsP_ne, workP])) (by exact WF.rat hTW hWr (by omega)) _ _ hW _ (lv_sub hl [0, 2] rfl)
                    · have hgt := c_9
                      have hrat : ratP cn lw t τ rr = sU 4 rr (workP τ rr 4 rr - 1) (workP τ rr) := by
                        rcases hWr.w3 (show rr < cn 2 by omega) with q | q | q | q
                        · exact absurd q h30n
                        · unfold ratP goingP
                          rw [if_neg h30n, if_pos q]
                          show (if 0 < sU 4 rr (workP τ rr 4 rr - 1) (workP τ rr) 4 rr then _ else _) = _
                          rw [if_pos (by rw [sU_if, if_pos ⟨rfl, rfl⟩]; exact Int32.not_le.mp hgt)]
                        · unfold ratP backP
                          rw [if_neg h30n, if_neg (by rw [q]; decide), if_pos q]
                          show (if sU 4 rr (workP τ rr 4 rr - 1) (workP τ rr) 4 rr = 0 then _ else _) = _
                          rw [if_neg (by rw [sU_if, if_pos ⟨rfl, rfl⟩]; intro hq; rw [hq] at hgt; exact hgt (by decide))]
                        · exact absurd q h33n
                      refine lv_goto (tgt := 144) hx hb dX12_minuteGoes_118 (by decide) ?_
                      refine lv_iinc (v := nI (rr + 1)) (lv' := [(1, .int (nI (rr + 1))), (2, .int (τ 3 rr)), (0, .ref (ad_m 0))]) hx hb dX12_minuteGoes_144 hl (k := 1) rfl (nI_add rr 1) (by decide) rfl (fun ls hl => ?_)
                      refine lv_goto (tgt := 23) hx hb dX12_minuteGoes_147 (by decide) ?_
                      have hRSn : RS cn (ratP cn lw t τ rr) (upd x_row_81 (50 + rr) (((workP τ rr) 4 rr) - 1)) (g_m 62) (g_m 61 0) := by
                        have e_16 : ratP cn lw t τ rr = sU 4 rr (((workP τ rr) 4 rr) - 1) (workP τ rr) := by
                          rw [hrat]
                          try first | rfl | (simp [sU, sS, sA_ne, sA_eq, sA_sA, sA_comm, dropsP_ne]; try (funext k_; simp only [sA_if]; grind))
                        rw [e_16]; exact (RS.mk' hRSw (MR.u4 hk8 hRSw.1 (r := rr) (by omega) (((workP τ rr) 4 rr) - 1)) (by rw [sU_ne (by omega)]) (by rw [sU_ne (by omega)]))
                      exact ih_23 (rr + 1) (upd x_row_81 (50 + rr) (((workP τ rr) 4 rr) - 1)) x_isLoaded_23 x_variables_23 x_pile_23 x_isBroken_23 (ratP cn lw t τ rr) (by omega) (by omega) (by show ratP cn lw t (ratsP cn lw t (sS 19 0 σ) rr) rr = _; rw [hτ]) (by exact hRSn) (by first | exact hLDn | exact LD.of19 hLD (by rw [hrat]; try first | rfl | simp [sU_ne, dropsP_ne, workP])) (by exact WF.rat hTW hWr (by omega)) _ _ hW _ (lv_sub hl [0, 2] rfl)
                  · have h30 := c_8
                    refine lv_aload_n hx hb dX12_minuteGoes_85 rfl (lv_at hl 2 rfl) ?_
                    refine lv_iload_n hx hb dX12_minuteGoes_86 rfl (lv_at hl 1 rfl) ?_
                    refine z_callv (wc := wj [(mw Y ad_m (sA 63 x_isLoaded_23 (sA 60 x_row_81 (sA 58 (fun _ => x_isBroken_23) (sA 57 x_pile_23 (sA 56 x_variables_23 (sA 18 (fun _ => nI lv) g_m)))))) w_m)]) (wr := wj []) (va_runV (As := [.int (nI rr)]) (rest := []) ⟨hx, hb, hml, hown, hts⟩ (m_X12_atHeap l D Y ad_m (sA 63 x_isLoaded_23 (sA 60 x_row_81 (sA 58 (fun _ => x_isBroken_23) (sA 57 x_pile_23 (sA 56 x_variables_23 (sA 18 (fun _ => nI lv) g_m)))))) w_m lv cn t lw (workP τ rr) rr H.size (show lv < 2 from by exact hlv) (show TW cn t lw from by exact hTW) (show TM lv cn t lw (sA 63 x_isLoaded_23 (sA 60 x_row_81 (sA 58 (fun _ => x_isBroken_23) (sA 57 x_pile_23 (sA 56 x_variables_23 (sA 18 (fun _ => nI lv) g_m)))))) from by exact hTM) (show RS cn (workP τ rr) x_row_81 (g_m 62) (g_m 61 0) from by exact hRSw) (show rr < cn 2 from by omega) (show vp_in ((workP τ rr) 10 rr) (cn 0) from by exact hWr.w10 (by omega)) (show ∀ g, g < 6 → 0 ≤ (workP τ rr) 0 g from by exact hWr.nn) (show LD (workP τ rr) x_isLoaded_23 from by exact LD.of19 hLD rfl)) (cwV 1 hts (lw_V q2047 q2049 qs90 q133 q2050) rfl rfl rfl (by decide +kernel) ⟨Nat.le_of_ble_eq_true rfl, Nat.le_of_ble_eq_true rfl⟩) (zPreV hK hW hR (wj_split3 (B := [(mw Y ad_m (sA 63 x_isLoaded_23 (sA 60 x_row_81 (sA 58 (fun _ => x_isBroken_23) (sA 57 x_pile_23 (sA 56 x_variables_23 (sA 18 (fun _ => nI lv) g_m)))))) w_m)]) (R := []) (C := [(mw Y ad_m (sA 63 x_isLoaded_23 (sA 60 x_row_81 (sA 58 (fun _ => x_isBroken_23) (sA 57 x_pile_23 (sA 56 x_variables_23 (sA 18 (fun _ => nI lv) g_m)))))) w_m)]) (O := []) (X := []) (List.Perm.refl _)) (va_recv hK.1 hW.1 (ci := 11) (q0 := 0) rfl rfl)) rfl rfl hl.1 rfl (lv_room (Nat.le_of_ble_eq_true rfl)) dX12_minuteGoes_87 ⟨Nat.le_refl _, Nat.le_refl _⟩) hW hA (wj_split (B := [(mw Y ad_m (sA 63 x_isLoaded_23 (sA 60 x_row_81 (sA 58 (fun _ => x_isBroken_23) (sA 57 x_pile_23 (sA 56 x_variables_23 (sA 18 (fun _ => nI lv) g_m)))))) w_m)]) (C := [(mw Y ad_m (sA 63 x_isLoaded_23 (sA 60 x_row_81 (sA 58 (fun _ => x_isBroken_23) (sA 57 x_pile_23 (sA 56 x_variables_23 (sA 18 (fun _ => nI lv) g_m)))))) w_m)]) (R := []) (List.Perm.refl _)) (fun  u H locs hp_18 hW => ?_)
                    obtain ⟨urow_19, uisLoaded_20, uvariables_21, upile_22, uisBroken_23⟩ := u
                    have hp_18 : (RS cn (atP cn lw t (workP τ rr) rr) urow_19 (g_m 62) (g_m 61 0)) ∧ (LD (atP cn lw t (workP τ rr) rr) uisLoaded_20) := hp_18
                    obtain ⟨hp_18rs, hp_18p⟩ := hp_18
                    have hW : zW D A s.heap H locs (wj [(mw Y ad_m (sA 63 uisLoaded_20 (sA 60 urow_19 (sA 58 (fun _ => uisBroken_23) (sA 57 upile_22 (sA 56 uvariables_21 (sA 18 (fun _ => nI lv) g_m)))))) w_m)]) := hW.join
                    have hrat : ratP cn lw t τ rr = atP cn lw t (workP τ rr) rr := by
                      unfold ratP; simp [h30]
                    have hLDn : LD (ratP cn lw t τ rr) uisLoaded_20 := by rw [hrat]; exact hp_18p
                    refine lv_goto (tgt := 144) hx hb dX12_minuteGoes_90 (by decide) ?_
                    refine lv_iinc (v := nI (rr + 1)) (lv' := [(1, .int (nI (rr + 1))), (2, .int (τ 3 rr)), (0, .ref (ad_m 0))]) hx hb dX12_minuteGoes_144 hl (k := 1) rfl (nI_add rr 1) (by decide) rfl (fun ls hl => ?_)
                    refine lv_goto (tgt := 23) hx hb dX12_minuteGoes_147 (by decide) ?_
                    have hRSn : RS cn (ratP cn lw t τ rr) urow_19 (g_m 62) (g_m 61 0) := by
                      have e_24 : ratP cn lw t τ rr = atP cn lw t (workP τ rr) rr := by
                        rw [hrat]
                        try first | rfl | (simp [sU, sS, sA_ne, sA_eq, sA_sA, sA_comm, dropsP_ne]; try (funext k_; simp only [sA_if]; grind))
                      rw [e_24]; exact hp_18rs
                    exact ih_23 (rr + 1) urow_19 uisLoaded_20 uvariables_21 upile_22 uisBroken_23 (ratP cn lw t τ rr) (by omega) (by omega) (by show ratP cn lw t (ratsP cn lw t (sS 19 0 σ) rr) rr = _; rw [hτ]) (by exact hRSn) (by first | exact hLDn | exact LD.of19 hLD (by rw [hrat]; try first | rfl | simp [sU_ne, dropsP_ne, workP])) (by exact WF.rat hTW hWr (by omega)) _ _ hW _ (lv_sub hl [0, 2] rfl)
                refine lv_icmp_ge (tgt := 81) hx hb dX12_minuteGoes_65 (by decide) (fun c_25 => ?_) (fun c_25 => ?_)
                · have hlt8 := c_25
                  have hRSw : RS cn (workP τ rr) x_row_23 (g_m 62) (g_m 61 0) := by
                    have e_26 : workP τ rr = τ := by
                      have h8 := hWr.w8 (show rr < cn 2 by omega)
                      unfold workP
                      first | rw [h_up h8 hlt8] | (rw [h_no h8 hlt8]; exact sU_id _ _ _)
                    rw [e_26]; exact hRSr
                  exact join_81 x_row_23 (by exact hRSw) _ _ hW _ (lv_sub hl [0, 1, 2] rfl)
                · have hlt8 := c_25
                  refine lv_aload_n hx hb dX12_minuteGoes_68 rfl (lv_at hl 2 rfl) ?_
                  refine va_get (v := .ref (ad_m 60)) (C := RX12) (T := TX12) (N := 75) (ci := 11) hx hb hts in_X12 hown hK.1 hW.1 0 rfl rfl 60 (by decide) (hts _ q1696) (fun _ h9 => h9) rfl dX12_minuteGoes_69 ?_
                  refine lv_bipush (v := 74) hx hb dX12_minuteGoes_72 (by decide) ?_
                  refine lv_iload_n hx hb dX12_minuteGoes_74 rfl (lv_at hl 1 rfl) ?_
                  refine lv_iadd hx hb dX12_minuteGoes_75 ?_
                  refine lv_topi (nm_r (e' := nI (74 + rr)) (nI_add 74 rr) ?_)
                  refine lv_dup2_11 hx hb dX12_minuteGoes_76 rfl rfl ?_
                  refine z_iald (v := τ 8 rr) (f := x_row_23) (j := 74 + rr) hx hb hK.1 hW.1 43 0 rfl rfl (vp_in_nI (n := 74 + rr) (by omega) (by decide)) (nI_clamp (n := 74 + rr) (by omega)) (MR.r8 hRSr.1 (r := rr) (by omega)) dX12_minuteGoes_77 ?_
                  refine lv_iconst (v := 1) hx hb dX12_minuteGoes_78 (by decide) ?_
                  refine lv_iadd hx hb dX12_minuteGoes_79 ?_
                  refine z_iast (x := (τ 8 rr) + 1) (f := x_row_23) (j := 74 + rr) (wn := (wj [(mw Y ad_m (sA 63 x_isLoaded_23 (sA 60 (upd x_row_23 (74 + rr) ((τ 8 rr) + 1)) (sA 58 (fun _ => x_isBroken_23) (sA 57 x_pile_23 (sA 56 x_variables_23 (sA 18 (fun _ => nI lv) g_m)))))) w_m)])) hx hb hK.1 hW 43 0 rfl rfl (vp_in_nI (n := 74 + rr) (by omega) (by decide)) (nI_clamp (n := 74 + rr) (by omega)) dX12_minuteGoes_80 rfl (fun H locs hW => ?_)
                  have hRSw : RS cn (workP τ rr) (upd x_row_23 (74 + rr) ((τ 8 rr) + 1)) (g_m 62) (g_m 61 0) := by
                    have e_27 : workP τ rr = sU 8 rr ((τ 8 rr) + 1) τ := by
                      have h8 := hWr.w8 (show rr < cn 2 by omega)
                      unfold workP
                      first | rw [h_up h8 hlt8] | (rw [h_no h8 hlt8]; exact sU_id _ _ _)
                    rw [e_27]; exact (RS.mk' hRSr (MR.u8 hk8 hRSr.1 (r := rr) (by omega) ((τ 8 rr) + 1)) (by rw [sU_ne (by omega)]) (by rw [sU_ne (by omega)]))
                  exact join_81 (upd x_row_23 (74 + rr) ((τ 8 rr) + 1)) (by exact hRSw) _ _ hW _ (lv_sub hl [0, 1, 2] rfl)
              · have h33 := c_6
                have hrat : ratP cn lw t τ rr = τ := by
                  unfold ratP; simp [h33]
                refine lv_goto (tgt := 144) hx hb dX12_minuteGoes_51 (by decide) ?_
                refine lv_iinc (v := nI (rr + 1)) (lv' := [(1, .int (nI (rr + 1))), (2, .int (τ 3 rr)), (0, .ref (ad_m 0))]) hx hb dX12_minuteGoes_144 hl (k := 1) rfl (nI_add rr 1) (by decide) rfl (fun ls hl => ?_)
                refine lv_goto (tgt := 23) hx hb dX12_minuteGoes_147 (by decide) ?_
                have hRSn : RS cn (ratP cn lw t τ rr) x_row_23 (g_m 62) (g_m 61 0) := by
                  have e_28 : ratP cn lw t τ rr = τ := by
                    rw [hrat]
                    try first | rfl | (simp [sU, sS, sA_ne, sA_eq, sA_sA, sA_comm, dropsP_ne]; try (funext k_; simp only [sA_if]; grind))
                  rw [e_28]; exact hRSr
                exact ih_23 (rr + 1) x_row_23 x_isLoaded_23 x_variables_23 x_pile_23 x_isBroken_23 (ratP cn lw t τ rr) (by omega) (by omega) (by show ratP cn lw t (ratsP cn lw t (sS 19 0 σ) rr) rr = _; rw [hτ]) (by exact hRSn) (by first | exact hLDn | exact LD.of19 hLD (by rw [hrat]; try first | rfl | simp [sU_ne, dropsP_ne, workP])) (by exact WF.rat hTW hWr (by omega)) _ _ hW _ (lv_sub hl [0, 2] rfl)
        exact loop_23 _ 0 (g_m 60) x_isLoaded_2 (g_m 56) (g_m 57) (g_m 58 0) (sS 19 0 σ) (Nat.lt_succ_self _) (by omega) (by rfl) (by exact RS.mk' hRS (MR.irr hRS.1 19 (by omega) _) rfl rfl) (by exact LD.zero (fun j hj => hz j (by omega))) (by exact hWF.congr (fun k h1 _ _ _ _ _ _ _ _ => sS_ne h1)) _ _ hW _ (lv_sub hl [0, 1] rfl)
      · have c_1 : ¬ (6 ≤ g) := fun hz_ => c_1 ((nI_leI (a := 6) (b := g) (by omega) (by omega)).mpr hz_)
        refine lv_aload_n hx hb dX12_minuteGoes_8 rfl (lv_at hl 1 rfl) ?_
        refine va_get (v := .ref (ad_m 63)) (C := RX12) (T := TX12) (N := 75) (ci := 11) hx hb hts in_X12 hown hK.1 hW.1 0 rfl rfl 63 (by decide) (hts _ q1699) (fun _ h9 => h9) rfl dX12_minuteGoes_9 ?_
        refine lv_iload_n hx hb dX12_minuteGoes_12 rfl (lv_at hl 0 rfl) ?_
        refine lv_iconst (v := 0) hx hb dX12_minuteGoes_13 (by decide) ?_
        refine z_zast (x := 0) (f := x_isLoaded_2) (j := g) (wn := (wj [(mw Y ad_m (sA 63 (upd x_isLoaded_2 g 0) (sA 18 (fun _ => nI lv) g_m)) w_m)])) hx hb hK.1 hW 45 2 rfl rfl (vp_in_nI (n := g) (by omega) (by decide)) (nI_clamp (n := g) (by omega)) rfl dX12_minuteGoes_14 rfl (fun H locs hW => ?_)
        refine lv_iinc (v := nI (g + 1)) (lv' := [(1, .int (nI (g + 1))), (0, .ref (ad_m 0))]) hx hb dX12_minuteGoes_15 hl (k := 0) rfl (nI_add g 1) (by decide) rfl (fun ls hl => ?_)
        refine lv_goto (tgt := 2) hx hb dX12_minuteGoes_18 (by decide) ?_
        exact ih_2 (g + 1) (upd x_isLoaded_2 g 0) (by omega) (by omega) (by intro j hj; unfold upd; split <;> grind) _ _ hW _ (lv_sub hl [0, 1] rfl)
  exact loop_2 _ 0 (g_m 63) (Nat.lt_succ_self _) (by omega) (by intro j hj; omega) _ _ hW _ (lv_sub hl [0, 1] rfl)
set_option maxHeartbeats 4000000 in
set_option maxRecDepth 100000 in
theorem m_X12_goes (l : Launch) (D : va_G) (Y : Nat → ClassId) (ad_m : Nat → Nat) (g_m : Nat → Nat → Int32) (w_m : Nat → Nat → Int64) (lv : Nat) (cn : Nat → Nat) (t : tab) (lw : Nat → Option LAW) (σ : tab) (B_ : Int) (k : Nat) (sz : Nat) (hlv : lv < 2) (hTW : TW cn t lw) (hTM : TM lv cn t lw g_m) (hRS : RS cn σ (g_m 60) (g_m 62) (g_m 61 0)) (hWF : WF cn B_ σ) (hk9 : k < 2000) : Met l yX12_goes (ws_ yX12_goes cX12_goes 3 none) ({ frames := 5, cells := 0, slots := 0, locals := 119 }) (zPc D Y [.ref (ad_m 0), .int (nI k)] sz (wj []) (wj [(mw Y ad_m (sA 18 (fun _ => nI lv) g_m) w_m)])) (va_Qv (fun (u : (Nat → Int32) × (Nat → Int32) × (Nat → Int32) × (Nat → Int32) × (Int32)) => RS cn (runsP cn lw t σ k) u.1 (g_m 62) (g_m 61 0)) (zB D (fun (u : (Nat → Int32) × (Nat → Int32) × (Nat → Int32) × (Nat → Int32) × (Int32)) => (wj [(mw Y ad_m (sA 63 u.2.1 (sA 60 u.1 (sA 58 (fun _ => u.2.2.2.2) (sA 57 u.2.2.2.1 (sA 56 u.2.2.1 (sA 18 (fun _ => nI lv) g_m)))))) w_m)])) (va_A (wj [(mw Y ad_m (sA 18 (fun _ => nI lv) g_m) w_m)]) sz)) (va_A (wj [(mw Y ad_m (sA 18 (fun _ => nI lv) g_m) w_m)]) sz)) 0 0 (va_A (wj [(mw Y ad_m (sA 18 (fun _ => nI lv) g_m) w_m)]) sz) := by
  refine Met.ofW (cc := cX12_goes) (maxL := 3) (ret := none) (by decide) rfl ?_
  intro p e s m args below meth c s₁ B hml hv
  obtain ⟨rfl, hsz, hW, hR, hK, hA⟩ := zEntry hv
  subst hsz
  have hx := B.exec
  have hb := B.bytes
  have hr := B.returns
  have hlocks := B.notSynchronized
  have hts : ∀ w ∈ lw_all, w.before _ s = true := fun w h => atoms_spec (ws := (ws_ yX12_goes cX12_goes 3 none)) B.pre w (List.mem_cons_of_mem _ h)
  have hown : s.vm.findClass RX12 = some m.cls := findClass_of_methodNamed B.named
  generalize hAe : va_A (wj [(mw Y ad_m (sA 18 (fun _ => nI lv) g_m) w_m)]) s.heap.size = A at hW hR hA ⊢
  have hl := lv_entry ([.ref (ad_m 0), .int (nI k)]) (n := 3) (Nat.le_of_ble_eq_true rfl)
  rw [lg_entry_eq]
  generalize (lg_sl ([.ref (ad_m 0), .int (nI k)]) ++ List.replicate (3 - (lg_sl ([.ref (ad_m 0), .int (nI k)])).length) Slot.unset).toArray = ls at hl ⊢
  have hl : lv_has ls 3 [(0, .ref (ad_m 0)), (1, .int (nI k))] := hl
  have hLT := hRS.2.2
  have hk8 := hTW.n2
  have hk6 := hTW.n1
  have hk60 := hTW.n0
  have hk5 := hTW.n3
  refine lv_iconst (v := 0) hx hb dX12_goes_0 (by decide) ?_
  refine lv_istore_n (lv' := [(2, .int 0), (0, .ref (ad_m 0)), (1, .int (nI k))]) hx hb dX12_goes_1 rfl hl (by decide) rfl (fun ls hl => ?_)
  have loop_2 : ∀ (n : Nat) (i : Nat) (x_row_2 : Nat → Int32) (x_isLoaded_2 : Nat → Int32) (x_variables_2 : Nat → Int32) (x_pile_2 : Nat → Int32) (x_isBroken_2 : Int32) (τ : tab), k - i < n → (i ≤ k) → (runsP cn lw t σ i = τ) → (RS cn τ x_row_2 (g_m 62) (g_m 61 0)) → (WF cn B_ τ) → ∀ (H : Heap) (locs : List Loc), zW D A s.heap H locs (wj [(mw Y ad_m (sA 63 x_isLoaded_2 (sA 60 x_row_2 (sA 58 (fun _ => x_isBroken_2) (sA 57 x_pile_2 (sA 56 x_variables_2 (sA 18 (fun _ => nI lv) g_m)))))) w_m)]) → ∀ (ls : Array Slot), lv_has ls 3 [(2, .int (nI i)), (0, .ref (ad_m 0)), (1, .int (nI k))] → W p l e (headSpec (ws_ yX12_goes cX12_goes 3 none) ({ frames := 5, cells := 0, slots := 0, locals := 119 })).room s m ([.ref (ad_m 0), .int (nI k)] : List Value).toArray below meth c H locs 0 0 (MQ below (va_Qv (fun (u : (Nat → Int32) × (Nat → Int32) × (Nat → Int32) × (Nat → Int32) × (Int32)) => RS cn (runsP cn lw t σ k) u.1 (g_m 62) (g_m 61 0)) (zB D (fun (u : (Nat → Int32) × (Nat → Int32) × (Nat → Int32) × (Nat → Int32) × (Int32)) => (wj [(mw Y ad_m (sA 63 u.2.1 (sA 60 u.1 (sA 58 (fun _ => u.2.2.2.2) (sA 57 u.2.2.2.1 (sA 56 u.2.2.1 (sA 18 (fun _ => nI lv) g_m)))))) w_m)])) A) A) ([.ref (ad_m 0), .int (nI k)] : List Value).toArray s 0 0 A) (F0 m 2 ls []) := by
    intro n
    induction n with
    | zero =>
      intro i x_row_2 x_isLoaded_2 x_variables_2 x_pile_2 x_isBroken_2 τ hmz
      exact absurd hmz (Nat.not_lt_zero _)
    | succ n ih =>
      intro i x_row_2 x_isLoaded_2 x_variables_2 x_pile_2 x_isBroken_2 τ hm_2 hi hτ hRSr hWr H locs hW ls hl
      have ih_2 := ih
      clear ih
      refine lv_iload_n hx hb dX12_goes_2 rfl (lv_at hl 0 rfl) ?_
      refine lv_iload_n hx hb dX12_goes_3 rfl (lv_at hl 2 rfl) ?_
      refine lv_icmp_ge (tgt := 17) hx hb dX12_goes_4 (by decide) (fun c_1 => ?_) (fun c_1 => ?_)
      · have c_1 : k ≤ i := (nI_leI (a := k) (b := i) (by omega) (by omega)).mp c_1
        refine z_vret ((x_row_2, x_isLoaded_2, x_variables_2, x_pile_2, x_isBroken_2) : (Nat → Int32) × (Nat → Int32) × (Nat → Int32) × (Nat → Int32) × (Int32)) hx hb hr hlocks hW rfl dX12_goes_17 ?_
        show RS cn (runsP cn lw t σ k) x_row_2 (g_m 62) (g_m 61 0)
        have ek : i = k := by omega
        have hfin : RS cn τ x_row_2 (g_m 62) (g_m 61 0) := hRSr
        have efin : runsP cn lw t σ k = τ := by
          rw [← hτ, ek]
        rw [efin]; exact hfin
      · have c_1 : ¬ (k ≤ i) := fun hz_ => c_1 ((nI_leI (a := k) (b := i) (by omega) (by omega)).mpr hz_)
        refine lv_aload_n hx hb dX12_goes_7 rfl (lv_at hl 1 rfl) ?_
        refine z_callv (wc := wj [(mw Y ad_m (sA 63 x_isLoaded_2 (sA 60 x_row_2 (sA 58 (fun _ => x_isBroken_2) (sA 57 x_pile_2 (sA 56 x_variables_2 (sA 18 (fun _ => nI lv) g_m)))))) w_m)]) (wr := wj []) (va_runV (As := []) (rest := []) ⟨hx, hb, hml, hown, hts⟩ (m_X12_minuteGoes l D Y ad_m (sA 63 x_isLoaded_2 (sA 60 x_row_2 (sA 58 (fun _ => x_isBroken_2) (sA 57 x_pile_2 (sA 56 x_variables_2 (sA 18 (fun _ => nI lv) g_m)))))) w_m lv cn t lw τ B_ H.size (show lv < 2 from by exact hlv) (show TW cn t lw from by exact hTW) (show TM lv cn t lw (sA 63 x_isLoaded_2 (sA 60 x_row_2 (sA 58 (fun _ => x_isBroken_2) (sA 57 x_pile_2 (sA 56 x_variables_2 (sA 18 (fun _ => nI lv) g_m)))))) from by exact hTM) (show RS cn τ x_row_2 (g_m 62) (g_m 61 0) from by exact hRSr) (show WF cn B_ τ from by exact hWr)) (cwV 0 hts (lw_V q2043 q2045 qs89 q133 q2046) rfl rfl rfl (by decide +kernel) ⟨Nat.le_of_ble_eq_true rfl, Nat.le_of_ble_eq_true rfl⟩) (zPreV hK hW hR (wj_split3 (B := [(mw Y ad_m (sA 63 x_isLoaded_2 (sA 60 x_row_2 (sA 58 (fun _ => x_isBroken_2) (sA 57 x_pile_2 (sA 56 x_variables_2 (sA 18 (fun _ => nI lv) g_m)))))) w_m)]) (R := []) (C := [(mw Y ad_m (sA 63 x_isLoaded_2 (sA 60 x_row_2 (sA 58 (fun _ => x_isBroken_2) (sA 57 x_pile_2 (sA 56 x_variables_2 (sA 18 (fun _ => nI lv) g_m)))))) w_m)]) (O := []) (X := []) (List.Perm.refl _)) (va_recv hK.1 hW.1 (ci := 11) (q0 := 0) rfl rfl)) rfl rfl hl.1 rfl (lv_room (Nat.le_of_ble_eq_true rfl)) dX12_goes_8 ⟨Nat.le_refl _, Nat.le_refl _⟩) hW hA (wj_split (B := [(mw Y ad_m (sA 63 x_isLoaded_2 (sA 60 x_row_2 (sA 58 (fun _ => x_isBroken_2) (sA 57 x_pile_2 (sA 56 x_variables_2 (sA 18 (fun _ => nI lv) g_m)))))) w_m)]) (C := [(mw Y ad_m (sA 63 x_isLoaded_2 (sA 60 x_row_2 (sA 58 (fun _ => x_isBroken_2) (sA 57 x_pile_2 (sA 56 x_variables_2 (sA 18 (fun _ => nI lv) g_m)))))) w_m)]) (R := []) (List.Perm.refl _)) (fun  u H locs hp_3 hW => ?_)
        obtain ⟨urow_4, uisLoaded_5, uvariables_6, upile_7, uisBroken_8⟩ := u
        have hp_3 : RS cn (minuteP cn lw t τ) urow_4 (g_m 62) (g_m 61 0) := hp_3
        have hW : zW D A s.heap H locs (wj [(mw Y ad_m (sA 63 uisLoaded_5 (sA 60 urow_4 (sA 58 (fun _ => uisBroken_8) (sA 57 upile_7 (sA 56 uvariables_6 (sA 18 (fun _ => nI lv) g_m)))))) w_m)]) := hW.join
        refine lv_iinc (v := nI (i + 1)) (lv' := [(2, .int (nI (i + 1))), (0, .ref (ad_m 0)), (1, .int (nI k))]) hx hb dX12_goes_11 hl (k := 0) rfl (nI_add i 1) (by decide) rfl (fun ls hl => ?_)
        refine lv_goto (tgt := 2) hx hb dX12_goes_14 (by decide) ?_
        exact ih_2 (i + 1) urow_4 uisLoaded_5 uvariables_6 upile_7 uisBroken_8 (minuteP cn lw t τ) (by omega) (by omega) (by show minuteP cn lw t (runsP cn lw t σ i) = _; rw [hτ]) (by exact hp_3) (by exact WF.minute hTW hWr) _ _ hW _ (lv_sub hl [0, 1, 2] rfl)
  exact loop_2 _ 0 (g_m 60) (g_m 63) (g_m 56) (g_m 57) (g_m 58 0) σ (Nat.lt_succ_self _) (by omega) (by rfl) (by exact hRS) (by exact hWF) _ _ hW _ (lv_sub hl [0, 1, 2] rfl)
set_option maxHeartbeats 4000000 in
set_option maxRecDepth 100000 in
theorem m_X12_plainly (l : Launch) (D : va_G) (Y : Nat → ClassId) (ad_m : Nat → Nat) (g_m : Nat → Nat → Int32) (w_m : Nat → Nat → Int64) (lv : Nat) (cn : Nat → Nat) (t : tab) (lw : Nat → Option LAW) (sz : Nat) (hlv : lv < 2) (hTW : TW cn t lw) (hTM : TM lv cn t lw g_m) : Met l yX12_plainly (ws_ yX12_plainly cX12_plainly 2 none) ({ frames := 1, cells := 0, slots := 0, locals := 12 }) (zPc D Y [.ref (ad_m 0)] sz (wj []) (wj [(mw Y ad_m (sA 18 (fun _ => nI lv) g_m) w_m)])) (va_Qv (fun (u : (Int32) × (Nat → Int32)) => u.1 = t 12 2 ∧ ∀ h, h < cn 1 → u.2 h = t 2 h) (zB D (fun (u : (Int32) × (Nat → Int32)) => (wj [(mw Y ad_m (sA 62 u.2 (sA 61 (fun _ => u.1) (sA 18 (fun _ => nI lv) g_m))) w_m)])) (va_A (wj [(mw Y ad_m (sA 18 (fun _ => nI lv) g_m) w_m)]) sz)) (va_A (wj [(mw Y ad_m (sA 18 (fun _ => nI lv) g_m) w_m)]) sz)) 0 0 (va_A (wj [(mw Y ad_m (sA 18 (fun _ => nI lv) g_m) w_m)]) sz) := by
  refine Met.ofW (cc := cX12_plainly) (maxL := 2) (ret := none) (by decide) rfl ?_
  intro p e s m args below meth c s₁ B hml hv
  obtain ⟨rfl, hsz, hW, hR, hK, hA⟩ := zEntry hv
  subst hsz
  have hx := B.exec
  have hb := B.bytes
  have hr := B.returns
  have hlocks := B.notSynchronized
  have hts : ∀ w ∈ lw_all, w.before _ s = true := fun w h => atoms_spec (ws := (ws_ yX12_plainly cX12_plainly 2 none)) B.pre w (List.mem_cons_of_mem _ h)
  have hown : s.vm.findClass RX12 = some m.cls := findClass_of_methodNamed B.named
  generalize hAe : va_A (wj [(mw Y ad_m (sA 18 (fun _ => nI lv) g_m) w_m)]) s.heap.size = A at hW hR hA ⊢
  have hl := lv_entry ([.ref (ad_m 0)]) (n := 2) (Nat.le_of_ble_eq_true rfl)
  rw [lg_entry_eq]
  generalize (lg_sl ([.ref (ad_m 0)]) ++ List.replicate (2 - (lg_sl ([.ref (ad_m 0)])).length) Slot.unset).toArray = ls at hl ⊢
  have hl : lv_has ls 2 [(0, .ref (ad_m 0))] := hl
  have hk8 := hTW.n2
  have hk6 := hTW.n1
  have hk60 := hTW.n0
  have hk5 := hTW.n3
  refine lv_aload_n hx hb dX12_plainly_0 rfl (lv_at hl 0 rfl) ?_
  refine lv_aload_n hx hb dX12_plainly_1 rfl (lv_at hl 0 rfl) ?_
  refine va_get (v := .ref (ad_m 42)) (C := RX12) (T := TX12) (N := 75) (ci := 11) hx hb hts in_X12 hown hK.1 hW.1 0 rfl rfl 42 (by decide) (hts _ q1678) (fun _ h9 => h9) rfl dX12_plainly_2 ?_
  refine lv_aload_n hx hb dX12_plainly_5 rfl (lv_at hl 0 rfl) ?_
  refine va_get (v := .int (nI lv)) (C := RX12) (T := TX12) (N := 75) (ci := 11) hx hb hts in_X12 hown hK.1 hW.1 0 rfl rfl 18 (by decide) (hts _ q1654) (fun _ h9 => h9) rfl dX12_plainly_6 ?_
  refine z_iald (v := t 12 2) (f := g_m 42) (j := lv) hx hb hK.1 hW.1 29 0 rfl rfl (vp_in_nI (n := lv) (by omega) (by decide)) (nI_clamp (n := lv) (by omega)) (TM.c42 hTM) dX12_plainly_9 ?_
  refine z_put (v := .int (t 12 2)) (C := RX12) (T := TX12) (N := 75) (ci := 11) (wn := (wj [(mw Y ad_m (sA 61 (fun _ => t 12 2) (sA 18 (fun _ => nI lv) g_m)) w_m)])) hx hb hts in_X12 tyX12 tyX12_ok nmX12 hown hK.1 hW 0 rfl rfl 61 (by decide) (hts _ q1697) (fun _ h9 => h9) rfl rfl rfl (Nat.le_of_ble_eq_true rfl) dX12_plainly_10 rfl (fun H locs hW => ?_)
  refine lv_iconst (v := 0) hx hb dX12_plainly_13 (by decide) ?_
  refine lv_istore_n (lv' := [(1, .int 0), (0, .ref (ad_m 0))]) hx hb dX12_plainly_14 rfl hl (by decide) rfl (fun ls hl => ?_)
  have loop_15 : ∀ (n : Nat) (h : Nat) (x_farNow_15 : Nat → Int32), 6 - h < n → (h ≤ 6) → (∀ j, j < h → x_farNow_15 j = g_m 28 (6 * lv + j)) → ∀ (H : Heap) (locs : List Loc), zW D A s.heap H locs (wj [(mw Y ad_m (sA 62 x_farNow_15 (sA 61 (fun _ => t 12 2) (sA 18 (fun _ => nI lv) g_m))) w_m)]) → ∀ (ls : Array Slot), lv_has ls 2 [(1, .int (nI h)), (0, .ref (ad_m 0))] → W p l e (headSpec (ws_ yX12_plainly cX12_plainly 2 none) ({ frames := 1, cells := 0, slots := 0, locals := 12 })).room s m ([.ref (ad_m 0)] : List Value).toArray below meth c H locs 0 0 (MQ below (va_Qv (fun (u : (Int32) × (Nat → Int32)) => u.1 = t 12 2 ∧ ∀ h, h < cn 1 → u.2 h = t 2 h) (zB D (fun (u : (Int32) × (Nat → Int32)) => (wj [(mw Y ad_m (sA 62 u.2 (sA 61 (fun _ => u.1) (sA 18 (fun _ => nI lv) g_m))) w_m)])) A) A) ([.ref (ad_m 0)] : List Value).toArray s 0 0 A) (F0 m 15 ls []) := by
    intro n
    induction n with
    | zero =>
      intro h x_farNow_15 hmz
      exact absurd hmz (Nat.not_lt_zero _)
    | succ n ih =>
      intro h x_farNow_15 hm_15 hi hf H locs hW ls hl
      have ih_15 := ih
      clear ih
      refine lv_iload_n hx hb dX12_plainly_15 rfl (lv_at hl 0 rfl) ?_
      refine lv_bipush (v := 6) hx hb dX12_plainly_16 (by decide) ?_
      refine lv_icmp_ge (tgt := 47) hx hb dX12_plainly_18 (by decide) (fun c_1 => ?_) (fun c_1 => ?_)
      · have c_1 : 6 ≤ h := (nI_leI (a := 6) (b := h) (by omega) (by omega)).mp c_1
        refine z_vret ((t 12 2, x_farNow_15) : (Int32) × (Nat → Int32)) hx hb hr hlocks hW rfl dX12_plainly_47 ?_
        show (t 12 2) = t 12 2 ∧ ∀ h, h < cn 1 → x_farNow_15 h = t 2 h
        refine ⟨rfl, fun j hj => ?_⟩
        rw [hf j (by omega)]; exact TM.c28 hTM hj
      · have c_1 : ¬ (6 ≤ h) := fun hz_ => c_1 ((nI_leI (a := 6) (b := h) (by omega) (by omega)).mpr hz_)
        refine lv_aload_n hx hb dX12_plainly_21 rfl (lv_at hl 1 rfl) ?_
        refine va_get (v := .ref (ad_m 62)) (C := RX12) (T := TX12) (N := 75) (ci := 11) hx hb hts in_X12 hown hK.1 hW.1 0 rfl rfl 62 (by decide) (hts _ q1698) (fun _ h9 => h9) rfl dX12_plainly_22 ?_
        refine lv_iload_n hx hb dX12_plainly_25 rfl (lv_at hl 0 rfl) ?_
        refine lv_aload_n hx hb dX12_plainly_26 rfl (lv_at hl 1 rfl) ?_
        refine va_get (v := .ref (ad_m 28)) (C := RX12) (T := TX12) (N := 75) (ci := 11) hx hb hts in_X12 hown hK.1 hW.1 0 rfl rfl 28 (by decide) (hts _ q1664) (fun _ h9 => h9) rfl dX12_plainly_27 ?_
        refine lv_bipush (v := 6) hx hb dX12_plainly_30 (by decide) ?_
        refine lv_aload_n hx hb dX12_plainly_32 rfl (lv_at hl 1 rfl) ?_
        refine va_get (v := .int (nI lv)) (C := RX12) (T := TX12) (N := 75) (ci := 11) hx hb hts in_X12 hown hK.1 hW.1 0 rfl rfl 18 (by decide) (hts _ q1654) (fun _ h9 => h9) rfl dX12_plainly_33 ?_
        refine lv_imul hx hb dX12_plainly_36 ?_
        refine lv_topi (nm_r (e' := nI (6 * lv)) (pk_mul 6 lv) ?_)
        refine lv_iload_n hx hb dX12_plainly_37 rfl (lv_at hl 0 rfl) ?_
        refine lv_iadd hx hb dX12_plainly_38 ?_
        refine lv_topi (nm_r (e' := nI (6 * lv + h)) (nI_add (6 * lv) h) ?_)
        refine z_iald (v := (g_m 28) (6 * lv + h)) (f := g_m 28) (j := 6 * lv + h) hx hb hK.1 hW.1 15 0 rfl rfl (vp_in_nI (n := 6 * lv + h) (by omega) (by decide)) (nI_clamp (n := 6 * lv + h) (by omega)) rfl dX12_plainly_39 ?_
        refine z_iast (x := (g_m 28) (6 * lv + h)) (f := x_farNow_15) (j := h) (wn := (wj [(mw Y ad_m (sA 62 (upd x_farNow_15 h ((g_m 28) (6 * lv + h))) (sA 61 (fun _ => t 12 2) (sA 18 (fun _ => nI lv) g_m))) w_m)])) hx hb hK.1 hW 44 0 rfl rfl (vp_in_nI (n := h) (by omega) (by decide)) (nI_clamp (n := h) (by omega)) dX12_plainly_40 rfl (fun H locs hW => ?_)
        refine lv_iinc (v := nI (h + 1)) (lv' := [(1, .int (nI (h + 1))), (0, .ref (ad_m 0))]) hx hb dX12_plainly_41 hl (k := 0) rfl (nI_add h 1) (by decide) rfl (fun ls hl => ?_)
        refine lv_goto (tgt := 15) hx hb dX12_plainly_44 (by decide) ?_
        exact ih_15 (h + 1) (upd x_farNow_15 h ((g_m 28) (6 * lv + h))) (by omega) (by omega) (by intro j hj; unfold upd; split <;> grind) _ _ hW _ (lv_sub hl [0, 1] rfl)
  exact loop_15 _ 0 (g_m 62) (Nat.lt_succ_self _) (by omega) (by intro j hj; omega) _ _ hW _ (lv_sub hl [0, 1] rfl)
set_option maxHeartbeats 4000000 in
set_option maxRecDepth 100000 in
theorem m_X12_copies (l : Launch) (D : va_G) (Y : Nat → ClassId) (ad_m : Nat → Nat) (g_m : Nat → Nat → Int32) (w_m : Nat → Nat → Int64) (lv : Nat) (cn : Nat → Nat) (t : tab) (lw : Nat → Option LAW) (σ : tab) (sz : Nat) (hlv : lv < 2) (hTW : TW cn t lw) (hTM : TM lv cn t lw g_m) (hMN : MR (cn 2) σ (g_m 59)) (hF1 : ∀ h, h < cn 1 → σ 1 h = t 2 h) (hF2 : σ 18 0 = t 12 2) : Met l yX12_copies (ws_ yX12_copies cX12_copies 2 none) ({ frames := 2, cells := 0, slots := 0, locals := 33 }) (zPc D Y [.ref (ad_m 0)] sz (wj []) (wj [(mw Y ad_m (sA 18 (fun _ => nI lv) g_m) w_m)])) (va_Qv (fun (u : (Nat → Int32) × (Int32) × (Nat → Int32)) => RS cn σ u.1 u.2.2 u.2.1) (zB D (fun (u : (Nat → Int32) × (Int32) × (Nat → Int32)) => (wj [(mw Y ad_m (sA 62 u.2.2 (sA 61 (fun _ => u.2.1) (sA 60 u.1 (sA 18 (fun _ => nI lv) g_m)))) w_m)])) (va_A (wj [(mw Y ad_m (sA 18 (fun _ => nI lv) g_m) w_m)]) sz)) (va_A (wj [(mw Y ad_m (sA 18 (fun _ => nI lv) g_m) w_m)]) sz)) 0 0 (va_A (wj [(mw Y ad_m (sA 18 (fun _ => nI lv) g_m) w_m)]) sz) := by
  refine Met.ofW (cc := cX12_copies) (maxL := 2) (ret := none) (by decide) rfl ?_
  intro p e s m args below meth c s₁ B hml hv
  obtain ⟨rfl, hsz, hW, hR, hK, hA⟩ := zEntry hv
  subst hsz
  have hx := B.exec
  have hb := B.bytes
  have hr := B.returns
  have hlocks := B.notSynchronized
  have hts : ∀ w ∈ lw_all, w.before _ s = true := fun w h => atoms_spec (ws := (ws_ yX12_copies cX12_copies 2 none)) B.pre w (List.mem_cons_of_mem _ h)
  have hown : s.vm.findClass RX12 = some m.cls := findClass_of_methodNamed B.named
  generalize hAe : va_A (wj [(mw Y ad_m (sA 18 (fun _ => nI lv) g_m) w_m)]) s.heap.size = A at hW hR hA ⊢
  have hl := lv_entry ([.ref (ad_m 0)]) (n := 2) (Nat.le_of_ble_eq_true rfl)
  rw [lg_entry_eq]
  generalize (lg_sl ([.ref (ad_m 0)]) ++ List.replicate (2 - (lg_sl ([.ref (ad_m 0)])).length) Slot.unset).toArray = ls at hl ⊢
  have hl : lv_has ls 2 [(0, .ref (ad_m 0))] := hl
  have hk8 := hTW.n2
  have hk6 := hTW.n1
  have hk60 := hTW.n0
  have hk5 := hTW.n3
  refine lv_iconst (v := 0) hx hb dX12_copies_0 (by decide) ?_
  refine lv_istore_n (lv' := [(1, .int 0), (0, .ref (ad_m 0))]) hx hb dX12_copies_1 rfl hl (by decide) rfl (fun ls hl => ?_)
  have loop_2 : ∀ (n : Nat) (k : Nat) (x_row_2 : Nat → Int32), 120 - k < n → (k ≤ 120) → (∀ j, j < k → x_row_2 j = g_m 59 j) → ∀ (H : Heap) (locs : List Loc), zW D A s.heap H locs (wj [(mw Y ad_m (sA 60 x_row_2 (sA 18 (fun _ => nI lv) g_m)) w_m)]) → ∀ (ls : Array Slot), lv_has ls 2 [(1, .int (nI k)), (0, .ref (ad_m 0))] → W p l e (headSpec (ws_ yX12_copies cX12_copies 2 none) ({ frames := 2, cells := 0, slots := 0, locals := 33 })).room s m ([.ref (ad_m 0)] : List Value).toArray below meth c H locs 0 0 (MQ below (va_Qv (fun (u : (Nat → Int32) × (Int32) × (Nat → Int32)) => RS cn σ u.1 u.2.2 u.2.1) (zB D (fun (u : (Nat → Int32) × (Int32) × (Nat → Int32)) => (wj [(mw Y ad_m (sA 62 u.2.2 (sA 61 (fun _ => u.2.1) (sA 60 u.1 (sA 18 (fun _ => nI lv) g_m)))) w_m)])) A) A) ([.ref (ad_m 0)] : List Value).toArray s 0 0 A) (F0 m 2 ls []) := by
    intro n
    induction n with
    | zero =>
      intro k x_row_2 hmz
      exact absurd hmz (Nat.not_lt_zero _)
    | succ n ih =>
      intro k x_row_2 hm_2 hi hrow H locs hW ls hl
      have ih_2 := ih
      clear ih
      refine lv_iload_n hx hb dX12_copies_2 rfl (lv_at hl 0 rfl) ?_
      refine lv_bipush (v := 120) hx hb dX12_copies_3 (by decide) ?_
      refine lv_icmp_ge (tgt := 26) hx hb dX12_copies_5 (by decide) (fun c_1 => ?_) (fun c_1 => ?_)
      · have c_1 : 120 ≤ k := (nI_leI (a := 120) (b := k) (by omega) (by omega)).mp c_1
        refine lv_aload_n hx hb dX12_copies_26 rfl (lv_at hl 1 rfl) ?_
        refine z_callv (wc := wj [(mw Y ad_m (sA 60 x_row_2 (sA 18 (fun _ => nI lv) g_m)) w_m)]) (wr := wj []) (va_runV (As := []) (rest := []) ⟨hx, hb, hml, hown, hts⟩ (m_X12_plainly l D Y ad_m (sA 60 x_row_2 (sA 18 (fun _ => nI lv) g_m)) w_m lv cn t lw H.size (show lv < 2 from by exact hlv) (show TW cn t lw from by exact hTW) (show TM lv cn t lw (sA 60 x_row_2 (sA 18 (fun _ => nI lv) g_m)) from by exact hTM)) (cwV 0 hts (lw_V q1629 q1631 qs55 q133 q1632) rfl rfl rfl (by decide +kernel) ⟨Nat.le_of_ble_eq_true rfl, Nat.le_of_ble_eq_true rfl⟩) (zPreV hK hW hR (wj_split3 (B := [(mw Y ad_m (sA 60 x_row_2 (sA 18 (fun _ => nI lv) g_m)) w_m)]) (R := []) (C := [(mw Y ad_m (sA 60 x_row_2 (sA 18 (fun _ => nI lv) g_m)) w_m)]) (O := []) (X := []) (List.Perm.refl _)) (va_recv hK.1 hW.1 (ci := 11) (q0 := 0) rfl rfl)) rfl rfl hl.1 rfl (lv_room (Nat.le_of_ble_eq_true rfl)) dX12_copies_27 ⟨Nat.le_refl _, Nat.le_refl _⟩) hW hA (wj_split (B := [(mw Y ad_m (sA 60 x_row_2 (sA 18 (fun _ => nI lv) g_m)) w_m)]) (C := [(mw Y ad_m (sA 60 x_row_2 (sA 18 (fun _ => nI lv) g_m)) w_m)]) (R := []) (List.Perm.refl _)) (fun  u H locs hp_3 hW => ?_)
        obtain ⟨ulots_4, ufarNow_5⟩ := u
        have hp_3 : ulots_4 = t 12 2 ∧ ∀ h, h < cn 1 → ufarNow_5 h = t 2 h := hp_3
        have hW : zW D A s.heap H locs (wj [(mw Y ad_m (sA 62 ufarNow_5 (sA 61 (fun _ => ulots_4) (sA 60 x_row_2 (sA 18 (fun _ => nI lv) g_m)))) w_m)]) := hW.join
        refine z_vret ((x_row_2, ulots_4, ufarNow_5) : (Nat → Int32) × (Int32) × (Nat → Int32)) hx hb hr hlocks hW rfl dX12_copies_30 ?_
        show RS cn σ x_row_2 ufarNow_5 ulots_4
        exact ⟨MR.copy hMN hk8 (fun j hj => hrow j (by omega)), fun j hj => by rw [hp_3.2 j hj]; exact (hF1 j hj).symm, by rw [hp_3.1]; exact hF2.symm⟩
      · have c_1 : ¬ (120 ≤ k) := fun hz_ => c_1 ((nI_leI (a := 120) (b := k) (by omega) (by omega)).mpr hz_)
        refine lv_aload_n hx hb dX12_copies_8 rfl (lv_at hl 1 rfl) ?_
        refine va_get (v := .ref (ad_m 60)) (C := RX12) (T := TX12) (N := 75) (ci := 11) hx hb hts in_X12 hown hK.1 hW.1 0 rfl rfl 60 (by decide) (hts _ q1696) (fun _ h9 => h9) rfl dX12_copies_9 ?_
        refine lv_iload_n hx hb dX12_copies_12 rfl (lv_at hl 0 rfl) ?_
        refine lv_aload_n hx hb dX12_copies_13 rfl (lv_at hl 1 rfl) ?_
        refine va_get (v := .ref (ad_m 59)) (C := RX12) (T := TX12) (N := 75) (ci := 11) hx hb hts in_X12 hown hK.1 hW.1 0 rfl rfl 59 (by decide) (hts _ q1695) (fun _ h9 => h9) rfl dX12_copies_14 ?_
        refine lv_iload_n hx hb dX12_copies_17 rfl (lv_at hl 0 rfl) ?_
        refine z_iald (v := (g_m 59) k) (f := g_m 59) (j := k) hx hb hK.1 hW.1 42 0 rfl rfl (vp_in_nI (n := k) (by omega) (by decide)) (nI_clamp (n := k) (by omega)) rfl dX12_copies_18 ?_
        refine z_iast (x := (g_m 59) k) (f := x_row_2) (j := k) (wn := (wj [(mw Y ad_m (sA 60 (upd x_row_2 k ((g_m 59) k)) (sA 18 (fun _ => nI lv) g_m)) w_m)])) hx hb hK.1 hW 43 0 rfl rfl (vp_in_nI (n := k) (by omega) (by decide)) (nI_clamp (n := k) (by omega)) dX12_copies_19 rfl (fun H locs hW => ?_)
        refine lv_iinc (v := nI (k + 1)) (lv' := [(1, .int (nI (k + 1))), (0, .ref (ad_m 0))]) hx hb dX12_copies_20 hl (k := 0) rfl (nI_add k 1) (by decide) rfl (fun ls hl => ?_)
        refine lv_goto (tgt := 2) hx hb dX12_copies_23 (by decide) ?_
        exact ih_2 (k + 1) (upd x_row_2 k ((g_m 59) k)) (by omega) (by omega) (by intro j hj; unfold upd; split <;> grind) _ _ hW _ (lv_sub hl [0, 1] rfl)
  exact loop_2 _ 0 (g_m 60) (Nat.lt_succ_self _) (by omega) (by intro j hj; omega) _ _ hW _ (lv_sub hl [0, 1] rfl)
set_option maxHeartbeats 4000000 in
set_option maxRecDepth 100000 in
theorem m_X12_begins (l : Launch) (D : va_G) (Y : Nat → ClassId) (ad_m : Nat → Nat) (g_m : Nat → Nat → Int32) (w_m : Nat → Nat → Int64) (lv : Nat) (cn : Nat → Nat) (t : tab) (lw : Nat → Option LAW) (sz : Nat) (hlv : lv < 2) (hTW : TW cn t lw) (hTM : TM lv cn t lw g_m) : Met l yX12_begins (ws_ yX12_begins cX12_begins 2 none) ({ frames := 2, cells := 0, slots := 0, locals := 33 }) (zPc D Y [.ref (ad_m 0)] sz (wj []) (wj [(mw Y ad_m (sA 18 (fun _ => nI lv) g_m) w_m)])) (va_Qv (fun (u : (Nat → Int32) × (Int32) × (Nat → Int32)) => RS cn (beginP cn t) u.1 u.2.2 u.2.1) (zB D (fun (u : (Nat → Int32) × (Int32) × (Nat → Int32)) => (wj [(mw Y ad_m (sA 62 u.2.2 (sA 61 (fun _ => u.2.1) (sA 60 u.1 (sA 18 (fun _ => nI lv) g_m)))) w_m)])) (va_A (wj [(mw Y ad_m (sA 18 (fun _ => nI lv) g_m) w_m)]) sz)) (va_A (wj [(mw Y ad_m (sA 18 (fun _ => nI lv) g_m) w_m)]) sz)) 0 0 (va_A (wj [(mw Y ad_m (sA 18 (fun _ => nI lv) g_m) w_m)]) sz) := by
  refine Met.ofW (cc := cX12_begins) (maxL := 2) (ret := none) (by decide) rfl ?_
  intro p e s m args below meth c s₁ B hml hv
  obtain ⟨rfl, hsz, hW, hR, hK, hA⟩ := zEntry hv
  subst hsz
  have hx := B.exec
  have hb := B.bytes
  have hr := B.returns
  have hlocks := B.notSynchronized
  have hts : ∀ w ∈ lw_all, w.before _ s = true := fun w h => atoms_spec (ws := (ws_ yX12_begins cX12_begins 2 none)) B.pre w (List.mem_cons_of_mem _ h)
  have hown : s.vm.findClass RX12 = some m.cls := findClass_of_methodNamed B.named
  generalize hAe : va_A (wj [(mw Y ad_m (sA 18 (fun _ => nI lv) g_m) w_m)]) s.heap.size = A at hW hR hA ⊢
  have hl := lv_entry ([.ref (ad_m 0)]) (n := 2) (Nat.le_of_ble_eq_true rfl)
  rw [lg_entry_eq]
  generalize (lg_sl ([.ref (ad_m 0)]) ++ List.replicate (2 - (lg_sl ([.ref (ad_m 0)])).length) Slot.unset).toArray = ls at hl ⊢
  have hl : lv_has ls 2 [(0, .ref (ad_m 0))] := hl
  have hk8 := hTW.n2
  have hk6 := hTW.n1
  have hk60 := hTW.n0
  have hk5 := hTW.n3
  refine lv_iconst (v := 0) hx hb dX12_begins_0 (by decide) ?_
  refine lv_istore_n (lv' := [(1, .int 0), (0, .ref (ad_m 0))]) hx hb dX12_begins_1 rfl hl (by decide) rfl (fun ls hl => ?_)
  have loop_2 : ∀ (n : Nat) (k : Nat) (x_row_2 : Nat → Int32), 120 - k < n → (k ≤ 120) → (∀ j, j < k → x_row_2 j = 0) → ∀ (H : Heap) (locs : List Loc), zW D A s.heap H locs (wj [(mw Y ad_m (sA 60 x_row_2 (sA 18 (fun _ => nI lv) g_m)) w_m)]) → ∀ (ls : Array Slot), lv_has ls 2 [(1, .int (nI k)), (0, .ref (ad_m 0))] → W p l e (headSpec (ws_ yX12_begins cX12_begins 2 none) ({ frames := 2, cells := 0, slots := 0, locals := 33 })).room s m ([.ref (ad_m 0)] : List Value).toArray below meth c H locs 0 0 (MQ below (va_Qv (fun (u : (Nat → Int32) × (Int32) × (Nat → Int32)) => RS cn (beginP cn t) u.1 u.2.2 u.2.1) (zB D (fun (u : (Nat → Int32) × (Int32) × (Nat → Int32)) => (wj [(mw Y ad_m (sA 62 u.2.2 (sA 61 (fun _ => u.2.1) (sA 60 u.1 (sA 18 (fun _ => nI lv) g_m)))) w_m)])) A) A) ([.ref (ad_m 0)] : List Value).toArray s 0 0 A) (F0 m 2 ls []) := by
    intro n
    induction n with
    | zero =>
      intro k x_row_2 hmz
      exact absurd hmz (Nat.not_lt_zero _)
    | succ n ih =>
      intro k x_row_2 hm_2 hi hrow H locs hW ls hl
      have ih_2 := ih
      clear ih
      refine lv_iload_n hx hb dX12_begins_2 rfl (lv_at hl 0 rfl) ?_
      refine lv_bipush (v := 120) hx hb dX12_begins_3 (by decide) ?_
      refine lv_icmp_ge (tgt := 21) hx hb dX12_begins_5 (by decide) (fun c_1 => ?_) (fun c_1 => ?_)
      · have c_1 : 120 ≤ k := (nI_leI (a := 120) (b := k) (by omega) (by omega)).mp c_1
        refine lv_iconst (v := 0) hx hb dX12_begins_21 (by decide) ?_
        refine lv_istore_n (lv' := [(1, .int 0), (0, .ref (ad_m 0))]) hx hb dX12_begins_22 rfl hl (by decide) rfl (fun ls hl => ?_)
        have loop_23 : ∀ (n : Nat) (g : Nat) (x_row_23 : Nat → Int32), cn 0 - g < n → (g ≤ cn 0) → (∀ j, j < g → x_row_23 j = t 0 j) → (∀ j, g ≤ j → j < 120 → x_row_23 j = 0) → ∀ (H : Heap) (locs : List Loc), zW D A s.heap H locs (wj [(mw Y ad_m (sA 60 x_row_23 (sA 18 (fun _ => nI lv) g_m)) w_m)]) → ∀ (ls : Array Slot), lv_has ls 2 [(1, .int (nI g)), (0, .ref (ad_m 0))] → W p l e (headSpec (ws_ yX12_begins cX12_begins 2 none) ({ frames := 2, cells := 0, slots := 0, locals := 33 })).room s m ([.ref (ad_m 0)] : List Value).toArray below meth c H locs 0 0 (MQ below (va_Qv (fun (u : (Nat → Int32) × (Int32) × (Nat → Int32)) => RS cn (beginP cn t) u.1 u.2.2 u.2.1) (zB D (fun (u : (Nat → Int32) × (Int32) × (Nat → Int32)) => (wj [(mw Y ad_m (sA 62 u.2.2 (sA 61 (fun _ => u.2.1) (sA 60 u.1 (sA 18 (fun _ => nI lv) g_m)))) w_m)])) A) A) ([.ref (ad_m 0)] : List Value).toArray s 0 0 A) (F0 m 23 ls []) := by
          intro n
          induction n with
          | zero =>
            intro g x_row_23 hmz
            exact absurd hmz (Nat.not_lt_zero _)
          | succ n ih =>
            intro g x_row_23 hm_23 hi2 hr1 hr2 H locs hW ls hl
            have ih_23 := ih
            clear ih
            refine lv_iload_n hx hb dX12_begins_23 rfl (lv_at hl 0 rfl) ?_
            refine lv_aload_n hx hb dX12_begins_24 rfl (lv_at hl 1 rfl) ?_
            refine va_get (v := .ref (ad_m 24)) (C := RX12) (T := TX12) (N := 75) (ci := 11) hx hb hts in_X12 hown hK.1 hW.1 0 rfl rfl 24 (by decide) (hts _ q1660) (fun _ h9 => h9) rfl dX12_begins_25 ?_
            refine lv_aload_n hx hb dX12_begins_28 rfl (lv_at hl 1 rfl) ?_
            refine va_get (v := .int (nI lv)) (C := RX12) (T := TX12) (N := 75) (ci := 11) hx hb hts in_X12 hown hK.1 hW.1 0 rfl rfl 18 (by decide) (hts _ q1654) (fun _ h9 => h9) rfl dX12_begins_29 ?_
            refine z_iald (v := nI (cn 0)) (f := g_m 24) (j := lv) hx hb hK.1 hW.1 11 0 rfl rfl (vp_in_nI (n := lv) (by omega) (by decide)) (nI_clamp (n := lv) (by omega)) (TM.c24 hTM) dX12_begins_32 ?_
            refine lv_icmp_ge (tgt := 62) hx hb dX12_begins_33 (by decide) (fun c_2 => ?_) (fun c_2 => ?_)
            · have c_2 : cn 0 ≤ g := (nI_leI (a := cn 0) (b := g) (by omega) (by omega)).mp c_2
              refine lv_iconst (v := 0) hx hb dX12_begins_62 (by decide) ?_
              refine lv_istore_n (lv' := [(1, .int 0), (0, .ref (ad_m 0))]) hx hb dX12_begins_63 rfl hl (by decide) rfl (fun ls hl => ?_)
              have loop_64 : ∀ (n : Nat) (r8 : Nat) (x_row_64 : Nat → Int32), 8 - r8 < n → (r8 ≤ 8) → (∀ j, j < 6 → x_row_64 j = if j < cn 0 then t 0 j else 0) → (∀ j, j < r8 → x_row_64 (66 + j) = -2 ∧ x_row_64 (82 + j) = g_m 33 (8 * lv + j) ∧ x_row_64 (90 + j) = g_m 31 (8 * lv + j) ∧ x_row_64 (106 + j) = -2) → (∀ j, 6 ≤ j → j < 120 → ¬ (66 ≤ j ∧ j < 74) → ¬ (82 ≤ j ∧ j < 98) → ¬ (106 ≤ j ∧ j < 114) → x_row_64 j = 0) → ∀ (H : Heap) (locs : List Loc), zW D A s.heap H locs (wj [(mw Y ad_m (sA 60 x_row_64 (sA 18 (fun _ => nI lv) g_m)) w_m)]) → ∀ (ls : Array Slot), lv_has ls 2 [(1, .int (nI r8)), (0, .ref (ad_m 0))] → W p l e (headSpec (ws_ yX12_begins cX12_begins 2 none) ({ frames := 2, cells := 0, slots := 0, locals := 33 })).room s m ([.ref (ad_m 0)] : List Value).toArray below meth c H locs 0 0 (MQ below (va_Qv (fun (u : (Nat → Int32) × (Int32) × (Nat → Int32)) => RS cn (beginP cn t) u.1 u.2.2 u.2.1) (zB D (fun (u : (Nat → Int32) × (Int32) × (Nat → Int32)) => (wj [(mw Y ad_m (sA 62 u.2.2 (sA 61 (fun _ => u.2.1) (sA 60 u.1 (sA 18 (fun _ => nI lv) g_m)))) w_m)])) A) A) ([.ref (ad_m 0)] : List Value).toArray s 0 0 A) (F0 m 64 ls []) := by
                intro n
                induction n with
                | zero =>
                  intro r8 x_row_64 hmz
                  exact absurd hmz (Nat.not_lt_zero _)
                | succ n ih =>
                  intro r8 x_row_64 hm_64 hi3 hs1 hs2 hs3 H locs hW ls hl
                  have ih_64 := ih
                  clear ih
                  refine lv_iload_n hx hb dX12_begins_64 rfl (lv_at hl 0 rfl) ?_
                  refine lv_bipush (v := 8) hx hb dX12_begins_65 (by decide) ?_
                  refine lv_icmp_ge (tgt := 144) hx hb dX12_begins_67 (by decide) (fun c_3 => ?_) (fun c_3 => ?_)
                  · have c_3 : 8 ≤ r8 := (nI_leI (a := 8) (b := r8) (by omega) (by omega)).mp c_3
                    refine lv_aload_n hx hb dX12_begins_144 rfl (lv_at hl 1 rfl) ?_
                    refine z_callv (wc := wj [(mw Y ad_m (sA 60 x_row_64 (sA 18 (fun _ => nI lv) g_m)) w_m)]) (wr := wj []) (va_runV (As := []) (rest := []) ⟨hx, hb, hml, hown, hts⟩ (m_X12_plainly l D Y ad_m (sA 60 x_row_64 (sA 18 (fun _ => nI lv) g_m)) w_m lv cn t lw H.size (show lv < 2 from by exact hlv) (show TW cn t lw from by exact hTW) (show TM lv cn t lw (sA 60 x_row_64 (sA 18 (fun _ => nI lv) g_m)) from by exact hTM)) (cwV 0 hts (lw_V q1629 q1631 qs55 q133 q1632) rfl rfl rfl (by decide +kernel) ⟨Nat.le_of_ble_eq_true rfl, Nat.le_of_ble_eq_true rfl⟩) (zPreV hK hW hR (wj_split3 (B := [(mw Y ad_m (sA 60 x_row_64 (sA 18 (fun _ => nI lv) g_m)) w_m)]) (R := []) (C := [(mw Y ad_m (sA 60 x_row_64 (sA 18 (fun _ => nI lv) g_m)) w_m)]) (O := []) (X := []) (List.Perm.refl _)) (va_recv hK.1 hW.1 (ci := 11) (q0 := 0) rfl rfl)) rfl rfl hl.1 rfl (lv_room (Nat.le_of_ble_eq_true rfl)) dX12_begins_145 ⟨Nat.le_refl _, Nat.le_refl _⟩) hW hA (wj_split (B := [(mw Y ad_m (sA 60 x_row_64 (sA 18 (fun _ => nI lv) g_m)) w_m)]) (C := [(mw Y ad_m (sA 60 x_row_64 (sA 18 (fun _ => nI lv) g_m)) w_m)]) (R := []) (List.Perm.refl _)) (fun  u H locs hp_5 hW => ?_)
                    obtain ⟨ulots_6, ufarNow_7⟩ := u
                    have hp_5 : ulots_6 = t 12 2 ∧ ∀ h, h < cn 1 → ufarNow_7 h = t 2 h := hp_5
                    have hW : zW D A s.heap H locs (wj [(mw Y ad_m (sA 62 ufarNow_7 (sA 61 (fun _ => ulots_6) (sA 60 x_row_64 (sA 18 (fun _ => nI lv) g_m)))) w_m)]) := hW.join
                    refine z_vret ((x_row_64, ulots_6, ufarNow_7) : (Nat → Int32) × (Int32) × (Nat → Int32)) hx hb hr hlocks hW rfl dX12_begins_148 ?_
                    show RS cn (beginP cn t) x_row_64 ufarNow_7 ulots_6
                    exact beg_RS hTM hTW hs1 (fun j hj => hs2 j (by omega)) hs3 hp_5
                  · have c_3 : ¬ (8 ≤ r8) := fun hz_ => c_3 ((nI_leI (a := 8) (b := r8) (by omega) (by omega)).mpr hz_)
                    refine lv_aload_n hx hb dX12_begins_70 rfl (lv_at hl 1 rfl) ?_
                    refine va_get (v := .ref (ad_m 60)) (C := RX12) (T := TX12) (N := 75) (ci := 11) hx hb hts in_X12 hown hK.1 hW.1 0 rfl rfl 60 (by decide) (hts _ q1696) (fun _ h9 => h9) rfl dX12_begins_71 ?_
                    refine lv_bipush (v := 66) hx hb dX12_begins_74 (by decide) ?_
                    refine lv_iload_n hx hb dX12_begins_76 rfl (lv_at hl 0 rfl) ?_
                    refine lv_iadd hx hb dX12_begins_77 ?_
                    refine lv_topi (nm_r (e' := nI (66 + r8)) (nI_add 66 r8) ?_)
                    refine lv_bipush (v := (-2)) hx hb dX12_begins_78 (by decide) ?_
                    refine z_iast (x := (-2)) (f := x_row_64) (j := 66 + r8) (wn := (wj [(mw Y ad_m (sA 60 (upd x_row_64 (66 + r8) (-2)) (sA 18 (fun _ => nI lv) g_m)) w_m)])) hx hb hK.1 hW 43 0 rfl rfl (vp_in_nI (n := 66 + r8) (by omega) (by decide)) (nI_clamp (n := 66 + r8) (by omega)) dX12_begins_80 rfl (fun H locs hW => ?_)
                    refine lv_aload_n hx hb dX12_begins_81 rfl (lv_at hl 1 rfl) ?_
                    refine va_get (v := .ref (ad_m 60)) (C := RX12) (T := TX12) (N := 75) (ci := 11) hx hb hts in_X12 hown hK.1 hW.1 0 rfl rfl 60 (by decide) (hts _ q1696) (fun _ h9 => h9) rfl dX12_begins_82 ?_
                    refine lv_bipush (v := 82) hx hb dX12_begins_85 (by decide) ?_
                    refine lv_iload_n hx hb dX12_begins_87 rfl (lv_at hl 0 rfl) ?_
                    refine lv_iadd hx hb dX12_begins_88 ?_
                    refine lv_topi (nm_r (e' := nI (82 + r8)) (nI_add 82 r8) ?_)
                    refine lv_aload_n hx hb dX12_begins_89 rfl (lv_at hl 1 rfl) ?_
                    refine va_get (v := .ref (ad_m 33)) (C := RX12) (T := TX12) (N := 75) (ci := 11) hx hb hts in_X12 hown hK.1 hW.1 0 rfl rfl 33 (by decide) (hts _ q1669) (fun _ h9 => h9) rfl dX12_begins_90 ?_
                    refine lv_bipush (v := 8) hx hb dX12_begins_93 (by decide) ?_
                    refine lv_aload_n hx hb dX12_begins_95 rfl (lv_at hl 1 rfl) ?_
                    refine va_get (v := .int (nI lv)) (C := RX12) (T := TX12) (N := 75) (ci := 11) hx hb hts in_X12 hown hK.1 hW.1 0 rfl rfl 18 (by decide) (hts _ q1654) (fun _ h9 => h9) rfl dX12_begins_96 ?_
                    refine lv_imul hx hb dX12_begins_99 ?_
                    refine lv_topi (nm_r (e' := nI (8 * lv)) (pk_mul 8 lv) ?_)
                    refine lv_iload_n hx hb dX12_begins_100 rfl (lv_at hl 0 rfl) ?_
                    refine lv_iadd hx hb dX12_begins_101 ?_
                    refine lv_topi (nm_r (e' := nI (8 * lv + r8)) (nI_add (8 * lv) r8) ?_)
                    refine z_iald (v := (g_m 33) (8 * lv + r8)) (f := g_m 33) (j := 8 * lv + r8) hx hb hK.1 hW.1 20 0 rfl rfl (vp_in_nI (n := 8 * lv + r8) (by omega) (by decide)) (nI_clamp (n := 8 * lv + r8) (by omega)) rfl dX12_begins_102 ?_
                    refine z_iast (x := (g_m 33) (8 * lv + r8)) (f := upd x_row_64 (66 + r8) (-2)) (j := 82 + r8) (wn := (wj [(mw Y ad_m (sA 60 (upd (upd x_row_64 (66 + r8) (-2)) (82 + r8) ((g_m 33) (8 * lv + r8))) (sA 18 (fun _ => nI lv) g_m)) w_m)])) hx hb hK.1 hW 43 0 rfl rfl (vp_in_nI (n := 82 + r8) (by omega) (by decide)) (nI_clamp (n := 82 + r8) (by omega)) dX12_begins_103 rfl (fun H locs hW => ?_)
                    refine lv_aload_n hx hb dX12_begins_104 rfl (lv_at hl 1 rfl) ?_
                    refine va_get (v := .ref (ad_m 60)) (C := RX12) (T := TX12) (N := 75) (ci := 11) hx hb hts in_X12 hown hK.1 hW.1 0 rfl rfl 60 (by decide) (hts _ q1696) (fun _ h9 => h9) rfl dX12_begins_105 ?_
                    refine lv_bipush (v := 90) hx hb dX12_begins_108 (by decide) ?_
                    refine lv_iload_n hx hb dX12_begins_110 rfl (lv_at hl 0 rfl) ?_
                    refine lv_iadd hx hb dX12_begins_111 ?_
                    refine lv_topi (nm_r (e' := nI (90 + r8)) (nI_add 90 r8) ?_)
                    refine lv_aload_n hx hb dX12_begins_112 rfl (lv_at hl 1 rfl) ?_
                    refine va_get (v := .ref (ad_m 31)) (C := RX12) (T := TX12) (N := 75) (ci := 11) hx hb hts in_X12 hown hK.1 hW.1 0 rfl rfl 31 (by decide) (hts _ q1667) (fun _ h9 => h9) rfl dX12_begins_113 ?_
                    refine lv_bipush (v := 8) hx hb dX12_begins_116 (by decide) ?_
                    refine lv_aload_n hx hb dX12_begins_118 rfl (lv_at hl 1 rfl) ?_
                    refine va_get (v := .int (nI lv)) (C := RX12) (T := TX12) (N := 75) (ci := 11) hx hb hts in_X12 hown hK.1 hW.1 0 rfl rfl 18 (by decide) (hts _ q1654) (fun _ h9 => h9) rfl dX12_begins_119 ?_
                    refine lv_imul hx hb dX12_begins_122 ?_
                    refine lv_topi (nm_r (e' := nI (8 * lv)) (pk_mul 8 lv) ?_)
                    refine lv_iload_n hx hb dX12_begins_123 rfl (lv_at hl 0 rfl) ?_
                    refine lv_iadd hx hb dX12_begins_124 ?_
                    refine lv_topi (nm_r (e' := nI (8 * lv + r8)) (nI_add (8 * lv) r8) ?_)
                    refine z_iald (v := (g_m 31) (8 * lv + r8)) (f := g_m 31) (j := 8 * lv + r8) hx hb hK.1 hW.1 18 0 rfl rfl (vp_in_nI (n := 8 * lv + r8) (by omega) (by decide)) (nI_clamp (n := 8 * lv + r8) (by omega)) rfl dX12_begins_125 ?_
                    refine z_iast (x := (g_m 31) (8 * lv + r8)) (f := upd (upd x_row_64 (66 + r8) (-2)) (82 + r8) ((g_m 33) (8 * lv + r8))) (j := 90 + r8) (wn := (wj [(mw Y ad_m (sA 60 (upd (upd (upd x_row_64 (66 + r8) (-2)) (82 + r8) ((g_m 33) (8 * lv + r8))) (90 + r8) ((g_m 31) (8 * lv + r8))) (sA 18 (fun _ => nI lv) g_m)) w_m)])) hx hb hK.1 hW 43 0 rfl rfl (vp_in_nI (n := 90 + r8) (by omega) (by decide)) (nI_clamp (n := 90 + r8) (by omega)) dX12_begins_126 rfl (fun H locs hW => ?_)
                    refine lv_aload_n hx hb dX12_begins_127 rfl (lv_at hl 1 rfl) ?_
                    refine va_get (v := .ref (ad_m 60)) (C := RX12) (T := TX12) (N := 75) (ci := 11) hx hb hts in_X12 hown hK.1 hW.1 0 rfl rfl 60 (by decide) (hts _ q1696) (fun _ h9 => h9) rfl dX12_begins_128 ?_
                    refine lv_bipush (v := 106) hx hb dX12_begins_131 (by decide) ?_
                    refine lv_iload_n hx hb dX12_begins_133 rfl (lv_at hl 0 rfl) ?_
                    refine lv_iadd hx hb dX12_begins_134 ?_
                    refine lv_topi (nm_r (e' := nI (106 + r8)) (nI_add 106 r8) ?_)
                    refine lv_bipush (v := (-2)) hx hb dX12_begins_135 (by decide) ?_
                    refine z_iast (x := (-2)) (f := upd (upd (upd x_row_64 (66 + r8) (-2)) (82 + r8) ((g_m 33) (8 * lv + r8))) (90 + r8) ((g_m 31) (8 * lv + r8))) (j := 106 + r8) (wn := (wj [(mw Y ad_m (sA 60 (upd (upd (upd (upd x_row_64 (66 + r8) (-2)) (82 + r8) ((g_m 33) (8 * lv + r8))) (90 + r8) ((g_m 31) (8 * lv + r8))) (106 + r8) (-2)) (sA 18 (fun _ => nI lv) g_m)) w_m)])) hx hb hK.1 hW 43 0 rfl rfl (vp_in_nI (n := 106 + r8) (by omega) (by decide)) (nI_clamp (n := 106 + r8) (by omega)) dX12_begins_137 rfl (fun H locs hW => ?_)
                    refine lv_iinc (v := nI (r8 + 1)) (lv' := [(1, .int (nI (r8 + 1))), (0, .ref (ad_m 0))]) hx hb dX12_begins_138 hl (k := 0) rfl (nI_add r8 1) (by decide) rfl (fun ls hl => ?_)
                    refine lv_goto (tgt := 64) hx hb dX12_begins_141 (by decide) ?_
                    exact ih_64 (r8 + 1) (upd (upd (upd (upd x_row_64 (66 + r8) (-2)) (82 + r8) ((g_m 33) (8 * lv + r8))) (90 + r8) ((g_m 31) (8 * lv + r8))) (106 + r8) (-2)) (by omega) (by omega) (by intro j hj; rw [← hs1 j hj]; unfold upd; repeat (rw [if_neg (by omega)])) (by exact beg_s2 hs2 (by omega)) (by intro j h6 hj q1 q2 q3; rw [← hs3 j h6 hj q1 q2 q3]; unfold upd; repeat (rw [if_neg (by omega)])) _ _ hW _ (lv_sub hl [0, 1] rfl)
              exact loop_64 _ 0 x_row_23 (Nat.lt_succ_self _) (by omega) (by intro j hj; split <;> first | exact hr1 j (by omega) | exact hr2 j (by omega) (by omega)) (by intro j hj; omega) (by intro j h6 hj _ _ _; exact hr2 j (by omega) hj) _ _ hW _ (lv_sub hl [0, 1] rfl)
            · have c_2 : ¬ (cn 0 ≤ g) := fun hz_ => c_2 ((nI_leI (a := cn 0) (b := g) (by omega) (by omega)).mpr hz_)
              refine lv_aload_n hx hb dX12_begins_36 rfl (lv_at hl 1 rfl) ?_
              refine va_get (v := .ref (ad_m 60)) (C := RX12) (T := TX12) (N := 75) (ci := 11) hx hb hts in_X12 hown hK.1 hW.1 0 rfl rfl 60 (by decide) (hts _ q1696) (fun _ h9 => h9) rfl dX12_begins_37 ?_
              refine lv_iload_n hx hb dX12_begins_40 rfl (lv_at hl 0 rfl) ?_
              refine lv_aload_n hx hb dX12_begins_41 rfl (lv_at hl 1 rfl) ?_
              refine va_get (v := .ref (ad_m 25)) (C := RX12) (T := TX12) (N := 75) (ci := 11) hx hb hts in_X12 hown hK.1 hW.1 0 rfl rfl 25 (by decide) (hts _ q1661) (fun _ h9 => h9) rfl dX12_begins_42 ?_
              refine lv_bipush (v := 6) hx hb dX12_begins_45 (by decide) ?_
              refine lv_aload_n hx hb dX12_begins_47 rfl (lv_at hl 1 rfl) ?_
              refine va_get (v := .int (nI lv)) (C := RX12) (T := TX12) (N := 75) (ci := 11) hx hb hts in_X12 hown hK.1 hW.1 0 rfl rfl 18 (by decide) (hts _ q1654) (fun _ h9 => h9) rfl dX12_begins_48 ?_
              refine lv_imul hx hb dX12_begins_51 ?_
              refine lv_topi (nm_r (e' := nI (6 * lv)) (pk_mul 6 lv) ?_)
              refine lv_iload_n hx hb dX12_begins_52 rfl (lv_at hl 0 rfl) ?_
              refine lv_iadd hx hb dX12_begins_53 ?_
              refine lv_topi (nm_r (e' := nI (6 * lv + g)) (nI_add (6 * lv) g) ?_)
              refine z_iald (v := t 0 g) (f := g_m 25) (j := 6 * lv + g) hx hb hK.1 hW.1 12 0 rfl rfl (vp_in_nI (n := 6 * lv + g) (by omega) (by decide)) (nI_clamp (n := 6 * lv + g) (by omega)) (TM.c25 hTM (j := g) (by omega)) dX12_begins_54 ?_
              refine z_iast (x := t 0 g) (f := x_row_23) (j := g) (wn := (wj [(mw Y ad_m (sA 60 (upd x_row_23 g (t 0 g)) (sA 18 (fun _ => nI lv) g_m)) w_m)])) hx hb hK.1 hW 43 0 rfl rfl (vp_in_nI (n := g) (by omega) (by decide)) (nI_clamp (n := g) (by omega)) dX12_begins_55 rfl (fun H locs hW => ?_)
              refine lv_iinc (v := nI (g + 1)) (lv' := [(1, .int (nI (g + 1))), (0, .ref (ad_m 0))]) hx hb dX12_begins_56 hl (k := 0) rfl (nI_add g 1) (by decide) rfl (fun ls hl => ?_)
              refine lv_goto (tgt := 23) hx hb dX12_begins_59 (by decide) ?_
              exact ih_23 (g + 1) (upd x_row_23 g (t 0 g)) (by omega) (by omega) (by intro j hj; unfold upd; split <;> grind) (by intro j hj hj2; unfold upd; split <;> grind) _ _ hW _ (lv_sub hl [0, 1] rfl)
        exact loop_23 _ 0 x_row_2 (Nat.lt_succ_self _) (by omega) (by intro j hj; omega) (by intro j _ hj; exact hrow j (by omega)) _ _ hW _ (lv_sub hl [0, 1] rfl)
      · have c_1 : ¬ (120 ≤ k) := fun hz_ => c_1 ((nI_leI (a := 120) (b := k) (by omega) (by omega)).mpr hz_)
        refine lv_aload_n hx hb dX12_begins_8 rfl (lv_at hl 1 rfl) ?_
        refine va_get (v := .ref (ad_m 60)) (C := RX12) (T := TX12) (N := 75) (ci := 11) hx hb hts in_X12 hown hK.1 hW.1 0 rfl rfl 60 (by decide) (hts _ q1696) (fun _ h9 => h9) rfl dX12_begins_9 ?_
        refine lv_iload_n hx hb dX12_begins_12 rfl (lv_at hl 0 rfl) ?_
        refine lv_iconst (v := 0) hx hb dX12_begins_13 (by decide) ?_
        refine z_iast (x := 0) (f := x_row_2) (j := k) (wn := (wj [(mw Y ad_m (sA 60 (upd x_row_2 k 0) (sA 18 (fun _ => nI lv) g_m)) w_m)])) hx hb hK.1 hW 43 0 rfl rfl (vp_in_nI (n := k) (by omega) (by decide)) (nI_clamp (n := k) (by omega)) dX12_begins_14 rfl (fun H locs hW => ?_)
        refine lv_iinc (v := nI (k + 1)) (lv' := [(1, .int (nI (k + 1))), (0, .ref (ad_m 0))]) hx hb dX12_begins_15 hl (k := 0) rfl (nI_add k 1) (by decide) rfl (fun ls hl => ?_)
        refine lv_goto (tgt := 2) hx hb dX12_begins_18 (by decide) ?_
        exact ih_2 (k + 1) (upd x_row_2 k 0) (by omega) (by omega) (by intro j hj; unfold upd; split <;> grind) _ _ hW _ (lv_sub hl [0, 1] rfl)
  exact loop_2 _ 0 (g_m 60) (Nat.lt_succ_self _) (by omega) (by intro j hj; omega) _ _ hW _ (lv_sub hl [0, 1] rfl)
set_option maxHeartbeats 4000000 in
set_option maxRecDepth 100000 in
theorem m_X12_swaps (l : Launch) (D : va_G) (Y : Nat → ClassId) (ad_m : Nat → Nat) (g_m : Nat → Nat → Int32) (w_m : Nat → Nat → Int64) (lv : Nat) (cn : Nat → Nat) (t : tab) (lw : Nat → Option LAW) (σ : tab) (ha : Nat) (hb2 : Nat) (sz : Nat) (hlv : lv < 2) (hTW : TW cn t lw) (hTM : TM lv cn t lw g_m) (hRS : RS cn σ (g_m 60) (g_m 62) (g_m 61 0)) (hha : ha < 6) (hhb : hb2 < 6) : Met l yX12_swaps (ws_ yX12_swaps cX12_swaps 5 none) ({ frames := 1, cells := 0, slots := 0, locals := 12 }) (zPc D Y [.ref (ad_m 0), .int (nI ha), .int (nI hb2)] sz (wj []) (wj [(mw Y ad_m (sA 18 (fun _ => nI lv) g_m) w_m)])) (va_Qv (fun (u : (Nat → Int32)) => RS cn (swapTo σ ha hb2 6) u (g_m 62) (g_m 61 0)) (zB D (fun (u : (Nat → Int32)) => (wj [(mw Y ad_m (sA 60 u (sA 18 (fun _ => nI lv) g_m)) w_m)])) (va_A (wj [(mw Y ad_m (sA 18 (fun _ => nI lv) g_m) w_m)]) sz)) (va_A (wj [(mw Y ad_m (sA 18 (fun _ => nI lv) g_m) w_m)]) sz)) 0 0 (va_A (wj [(mw Y ad_m (sA 18 (fun _ => nI lv) g_m) w_m)]) sz) := by
  refine Met.ofW (cc := cX12_swaps) (maxL := 5) (ret := none) (by decide) rfl ?_
  intro p e s m args below meth c s₁ B hml hv
  obtain ⟨rfl, hsz, hW, hR, hK, hA⟩ := zEntry hv
  subst hsz
  have hx := B.exec
  have hb := B.bytes
  have hr := B.returns
  have hlocks := B.notSynchronized
  have hts : ∀ w ∈ lw_all, w.before _ s = true := fun w h => atoms_spec (ws := (ws_ yX12_swaps cX12_swaps 5 none)) B.pre w (List.mem_cons_of_mem _ h)
  have hown : s.vm.findClass RX12 = some m.cls := findClass_of_methodNamed B.named
  generalize hAe : va_A (wj [(mw Y ad_m (sA 18 (fun _ => nI lv) g_m) w_m)]) s.heap.size = A at hW hR hA ⊢
  have hl := lv_entry ([.ref (ad_m 0), .int (nI ha), .int (nI hb2)]) (n := 5) (Nat.le_of_ble_eq_true rfl)
  rw [lg_entry_eq]
  generalize (lg_sl ([.ref (ad_m 0), .int (nI ha), .int (nI hb2)]) ++ List.replicate (5 - (lg_sl ([.ref (ad_m 0), .int (nI ha), .int (nI hb2)])).length) Slot.unset).toArray = ls at hl ⊢
  have hl : lv_has ls 5 [(0, .ref (ad_m 0)), (1, .int (nI ha)), (2, .int (nI hb2))] := hl
  have hLT := hRS.2.2
  have hk8 := hTW.n2
  have hk6 := hTW.n1
  have hk60 := hTW.n0
  have hk5 := hTW.n3
  refine lv_iconst (v := 0) hx hb dX12_swaps_0 (by decide) ?_
  refine lv_istore_n (lv' := [(3, .int 0), (0, .ref (ad_m 0)), (1, .int (nI ha)), (2, .int (nI hb2))]) hx hb dX12_swaps_1 rfl hl (by decide) rfl (fun ls hl => ?_)
  have loop_2 : ∀ (n : Nat) (g : Nat) (x_row_2 : Nat → Int32) (τ : tab), 6 - g < n → (g ≤ 6) → (swapTo σ ha hb2 g = τ) → (RS cn τ x_row_2 (g_m 62) (g_m 61 0)) → ∀ (H : Heap) (locs : List Loc), zW D A s.heap H locs (wj [(mw Y ad_m (sA 60 x_row_2 (sA 18 (fun _ => nI lv) g_m)) w_m)]) → ∀ (ls : Array Slot), lv_has ls 5 [(3, .int (nI g)), (0, .ref (ad_m 0)), (1, .int (nI ha)), (2, .int (nI hb2))] → W p l e (headSpec (ws_ yX12_swaps cX12_swaps 5 none) ({ frames := 1, cells := 0, slots := 0, locals := 12 })).room s m ([.ref (ad_m 0), .int (nI ha), .int (nI hb2)] : List Value).toArray below meth c H locs 0 0 (MQ below (va_Qv (fun (u : (Nat → Int32)) => RS cn (swapTo σ ha hb2 6) u (g_m 62) (g_m 61 0)) (zB D (fun (u : (Nat → Int32)) => (wj [(mw Y ad_m (sA 60 u (sA 18 (fun _ => nI lv) g_m)) w_m)])) A) A) ([.ref (ad_m 0), .int (nI ha), .int (nI hb2)] : List Value).toArray s 0 0 A) (F0 m 2 ls []) := by
    intro n
    induction n with
    | zero =>
      intro g x_row_2 τ hmz
      exact absurd hmz (Nat.not_lt_zero _)
    | succ n ih =>
      intro g x_row_2 τ hm_2 hi hτ hRSr H locs hW ls hl
      have ih_2 := ih
      clear ih
      refine lv_iload_n hx hb dX12_swaps_2 rfl (lv_at hl 0 rfl) ?_
      refine lv_bipush (v := 6) hx hb dX12_swaps_3 (by decide) ?_
      refine lv_icmp_ge (tgt := 74) hx hb dX12_swaps_5 (by decide) (fun c_1 => ?_) (fun c_1 => ?_)
      · have c_1 : 6 ≤ g := (nI_leI (a := 6) (b := g) (by omega) (by omega)).mp c_1
        refine z_vret (x_row_2 : (Nat → Int32)) hx hb hr hlocks hW rfl dX12_swaps_74 ?_
        show RS cn (swapTo σ ha hb2 6) x_row_2 (g_m 62) (g_m 61 0)
        have eg : g = 6 := by omega
        have hfin : RS cn τ x_row_2 (g_m 62) (g_m 61 0) := hRSr
        have efin : swapTo σ ha hb2 6 = τ := by
          rw [← hτ, eg]
        rw [efin]; exact hfin
      · have c_1 : ¬ (6 ≤ g) := fun hz_ => c_1 ((nI_leI (a := 6) (b := g) (by omega) (by omega)).mpr hz_)
        refine lv_aload_n hx hb dX12_swaps_8 rfl (lv_at hl 1 rfl) ?_
        refine va_get (v := .ref (ad_m 60)) (C := RX12) (T := TX12) (N := 75) (ci := 11) hx hb hts in_X12 hown hK.1 hW.1 0 rfl rfl 60 (by decide) (hts _ q1696) (fun _ h9 => h9) rfl dX12_swaps_9 ?_
        refine lv_bipush (v := 6) hx hb dX12_swaps_12 (by decide) ?_
        refine lv_bipush (v := 6) hx hb dX12_swaps_14 (by decide) ?_
        refine lv_iload_n hx hb dX12_swaps_16 rfl (lv_at hl 2 rfl) ?_
        refine lv_imul hx hb dX12_swaps_17 ?_
        refine lv_topi (nm_r (e' := nI (6 * ha)) (pk_mul 6 ha) ?_)
        refine lv_iadd hx hb dX12_swaps_18 ?_
        refine lv_topi (nm_r (e' := nI (6 + 6 * ha)) (nI_add 6 (6 * ha)) ?_)
        refine lv_iload_n hx hb dX12_swaps_19 rfl (lv_at hl 0 rfl) ?_
        refine lv_iadd hx hb dX12_swaps_20 ?_
        refine lv_topi (nm_r (e' := nI (6 + 6 * ha + g)) (nI_add (6 + 6 * ha) g) ?_)
        refine z_iald (v := τ (30 + ha) g) (f := x_row_2) (j := 6 + 6 * ha + g) hx hb hK.1 hW.1 43 0 rfl rfl (vp_in_nI (n := 6 + 6 * ha + g) (by omega) (by decide)) (nI_clamp (n := 6 + 6 * ha + g) (by omega)) (MR.hole hRSr.1 (a := ha) (g := g) (by omega) (by omega)) dX12_swaps_21 ?_
        refine lv_istore (lv' := [(4, .int (τ (30 + ha) g)), (3, .int (nI g)), (0, .ref (ad_m 0)), (1, .int (nI ha)), (2, .int (nI hb2))]) hx hb dX12_swaps_22 hl (by decide) rfl (fun ls hl => ?_)
        refine lv_aload_n hx hb dX12_swaps_24 rfl (lv_at hl 2 rfl) ?_
        refine va_get (v := .ref (ad_m 60)) (C := RX12) (T := TX12) (N := 75) (ci := 11) hx hb hts in_X12 hown hK.1 hW.1 0 rfl rfl 60 (by decide) (hts _ q1696) (fun _ h9 => h9) rfl dX12_swaps_25 ?_
        refine lv_bipush (v := 6) hx hb dX12_swaps_28 (by decide) ?_
        refine lv_bipush (v := 6) hx hb dX12_swaps_30 (by decide) ?_
        refine lv_iload_n hx hb dX12_swaps_32 rfl (lv_at hl 3 rfl) ?_
        refine lv_imul hx hb dX12_swaps_33 ?_
        refine lv_topi (nm_r (e' := nI (6 * ha)) (pk_mul 6 ha) ?_)
        refine lv_iadd hx hb dX12_swaps_34 ?_
        refine lv_topi (nm_r (e' := nI (6 + 6 * ha)) (nI_add 6 (6 * ha)) ?_)
        refine lv_iload_n hx hb dX12_swaps_35 rfl (lv_at hl 1 rfl) ?_
        refine lv_iadd hx hb dX12_swaps_36 ?_
        refine lv_topi (nm_r (e' := nI (6 + 6 * ha + g)) (nI_add (6 + 6 * ha) g) ?_)
        refine lv_aload_n hx hb dX12_swaps_37 rfl (lv_at hl 2 rfl) ?_
        refine va_get (v := .ref (ad_m 60)) (C := RX12) (T := TX12) (N := 75) (ci := 11) hx hb hts in_X12 hown hK.1 hW.1 0 rfl rfl 60 (by decide) (hts _ q1696) (fun _ h9 => h9) rfl dX12_swaps_38 ?_
        refine lv_bipush (v := 6) hx hb dX12_swaps_41 (by decide) ?_
        refine lv_bipush (v := 6) hx hb dX12_swaps_43 (by decide) ?_
        refine lv_iload_n hx hb dX12_swaps_45 rfl (lv_at hl 4 rfl) ?_
        refine lv_imul hx hb dX12_swaps_46 ?_
        refine lv_topi (nm_r (e' := nI (6 * hb2)) (pk_mul 6 hb2) ?_)
        refine lv_iadd hx hb dX12_swaps_47 ?_
        refine lv_topi (nm_r (e' := nI (6 + 6 * hb2)) (nI_add 6 (6 * hb2)) ?_)
        refine lv_iload_n hx hb dX12_swaps_48 rfl (lv_at hl 1 rfl) ?_
        refine lv_iadd hx hb dX12_swaps_49 ?_
        refine lv_topi (nm_r (e' := nI (6 + 6 * hb2 + g)) (nI_add (6 + 6 * hb2) g) ?_)
        refine z_iald (v := τ (30 + hb2) g) (f := x_row_2) (j := 6 + 6 * hb2 + g) hx hb hK.1 hW.1 43 0 rfl rfl (vp_in_nI (n := 6 + 6 * hb2 + g) (by omega) (by decide)) (nI_clamp (n := 6 + 6 * hb2 + g) (by omega)) (MR.hole hRSr.1 (a := hb2) (g := g) (by omega) (by omega)) dX12_swaps_50 ?_
        refine z_iast (x := τ (30 + hb2) g) (f := x_row_2) (j := 6 + 6 * ha + g) (wn := (wj [(mw Y ad_m (sA 60 (upd x_row_2 (6 + 6 * ha + g) (τ (30 + hb2) g)) (sA 18 (fun _ => nI lv) g_m)) w_m)])) hx hb hK.1 hW 43 0 rfl rfl (vp_in_nI (n := 6 + 6 * ha + g) (by omega) (by decide)) (nI_clamp (n := 6 + 6 * ha + g) (by omega)) dX12_swaps_51 rfl (fun H locs hW => ?_)
        refine lv_aload_n hx hb dX12_swaps_52 rfl (lv_at hl 2 rfl) ?_
        refine va_get (v := .ref (ad_m 60)) (C := RX12) (T := TX12) (N := 75) (ci := 11) hx hb hts in_X12 hown hK.1 hW.1 0 rfl rfl 60 (by decide) (hts _ q1696) (fun _ h9 => h9) rfl dX12_swaps_53 ?_
        refine lv_bipush (v := 6) hx hb dX12_swaps_56 (by decide) ?_
        refine lv_bipush (v := 6) hx hb dX12_swaps_58 (by decide) ?_
        refine lv_iload_n hx hb dX12_swaps_60 rfl (lv_at hl 4 rfl) ?_
        refine lv_imul hx hb dX12_swaps_61 ?_
        refine lv_topi (nm_r (e' := nI (6 * hb2)) (pk_mul 6 hb2) ?_)
        refine lv_iadd hx hb dX12_swaps_62 ?_
        refine lv_topi (nm_r (e' := nI (6 + 6 * hb2)) (nI_add 6 (6 * hb2)) ?_)
        refine lv_iload_n hx hb dX12_swaps_63 rfl (lv_at hl 1 rfl) ?_
        refine lv_iadd hx hb dX12_swaps_64 ?_
        refine lv_topi (nm_r (e' := nI (6 + 6 * hb2 + g)) (nI_add (6 + 6 * hb2) g) ?_)
        refine lv_iload hx hb dX12_swaps_65 (lv_at hl 0 rfl) ?_
        refine z_iast (x := τ (30 + ha) g) (f := upd x_row_2 (6 + 6 * ha + g) (τ (30 + hb2) g)) (j := 6 + 6 * hb2 + g) (wn := (wj [(mw Y ad_m (sA 60 (upd (upd x_row_2 (6 + 6 * ha + g) (τ (30 + hb2) g)) (6 + 6 * hb2 + g) (τ (30 + ha) g)) (sA 18 (fun _ => nI lv) g_m)) w_m)])) hx hb hK.1 hW 43 0 rfl rfl (vp_in_nI (n := 6 + 6 * hb2 + g) (by omega) (by decide)) (nI_clamp (n := 6 + 6 * hb2 + g) (by omega)) dX12_swaps_67 rfl (fun H locs hW => ?_)
        refine lv_iinc (v := nI (g + 1)) (lv' := [(3, .int (nI (g + 1))), (4, .int (τ (30 + ha) g)), (0, .ref (ad_m 0)), (1, .int (nI ha)), (2, .int (nI hb2))]) hx hb dX12_swaps_68 hl (k := 1) rfl (nI_add g 1) (by decide) rfl (fun ls hl => ?_)
        refine lv_goto (tgt := 2) hx hb dX12_swaps_71 (by decide) ?_
        have hRSn : RS cn (sU (30 + hb2) g (τ (30 + ha) g) (sU (30 + ha) g (τ (30 + hb2) g) τ)) (upd (upd x_row_2 (6 + 6 * ha + g) (τ (30 + hb2) g)) (6 + 6 * hb2 + g) (τ (30 + ha) g)) (g_m 62) (g_m 61 0) := by
          have e_2 : sU (30 + hb2) g (τ (30 + ha) g) (sU (30 + ha) g (τ (30 + hb2) g) τ) = sU (30 + hb2) g (τ (30 + ha) g) (sU (30 + ha) g (τ (30 + hb2) g) τ) := by
            rfl
          rw [e_2]; exact (RS.mk' hRSr (MR.uhole hk8 (MR.uhole hk8 hRSr.1 (a := ha) (g := g) (by omega) (by omega) (τ (30 + hb2) g)) (a := hb2) (g := g) (by omega) (by omega) (τ (30 + ha) g)) (by rw [sU_ne (by omega), sU_ne (by omega)]) (by rw [sU_ne (by omega), sU_ne (by omega)]))
        exact ih_2 (g + 1) (upd (upd x_row_2 (6 + 6 * ha + g) (τ (30 + hb2) g)) (6 + 6 * hb2 + g) (τ (30 + ha) g)) (sU (30 + hb2) g (τ (30 + ha) g) (sU (30 + ha) g (τ (30 + hb2) g) τ)) (by omega) (by omega) (by rw [← hτ]; rfl) (by exact hRSn) _ _ hW _ (lv_sub hl [0, 2, 3, 4] rfl)
  exact loop_2 _ 0 (g_m 60) σ (Nat.lt_succ_self _) (by omega) (by rfl) (by exact hRS) _ _ hW _ (lv_sub hl [0, 1, 2, 3] rfl)
