/-! the model cuts its text into rows -/
set_option maxRecDepth 100000
set_option maxHeartbeats 4000000 in
set_option maxRecDepth 100000 in
theorem m_X12_sign (l : Launch) (D : va_G) (Y : Nat → ClassId) (ad_m : Nat → Nat) (g_m : Nat → Nat → Int32) (w_m : Nat → Nat → Int64) (ii : Nat) (cc : Int32) (dd : Int32) (tk : Nat) (sz : Nat) (htk : tk ≤ 400) : Met l yX12_sign (ws_ yX12_sign cX12_sign 5 (some .int)) ({ frames := 2, cells := 0, slots := 0, locals := 37 }) (zPc D Y [.ref (ad_m 0), .int (nI ii), .int cc, .int dd] sz (wj []) (wj [(mw Y ad_m (sA 10 (fun _ => nI tk) g_m) w_m)])) (va_Qi (fun (r : Int32) (u : (Nat → Int32) × (Nat → Int32) × (Nat → Int32) × (Nat → Int64) × (Nat)) => r = 1 ∧ u.1 = upd (g_m 5) tk (nI (signK cc)) ∧ u.2.1 = upd (g_m 6) tk (nI ii) ∧ u.2.2.1 = upd (g_m 7) tk 0 ∧ u.2.2.2.1 = vp_updL (w_m 8) tk 0 ∧ u.2.2.2.2 = tk + 1) (zB D (fun (u : (Nat → Int32) × (Nat → Int32) × (Nat → Int32) × (Nat → Int64) × (Nat)) => (wj [(mw Y ad_m (sA 10 (fun _ => nI u.2.2.2.2) (sA 7 u.2.2.1 (sA 6 u.2.1 (sA 5 u.1 g_m)))) (sA 8 u.2.2.2.1 w_m))])) (va_A (wj [(mw Y ad_m (sA 10 (fun _ => nI tk) g_m) w_m)]) sz)) (va_A (wj [(mw Y ad_m (sA 10 (fun _ => nI tk) g_m) w_m)]) sz)) 0 0 (va_A (wj [(mw Y ad_m (sA 10 (fun _ => nI tk) g_m) w_m)]) sz) := by
  refine Met.ofW (cc := cX12_sign) (maxL := 5) (ret := (some .int)) (by decide) rfl ?_
  intro p e s m args below meth c s₁ B hml hv
  obtain ⟨rfl, hsz, hW, hR, hK, hA⟩ := zEntry hv
  subst hsz
  have hx := B.exec
  have hb := B.bytes
  have hr := B.returns
  have hlocks := B.notSynchronized
  have hts : ∀ w ∈ lw_all, w.before _ s = true := fun w h => atoms_spec (ws := (ws_ yX12_sign cX12_sign 5 (some .int))) B.pre w (List.mem_cons_of_mem _ h)
  have hown : s.vm.findClass RX12 = some m.cls := findClass_of_methodNamed B.named
  generalize hAe : va_A (wj [(mw Y ad_m (sA 10 (fun _ => nI tk) g_m) w_m)]) s.heap.size = A at hW hR hA ⊢
  have hl := lv_entry ([.ref (ad_m 0), .int (nI ii), .int cc, .int dd]) (n := 5) (Nat.le_of_ble_eq_true rfl)
  rw [lg_entry_eq]
  generalize (lg_sl ([.ref (ad_m 0), .int (nI ii), .int cc, .int dd]) ++ List.replicate (5 - (lg_sl ([.ref (ad_m 0), .int (nI ii), .int cc, .int dd])).length) Slot.unset).toArray = ls at hl ⊢
  have hl : lv_has ls 5 [(0, .ref (ad_m 0)), (1, .int (nI ii)), (2, .int cc), (3, .int dd)] := hl
  refine lv_iload_n hx hb dX12_sign_0 rfl (lv_at hl 2 rfl) ?_
  refine lv_bipush (v := 59) hx hb dX12_sign_1 (by decide) ?_
  refine lv_icmp_ne (tgt := 10) hx hb dX12_sign_3 (by decide) (fun c_1 => ?_) (fun c_1 => ?_)
  · refine lv_iload_n hx hb dX12_sign_10 rfl (lv_at hl 2 rfl) ?_
    refine lv_bipush (v := 61) hx hb dX12_sign_11 (by decide) ?_
    refine lv_icmp_ne (tgt := 20) hx hb dX12_sign_13 (by decide) (fun c_2 => ?_) (fun c_2 => ?_)
    · refine lv_iload_n hx hb dX12_sign_20 rfl (lv_at hl 2 rfl) ?_
      refine lv_bipush (v := 40) hx hb dX12_sign_21 (by decide) ?_
      refine lv_icmp_ne (tgt := 31) hx hb dX12_sign_23 (by decide) (fun c_3 => ?_) (fun c_3 => ?_)
      · refine lv_iload_n hx hb dX12_sign_31 rfl (lv_at hl 2 rfl) ?_
        refine lv_bipush (v := 41) hx hb dX12_sign_32 (by decide) ?_
        refine lv_icmp_ne (tgt := 42) hx hb dX12_sign_34 (by decide) (fun c_4 => ?_) (fun c_4 => ?_)
        · refine lv_iconst (v := 3) hx hb dX12_sign_42 (by decide) ?_
          refine lv_istore (lv' := [(4, .int 3), (0, .ref (ad_m 0)), (1, .int (nI ii)), (2, .int cc), (3, .int dd)]) hx hb dX12_sign_43 hl (by decide) rfl (fun ls hl => ?_)
          refine lv_iload_n hx hb dX12_sign_45 rfl (lv_at hl 3 rfl) ?_
          refine lv_bipush (v := 43) hx hb dX12_sign_46 (by decide) ?_
          refine lv_icmp_ne (tgt := 55) hx hb dX12_sign_48 (by decide) (fun c_5 => ?_) (fun c_5 => ?_)
          · refine lv_iload_n hx hb dX12_sign_55 rfl (lv_at hl 3 rfl) ?_
            refine lv_bipush (v := 45) hx hb dX12_sign_56 (by decide) ?_
            refine lv_icmp_ne (tgt := 65) hx hb dX12_sign_58 (by decide) (fun c_6 => ?_) (fun c_6 => ?_)
            · refine lv_iload_n hx hb dX12_sign_65 rfl (lv_at hl 3 rfl) ?_
              refine lv_bipush (v := 42) hx hb dX12_sign_66 (by decide) ?_
              refine lv_icmp_ne (tgt := 75) hx hb dX12_sign_68 (by decide) (fun c_7 => ?_) (fun c_7 => ?_)
              · refine lv_iload_n hx hb dX12_sign_75 rfl (lv_at hl 3 rfl) ?_
                refine lv_bipush (v := 47) hx hb dX12_sign_76 (by decide) ?_
                refine lv_icmp_ne (tgt := 85) hx hb dX12_sign_78 (by decide) (fun c_8 => ?_) (fun c_8 => ?_)
                · refine lv_iload_n hx hb dX12_sign_85 rfl (lv_at hl 3 rfl) ?_
                  refine lv_bipush (v := 60) hx hb dX12_sign_86 (by decide) ?_
                  refine lv_icmp_ne (tgt := 95) hx hb dX12_sign_88 (by decide) (fun c_9 => ?_) (fun c_9 => ?_)
                  · refine lv_aload_n hx hb dX12_sign_95 rfl (lv_at hl 1 rfl) ?_
                    refine lv_iload hx hb dX12_sign_96 (lv_at hl 0 rfl) ?_
                    refine lv_iload_n hx hb dX12_sign_98 rfl (lv_at hl 2 rfl) ?_
                    refine lv_iconst (v := 0) hx hb dX12_sign_99 (by decide) ?_
                    refine lv_lconst (v := 0) hx hb dX12_sign_100 (by decide) ?_
                    refine z_callv (wc := wj [(mw Y ad_m (sA 10 (fun _ => nI tk) g_m) w_m)]) (wr := wj []) (va_runV (As := [.int 3, .int (nI ii), .int 0, .long (0 : Int64)]) (rest := []) ⟨hx, hb, hml, hown, hts⟩ (m_X12_token l D Y ad_m (sA 10 (fun _ => nI tk) g_m) w_m tk 3 (nI ii) 0 (0 : Int64) s.heap.size (show tk ≤ 401 from by first | assumption | omega | grind)) (cwV 4 hts (lw_V q1887 q1889 qs60 q133 q1890) rfl rfl rfl (by decide +kernel) ⟨Nat.le_of_ble_eq_true rfl, Nat.le_of_ble_eq_true rfl⟩) (zPreV hK hW hR (wj_split3 (B := [(mw Y ad_m (sA 10 (fun _ => nI tk) g_m) w_m)]) (R := []) (C := [(mw Y ad_m (sA 10 (fun _ => nI tk) g_m) w_m)]) (O := []) (X := []) (List.Perm.refl _)) (va_recv hK.1 hW.1 (ci := 11) (q0 := 0) rfl rfl)) rfl rfl hl.1 rfl (lv_room (Nat.le_of_ble_eq_true rfl)) dX12_sign_101 ⟨Nat.le_refl _, Nat.le_refl _⟩) hW hA (wj_split (B := [(mw Y ad_m (sA 10 (fun _ => nI tk) g_m) w_m)]) (C := [(mw Y ad_m (sA 10 (fun _ => nI tk) g_m) w_m)]) (R := []) (List.Perm.refl _)) (fun  u H locs hp_11 hW => ?_)
                    obtain ⟨utKind_12, utPlace_13, utValue_14, utName_15, utokens_16⟩ := u
                    have hp_11 : utKind_12 = upd (g_m 5) tk 3 ∧ utPlace_13 = upd (g_m 6) tk (nI ii) ∧ utValue_14 = upd (g_m 7) tk 0 ∧ utName_15 = vp_updL (w_m 8) tk (0 : Int64) ∧ utokens_16 = tk + 1 := hp_11
                    have hW : zW D A s.heap H locs (wj [(mw Y ad_m (sA 10 (fun _ => nI utokens_16) (sA 7 utValue_14 (sA 6 utPlace_13 (sA 5 utKind_12 g_m)))) (sA 8 utName_15 w_m))]) := hW.join
                    obtain ⟨et1, et2, et3, et4, et5⟩ := hp_11
                    refine lv_iconst (v := 1) hx hb dX12_sign_104 (by decide) ?_
                    refine z_ireti ((utKind_12, utPlace_13, utValue_14, utName_15, utokens_16) : (Nat → Int32) × (Nat → Int32) × (Nat → Int32) × (Nat → Int64) × (Nat)) hx hb hr hlocks rfl hW rfl dX12_sign_105 ?_
                    show 1 = 1 ∧ utKind_12 = upd (g_m 5) tk (nI (signK cc)) ∧ utPlace_13 = upd (g_m 6) tk (nI ii) ∧ utValue_14 = upd (g_m 7) tk 0 ∧ utName_15 = vp_updL (w_m 8) tk 0 ∧ utokens_16 = tk + 1
                    refine ⟨rfl, ?_, et2, et3, et4, et5⟩
                    rw [et1]
                    have hs : signK cc = 3 := by unfold signK; simp only [if_neg, *, not_false_eq_true]
                    rw [hs]; rfl
                  · refine lv_bipush (v := 13) hx hb dX12_sign_91 (by decide) ?_
                    refine lv_istore (lv' := [(4, .int 13), (0, .ref (ad_m 0)), (1, .int (nI ii)), (2, .int cc), (3, .int dd)]) hx hb dX12_sign_93 hl (by decide) rfl (fun ls hl => ?_)
                    refine lv_aload_n hx hb dX12_sign_95 rfl (lv_at hl 1 rfl) ?_
                    refine lv_iload hx hb dX12_sign_96 (lv_at hl 0 rfl) ?_
                    refine lv_iload_n hx hb dX12_sign_98 rfl (lv_at hl 2 rfl) ?_
                    refine lv_iconst (v := 0) hx hb dX12_sign_99 (by decide) ?_
                    refine lv_lconst (v := 0) hx hb dX12_sign_100 (by decide) ?_
                    refine z_callv (wc := wj [(mw Y ad_m (sA 10 (fun _ => nI tk) g_m) w_m)]) (wr := wj []) (va_runV (As := [.int 13, .int (nI ii), .int 0, .long (0 : Int64)]) (rest := []) ⟨hx, hb, hml, hown, hts⟩ (m_X12_token l D Y ad_m (sA 10 (fun _ => nI tk) g_m) w_m tk 13 (nI ii) 0 (0 : Int64) s.heap.size (show tk ≤ 401 from by first | assumption | omega | grind)) (cwV 4 hts (lw_V q1887 q1889 qs60 q133 q1890) rfl rfl rfl (by decide +kernel) ⟨Nat.le_of_ble_eq_true rfl, Nat.le_of_ble_eq_true rfl⟩) (zPreV hK hW hR (wj_split3 (B := [(mw Y ad_m (sA 10 (fun _ => nI tk) g_m) w_m)]) (R := []) (C := [(mw Y ad_m (sA 10 (fun _ => nI tk) g_m) w_m)]) (O := []) (X := []) (List.Perm.refl _)) (va_recv hK.1 hW.1 (ci := 11) (q0 := 0) rfl rfl)) rfl rfl hl.1 rfl (lv_room (Nat.le_of_ble_eq_true rfl)) dX12_sign_101 ⟨Nat.le_refl _, Nat.le_refl _⟩) hW hA (wj_split (B := [(mw Y ad_m (sA 10 (fun _ => nI tk) g_m) w_m)]) (C := [(mw Y ad_m (sA 10 (fun _ => nI tk) g_m) w_m)]) (R := []) (List.Perm.refl _)) (fun  u H locs hp_18 hW => ?_)
                    obtain ⟨utKind_19, utPlace_20, utValue_21, utName_22, utokens_23⟩ := u
                    have hp_18 : utKind_19 = upd (g_m 5) tk 13 ∧ utPlace_20 = upd (g_m 6) tk (nI ii) ∧ utValue_21 = upd (g_m 7) tk 0 ∧ utName_22 = vp_updL (w_m 8) tk (0 : Int64) ∧ utokens_23 = tk + 1 := hp_18
                    have hW : zW D A s.heap H locs (wj [(mw Y ad_m (sA 10 (fun _ => nI utokens_23) (sA 7 utValue_21 (sA 6 utPlace_20 (sA 5 utKind_19 g_m)))) (sA 8 utName_22 w_m))]) := hW.join
                    obtain ⟨et1, et2, et3, et4, et5⟩ := hp_18
                    refine lv_iconst (v := 1) hx hb dX12_sign_104 (by decide) ?_
                    refine z_ireti ((utKind_19, utPlace_20, utValue_21, utName_22, utokens_23) : (Nat → Int32) × (Nat → Int32) × (Nat → Int32) × (Nat → Int64) × (Nat)) hx hb hr hlocks rfl hW rfl dX12_sign_105 ?_
                    show 1 = 1 ∧ utKind_19 = upd (g_m 5) tk (nI (signK cc)) ∧ utPlace_20 = upd (g_m 6) tk (nI ii) ∧ utValue_21 = upd (g_m 7) tk 0 ∧ utName_22 = vp_updL (w_m 8) tk 0 ∧ utokens_23 = tk + 1
                    refine ⟨rfl, ?_, et2, et3, et4, et5⟩
                    rw [et1]
                    have hs : signK cc = 13 := by rw [c_9]; rfl
                    rw [hs]; rfl
                · refine lv_bipush (v := 15) hx hb dX12_sign_81 (by decide) ?_
                  refine lv_istore (lv' := [(4, .int 15), (0, .ref (ad_m 0)), (1, .int (nI ii)), (2, .int cc), (3, .int dd)]) hx hb dX12_sign_83 hl (by decide) rfl (fun ls hl => ?_)
                  refine lv_iload_n hx hb dX12_sign_85 rfl (lv_at hl 3 rfl) ?_
                  refine lv_bipush (v := 60) hx hb dX12_sign_86 (by decide) ?_
                  refine lv_icmp_ne (tgt := 95) hx hb dX12_sign_88 (by decide) (fun c_24 => ?_) (fun c_24 => ?_)
                  · refine lv_aload_n hx hb dX12_sign_95 rfl (lv_at hl 1 rfl) ?_
                    refine lv_iload hx hb dX12_sign_96 (lv_at hl 0 rfl) ?_
                    refine lv_iload_n hx hb dX12_sign_98 rfl (lv_at hl 2 rfl) ?_
                    refine lv_iconst (v := 0) hx hb dX12_sign_99 (by decide) ?_
                    refine lv_lconst (v := 0) hx hb dX12_sign_100 (by decide) ?_
                    refine z_callv (wc := wj [(mw Y ad_m (sA 10 (fun _ => nI tk) g_m) w_m)]) (wr := wj []) (va_runV (As := [.int 15, .int (nI ii), .int 0, .long (0 : Int64)]) (rest := []) ⟨hx, hb, hml, hown, hts⟩ (m_X12_token l D Y ad_m (sA 10 (fun _ => nI tk) g_m) w_m tk 15 (nI ii) 0 (0 : Int64) s.heap.size (show tk ≤ 401 from by first | assumption | omega | grind)) (cwV 4 hts (lw_V q1887 q1889 qs60 q133 q1890) rfl rfl rfl (by decide +kernel) ⟨Nat.le_of_ble_eq_true rfl, Nat.le_of_ble_eq_true rfl⟩) (zPreV hK hW hR (wj_split3 (B := [(mw Y ad_m (sA 10 (fun _ => nI tk) g_m) w_m)]) (R := []) (C := [(mw Y ad_m (sA 10 (fun _ => nI tk) g_m) w_m)]) (O := []) (X := []) (List.Perm.refl _)) (va_recv hK.1 hW.1 (ci := 11) (q0 := 0) rfl rfl)) rfl rfl hl.1 rfl (lv_room (Nat.le_of_ble_eq_true rfl)) dX12_sign_101 ⟨Nat.le_refl _, Nat.le_refl _⟩) hW hA (wj_split (B := [(mw Y ad_m (sA 10 (fun _ => nI tk) g_m) w_m)]) (C := [(mw Y ad_m (sA 10 (fun _ => nI tk) g_m) w_m)]) (R := []) (List.Perm.refl _)) (fun  u H locs hp_26 hW => ?_)
                    obtain ⟨utKind_27, utPlace_28, utValue_29, utName_30, utokens_31⟩ := u
                    have hp_26 : utKind_27 = upd (g_m 5) tk 15 ∧ utPlace_28 = upd (g_m 6) tk (nI ii) ∧ utValue_29 = upd (g_m 7) tk 0 ∧ utName_30 = vp_updL (w_m 8) tk (0 : Int64) ∧ utokens_31 = tk + 1 := hp_26
                    have hW : zW D A s.heap H locs (wj [(mw Y ad_m (sA 10 (fun _ => nI utokens_31) (sA 7 utValue_29 (sA 6 utPlace_28 (sA 5 utKind_27 g_m)))) (sA 8 utName_30 w_m))]) := hW.join
                    obtain ⟨et1, et2, et3, et4, et5⟩ := hp_26
                    refine lv_iconst (v := 1) hx hb dX12_sign_104 (by decide) ?_
                    refine z_ireti ((utKind_27, utPlace_28, utValue_29, utName_30, utokens_31) : (Nat → Int32) × (Nat → Int32) × (Nat → Int32) × (Nat → Int64) × (Nat)) hx hb hr hlocks rfl hW rfl dX12_sign_105 ?_
                    show 1 = 1 ∧ utKind_27 = upd (g_m 5) tk (nI (signK cc)) ∧ utPlace_28 = upd (g_m 6) tk (nI ii) ∧ utValue_29 = upd (g_m 7) tk 0 ∧ utName_30 = vp_updL (w_m 8) tk 0 ∧ utokens_31 = tk + 1
                    refine ⟨rfl, ?_, et2, et3, et4, et5⟩
                    rw [et1]
                    have hs : signK cc = 15 := by rw [c_8]; rfl
                    rw [hs]; rfl
                  · exact absurd (c_8.symm.trans c_24) (by decide)
              · refine lv_bipush (v := 10) hx hb dX12_sign_71 (by decide) ?_
                refine lv_istore (lv' := [(4, .int 10), (0, .ref (ad_m 0)), (1, .int (nI ii)), (2, .int cc), (3, .int dd)]) hx hb dX12_sign_73 hl (by decide) rfl (fun ls hl => ?_)
                refine lv_iload_n hx hb dX12_sign_75 rfl (lv_at hl 3 rfl) ?_
                refine lv_bipush (v := 47) hx hb dX12_sign_76 (by decide) ?_
                refine lv_icmp_ne (tgt := 85) hx hb dX12_sign_78 (by decide) (fun c_32 => ?_) (fun c_32 => ?_)
                · refine lv_iload_n hx hb dX12_sign_85 rfl (lv_at hl 3 rfl) ?_
                  refine lv_bipush (v := 60) hx hb dX12_sign_86 (by decide) ?_
                  refine lv_icmp_ne (tgt := 95) hx hb dX12_sign_88 (by decide) (fun c_33 => ?_) (fun c_33 => ?_)
                  · refine lv_aload_n hx hb dX12_sign_95 rfl (lv_at hl 1 rfl) ?_
                    refine lv_iload hx hb dX12_sign_96 (lv_at hl 0 rfl) ?_
                    refine lv_iload_n hx hb dX12_sign_98 rfl (lv_at hl 2 rfl) ?_
                    refine lv_iconst (v := 0) hx hb dX12_sign_99 (by decide) ?_
                    refine lv_lconst (v := 0) hx hb dX12_sign_100 (by decide) ?_
                    refine z_callv (wc := wj [(mw Y ad_m (sA 10 (fun _ => nI tk) g_m) w_m)]) (wr := wj []) (va_runV (As := [.int 10, .int (nI ii), .int 0, .long (0 : Int64)]) (rest := []) ⟨hx, hb, hml, hown, hts⟩ (m_X12_token l D Y ad_m (sA 10 (fun _ => nI tk) g_m) w_m tk 10 (nI ii) 0 (0 : Int64) s.heap.size (show tk ≤ 401 from by first | assumption | omega | grind)) (cwV 4 hts (lw_V q1887 q1889 qs60 q133 q1890) rfl rfl rfl (by decide +kernel) ⟨Nat.le_of_ble_eq_true rfl, Nat.le_of_ble_eq_true rfl⟩) (zPreV hK hW hR (wj_split3 (B := [(mw Y ad_m (sA 10 (fun _ => nI tk) g_m) w_m)]) (R := []) (C := [(mw Y ad_m (sA 10 (fun _ => nI tk) g_m) w_m)]) (O := []) (X := []) (List.Perm.refl _)) (va_recv hK.1 hW.1 (ci := 11) (q0 := 0) rfl rfl)) rfl rfl hl.1 rfl (lv_room (Nat.le_of_ble_eq_true rfl)) dX12_sign_101 ⟨Nat.le_refl _, Nat.le_refl _⟩) hW hA (wj_split (B := [(mw Y ad_m (sA 10 (fun _ => nI tk) g_m) w_m)]) (C := [(mw Y ad_m (sA 10 (fun _ => nI tk) g_m) w_m)]) (R := []) (List.Perm.refl _)) (fun  u H locs hp_35 hW => ?_)
                    obtain ⟨utKind_36, utPlace_37, utValue_38, utName_39, utokens_40⟩ := u
                    have hp_35 : utKind_36 = upd (g_m 5) tk 10 ∧ utPlace_37 = upd (g_m 6) tk (nI ii) ∧ utValue_38 = upd (g_m 7) tk 0 ∧ utName_39 = vp_updL (w_m 8) tk (0 : Int64) ∧ utokens_40 = tk + 1 := hp_35
                    have hW : zW D A s.heap H locs (wj [(mw Y ad_m (sA 10 (fun _ => nI utokens_40) (sA 7 utValue_38 (sA 6 utPlace_37 (sA 5 utKind_36 g_m)))) (sA 8 utName_39 w_m))]) := hW.join
                    obtain ⟨et1, et2, et3, et4, et5⟩ := hp_35
                    refine lv_iconst (v := 1) hx hb dX12_sign_104 (by decide) ?_
                    refine z_ireti ((utKind_36, utPlace_37, utValue_38, utName_39, utokens_40) : (Nat → Int32) × (Nat → Int32) × (Nat → Int32) × (Nat → Int64) × (Nat)) hx hb hr hlocks rfl hW rfl dX12_sign_105 ?_
                    show 1 = 1 ∧ utKind_36 = upd (g_m 5) tk (nI (signK cc)) ∧ utPlace_37 = upd (g_m 6) tk (nI ii) ∧ utValue_38 = upd (g_m 7) tk 0 ∧ utName_39 = vp_updL (w_m 8) tk 0 ∧ utokens_40 = tk + 1
                    refine ⟨rfl, ?_, et2, et3, et4, et5⟩
                    rw [et1]
                    have hs : signK cc = 10 := by rw [c_7]; rfl
                    rw [hs]; rfl
                  · exact absurd (c_7.symm.trans c_33) (by decide)
                · exact absurd (c_7.symm.trans c_32) (by decide)
            · refine lv_bipush (v := 9) hx hb dX12_sign_61 (by decide) ?_
              refine lv_istore (lv' := [(4, .int 9), (0, .ref (ad_m 0)), (1, .int (nI ii)), (2, .int cc), (3, .int dd)]) hx hb dX12_sign_63 hl (by decide) rfl (fun ls hl => ?_)
              refine lv_iload_n hx hb dX12_sign_65 rfl (lv_at hl 3 rfl) ?_
              refine lv_bipush (v := 42) hx hb dX12_sign_66 (by decide) ?_
              refine lv_icmp_ne (tgt := 75) hx hb dX12_sign_68 (by decide) (fun c_41 => ?_) (fun c_41 => ?_)
              · refine lv_iload_n hx hb dX12_sign_75 rfl (lv_at hl 3 rfl) ?_
                refine lv_bipush (v := 47) hx hb dX12_sign_76 (by decide) ?_
                refine lv_icmp_ne (tgt := 85) hx hb dX12_sign_78 (by decide) (fun c_42 => ?_) (fun c_42 => ?_)
                · refine lv_iload_n hx hb dX12_sign_85 rfl (lv_at hl 3 rfl) ?_
                  refine lv_bipush (v := 60) hx hb dX12_sign_86 (by decide) ?_
                  refine lv_icmp_ne (tgt := 95) hx hb dX12_sign_88 (by decide) (fun c_43 => ?_) (fun c_43 => ?_)
                  · refine lv_aload_n hx hb dX12_sign_95 rfl (lv_at hl 1 rfl) ?_
                    refine lv_iload hx hb dX12_sign_96 (lv_at hl 0 rfl) ?_
                    refine lv_iload_n hx hb dX12_sign_98 rfl (lv_at hl 2 rfl) ?_
                    refine lv_iconst (v := 0) hx hb dX12_sign_99 (by decide) ?_
                    refine lv_lconst (v := 0) hx hb dX12_sign_100 (by decide) ?_
                    refine z_callv (wc := wj [(mw Y ad_m (sA 10 (fun _ => nI tk) g_m) w_m)]) (wr := wj []) (va_runV (As := [.int 9, .int (nI ii), .int 0, .long (0 : Int64)]) (rest := []) ⟨hx, hb, hml, hown, hts⟩ (m_X12_token l D Y ad_m (sA 10 (fun _ => nI tk) g_m) w_m tk 9 (nI ii) 0 (0 : Int64) s.heap.size (show tk ≤ 401 from by first | assumption | omega | grind)) (cwV 4 hts (lw_V q1887 q1889 qs60 q133 q1890) rfl rfl rfl (by decide +kernel) ⟨Nat.le_of_ble_eq_true rfl, Nat.le_of_ble_eq_true rfl⟩) (zPreV hK hW hR (wj_split3 (B := [(mw Y ad_m (sA 10 (fun _ => nI tk) g_m) w_m)]) (R := []) (C := [(mw Y ad_m (sA 10 (fun _ => nI tk) g_m) w_m)]) (O := []) (X := []) (List.Perm.refl _)) (va_recv hK.1 hW.1 (ci := 11) (q0 := 0) rfl rfl)) rfl rfl hl.1 rfl (lv_room (Nat.le_of_ble_eq_true rfl)) dX12_sign_101 ⟨Nat.le_refl _, Nat.le_refl _⟩) hW hA (wj_split (B := [(mw Y ad_m (sA 10 (fun _ => nI tk) g_m) w_m)]) (C := [(mw Y ad_m (sA 10 (fun _ => nI tk) g_m) w_m)]) (R := []) (List.Perm.refl _)) (fun  u H locs hp_45 hW => ?_)
                    obtain ⟨utKind_46, utPlace_47, utValue_48, utName_49, utokens_50⟩ := u
                    have hp_45 : utKind_46 = upd (g_m 5) tk 9 ∧ utPlace_47 = upd (g_m 6) tk (nI ii) ∧ utValue_48 = upd (g_m 7) tk 0 ∧ utName_49 = vp_updL (w_m 8) tk (0 : Int64) ∧ utokens_50 = tk + 1 := hp_45
                    have hW : zW D A s.heap H locs (wj [(mw Y ad_m (sA 10 (fun _ => nI utokens_50) (sA 7 utValue_48 (sA 6 utPlace_47 (sA 5 utKind_46 g_m)))) (sA 8 utName_49 w_m))]) := hW.join
                    obtain ⟨et1, et2, et3, et4, et5⟩ := hp_45
                    refine lv_iconst (v := 1) hx hb dX12_sign_104 (by decide) ?_
                    refine z_ireti ((utKind_46, utPlace_47, utValue_48, utName_49, utokens_50) : (Nat → Int32) × (Nat → Int32) × (Nat → Int32) × (Nat → Int64) × (Nat)) hx hb hr hlocks rfl hW rfl dX12_sign_105 ?_
                    show 1 = 1 ∧ utKind_46 = upd (g_m 5) tk (nI (signK cc)) ∧ utPlace_47 = upd (g_m 6) tk (nI ii) ∧ utValue_48 = upd (g_m 7) tk 0 ∧ utName_49 = vp_updL (w_m 8) tk 0 ∧ utokens_50 = tk + 1
                    refine ⟨rfl, ?_, et2, et3, et4, et5⟩
                    rw [et1]
                    have hs : signK cc = 9 := by rw [c_6]; rfl
                    rw [hs]; rfl
                  · exact absurd (c_6.symm.trans c_43) (by decide)
                · exact absurd (c_6.symm.trans c_42) (by decide)
              · exact absurd (c_6.symm.trans c_41) (by decide)
          · refine lv_bipush (v := 8) hx hb dX12_sign_51 (by decide) ?_
            refine lv_istore (lv' := [(4, .int 8), (0, .ref (ad_m 0)), (1, .int (nI ii)), (2, .int cc), (3, .int dd)]) hx hb dX12_sign_53 hl (by decide) rfl (fun ls hl => ?_)
            refine lv_iload_n hx hb dX12_sign_55 rfl (lv_at hl 3 rfl) ?_
            refine lv_bipush (v := 45) hx hb dX12_sign_56 (by decide) ?_
            refine lv_icmp_ne (tgt := 65) hx hb dX12_sign_58 (by decide) (fun c_51 => ?_) (fun c_51 => ?_)
            · refine lv_iload_n hx hb dX12_sign_65 rfl (lv_at hl 3 rfl) ?_
              refine lv_bipush (v := 42) hx hb dX12_sign_66 (by decide) ?_
              refine lv_icmp_ne (tgt := 75) hx hb dX12_sign_68 (by decide) (fun c_52 => ?_) (fun c_52 => ?_)
              · refine lv_iload_n hx hb dX12_sign_75 rfl (lv_at hl 3 rfl) ?_
                refine lv_bipush (v := 47) hx hb dX12_sign_76 (by decide) ?_
                refine lv_icmp_ne (tgt := 85) hx hb dX12_sign_78 (by decide) (fun c_53 => ?_) (fun c_53 => ?_)
                · refine lv_iload_n hx hb dX12_sign_85 rfl (lv_at hl 3 rfl) ?_
                  refine lv_bipush (v := 60) hx hb dX12_sign_86 (by decide) ?_
                  refine lv_icmp_ne (tgt := 95) hx hb dX12_sign_88 (by decide) (fun c_54 => ?_) (fun c_54 => ?_)
                  · refine lv_aload_n hx hb dX12_sign_95 rfl (lv_at hl 1 rfl) ?_
                    refine lv_iload hx hb dX12_sign_96 (lv_at hl 0 rfl) ?_
                    refine lv_iload_n hx hb dX12_sign_98 rfl (lv_at hl 2 rfl) ?_
                    refine lv_iconst (v := 0) hx hb dX12_sign_99 (by decide) ?_
                    refine lv_lconst (v := 0) hx hb dX12_sign_100 (by decide) ?_
                    refine z_callv (wc := wj [(mw Y ad_m (sA 10 (fun _ => nI tk) g_m) w_m)]) (wr := wj []) (va_runV (As := [.int 8, .int (nI ii), .int 0, .long (0 : Int64)]) (rest := []) ⟨hx, hb, hml, hown, hts⟩ (m_X12_token l D Y ad_m (sA 10 (fun _ => nI tk) g_m) w_m tk 8 (nI ii) 0 (0 : Int64) s.heap.size (show tk ≤ 401 from by first | assumption | omega | grind)) (cwV 4 hts (lw_V q1887 q1889 qs60 q133 q1890) rfl rfl rfl (by decide +kernel) ⟨Nat.le_of_ble_eq_true rfl, Nat.le_of_ble_eq_true rfl⟩) (zPreV hK hW hR (wj_split3 (B := [(mw Y ad_m (sA 10 (fun _ => nI tk) g_m) w_m)]) (R := []) (C := [(mw Y ad_m (sA 10 (fun _ => nI tk) g_m) w_m)]) (O := []) (X := []) (List.Perm.refl _)) (va_recv hK.1 hW.1 (ci := 11) (q0 := 0) rfl rfl)) rfl rfl hl.1 rfl (lv_room (Nat.le_of_ble_eq_true rfl)) dX12_sign_101 ⟨Nat.le_refl _, Nat.le_refl _⟩) hW hA (wj_split (B := [(mw Y ad_m (sA 10 (fun _ => nI tk) g_m) w_m)]) (C := [(mw Y ad_m (sA 10 (fun _ => nI tk) g_m) w_m)]) (R := []) (List.Perm.refl _)) (fun  u H locs hp_56 hW => ?_)
                    obtain ⟨utKind_57, utPlace_58, utValue_59, utName_60, utokens_61⟩ := u
                    have hp_56 : utKind_57 = upd (g_m 5) tk 8 ∧ utPlace_58 = upd (g_m 6) tk (nI ii) ∧ utValue_59 = upd (g_m 7) tk 0 ∧ utName_60 = vp_updL (w_m 8) tk (0 : Int64) ∧ utokens_61 = tk + 1 := hp_56
                    have hW : zW D A s.heap H locs (wj [(mw Y ad_m (sA 10 (fun _ => nI utokens_61) (sA 7 utValue_59 (sA 6 utPlace_58 (sA 5 utKind_57 g_m)))) (sA 8 utName_60 w_m))]) := hW.join
                    obtain ⟨et1, et2, et3, et4, et5⟩ := hp_56
                    refine lv_iconst (v := 1) hx hb dX12_sign_104 (by decide) ?_
                    refine z_ireti ((utKind_57, utPlace_58, utValue_59, utName_60, utokens_61) : (Nat → Int32) × (Nat → Int32) × (Nat → Int32) × (Nat → Int64) × (Nat)) hx hb hr hlocks rfl hW rfl dX12_sign_105 ?_
                    show 1 = 1 ∧ utKind_57 = upd (g_m 5) tk (nI (signK cc)) ∧ utPlace_58 = upd (g_m 6) tk (nI ii) ∧ utValue_59 = upd (g_m 7) tk 0 ∧ utName_60 = vp_updL (w_m 8) tk 0 ∧ utokens_61 = tk + 1
                    refine ⟨rfl, ?_, et2, et3, et4, et5⟩
                    rw [et1]
                    have hs : signK cc = 8 := by rw [c_5]; rfl
                    rw [hs]; rfl
                  · exact absurd (c_5.symm.trans c_54) (by decide)
                · exact absurd (c_5.symm.trans c_53) (by decide)
              · exact absurd (c_5.symm.trans c_52) (by decide)
            · exact absurd (c_5.symm.trans c_51) (by decide)
        · refine lv_bipush (v := 7) hx hb dX12_sign_37 (by decide) ?_
          refine lv_goto (tgt := 43) hx hb dX12_sign_39 (by decide) ?_
          refine lv_istore (lv' := [(4, .int 7), (0, .ref (ad_m 0)), (1, .int (nI ii)), (2, .int cc), (3, .int dd)]) hx hb dX12_sign_43 hl (by decide) rfl (fun ls hl => ?_)
          refine lv_iload_n hx hb dX12_sign_45 rfl (lv_at hl 3 rfl) ?_
          refine lv_bipush (v := 43) hx hb dX12_sign_46 (by decide) ?_
          refine lv_icmp_ne (tgt := 55) hx hb dX12_sign_48 (by decide) (fun c_62 => ?_) (fun c_62 => ?_)
          · refine lv_iload_n hx hb dX12_sign_55 rfl (lv_at hl 3 rfl) ?_
            refine lv_bipush (v := 45) hx hb dX12_sign_56 (by decide) ?_
            refine lv_icmp_ne (tgt := 65) hx hb dX12_sign_58 (by decide) (fun c_63 => ?_) (fun c_63 => ?_)
            · refine lv_iload_n hx hb dX12_sign_65 rfl (lv_at hl 3 rfl) ?_
              refine lv_bipush (v := 42) hx hb dX12_sign_66 (by decide) ?_
              refine lv_icmp_ne (tgt := 75) hx hb dX12_sign_68 (by decide) (fun c_64 => ?_) (fun c_64 => ?_)
              · refine lv_iload_n hx hb dX12_sign_75 rfl (lv_at hl 3 rfl) ?_
                refine lv_bipush (v := 47) hx hb dX12_sign_76 (by decide) ?_
                refine lv_icmp_ne (tgt := 85) hx hb dX12_sign_78 (by decide) (fun c_65 => ?_) (fun c_65 => ?_)
                · refine lv_iload_n hx hb dX12_sign_85 rfl (lv_at hl 3 rfl) ?_
                  refine lv_bipush (v := 60) hx hb dX12_sign_86 (by decide) ?_
                  refine lv_icmp_ne (tgt := 95) hx hb dX12_sign_88 (by decide) (fun c_66 => ?_) (fun c_66 => ?_)
                  · refine lv_aload_n hx hb dX12_sign_95 rfl (lv_at hl 1 rfl) ?_
                    refine lv_iload hx hb dX12_sign_96 (lv_at hl 0 rfl) ?_
                    refine lv_iload_n hx hb dX12_sign_98 rfl (lv_at hl 2 rfl) ?_
                    refine lv_iconst (v := 0) hx hb dX12_sign_99 (by decide) ?_
                    refine lv_lconst (v := 0) hx hb dX12_sign_100 (by decide) ?_
                    refine z_callv (wc := wj [(mw Y ad_m (sA 10 (fun _ => nI tk) g_m) w_m)]) (wr := wj []) (va_runV (As := [.int 7, .int (nI ii), .int 0, .long (0 : Int64)]) (rest := []) ⟨hx, hb, hml, hown, hts⟩ (m_X12_token l D Y ad_m (sA 10 (fun _ => nI tk) g_m) w_m tk 7 (nI ii) 0 (0 : Int64) s.heap.size (show tk ≤ 401 from by first | assumption | omega | grind)) (cwV 4 hts (lw_V q1887 q1889 qs60 q133 q1890) rfl rfl rfl (by decide +kernel) ⟨Nat.le_of_ble_eq_true rfl, Nat.le_of_ble_eq_true rfl⟩) (zPreV hK hW hR (wj_split3 (B := [(mw Y ad_m (sA 10 (fun _ => nI tk) g_m) w_m)]) (R := []) (C := [(mw Y ad_m (sA 10 (fun _ => nI tk) g_m) w_m)]) (O := []) (X := []) (List.Perm.refl _)) (va_recv hK.1 hW.1 (ci := 11) (q0 := 0) rfl rfl)) rfl rfl hl.1 rfl (lv_room (Nat.le_of_ble_eq_true rfl)) dX12_sign_101 ⟨Nat.le_refl _, Nat.le_refl _⟩) hW hA (wj_split (B := [(mw Y ad_m (sA 10 (fun _ => nI tk) g_m) w_m)]) (C := [(mw Y ad_m (sA 10 (fun _ => nI tk) g_m) w_m)]) (R := []) (List.Perm.refl _)) (fun  u H locs hp_68 hW => ?_)
                    obtain ⟨utKind_69, utPlace_70, utValue_71, utName_72, utokens_73⟩ := u
                    have hp_68 : utKind_69 = upd (g_m 5) tk 7 ∧ utPlace_70 = upd (g_m 6) tk (nI ii) ∧ utValue_71 = upd (g_m 7) tk 0 ∧ utName_72 = vp_updL (w_m 8) tk (0 : Int64) ∧ utokens_73 = tk + 1 := hp_68
                    have hW : zW D A s.heap H locs (wj [(mw Y ad_m (sA 10 (fun _ => nI utokens_73) (sA 7 utValue_71 (sA 6 utPlace_70 (sA 5 utKind_69 g_m)))) (sA 8 utName_72 w_m))]) := hW.join
                    obtain ⟨et1, et2, et3, et4, et5⟩ := hp_68
                    refine lv_iconst (v := 1) hx hb dX12_sign_104 (by decide) ?_
                    refine z_ireti ((utKind_69, utPlace_70, utValue_71, utName_72, utokens_73) : (Nat → Int32) × (Nat → Int32) × (Nat → Int32) × (Nat → Int64) × (Nat)) hx hb hr hlocks rfl hW rfl dX12_sign_105 ?_
                    show 1 = 1 ∧ utKind_69 = upd (g_m 5) tk (nI (signK cc)) ∧ utPlace_70 = upd (g_m 6) tk (nI ii) ∧ utValue_71 = upd (g_m 7) tk 0 ∧ utName_72 = vp_updL (w_m 8) tk 0 ∧ utokens_73 = tk + 1
                    refine ⟨rfl, ?_, et2, et3, et4, et5⟩
                    rw [et1]
                    have hs : signK cc = 7 := by rw [c_4]; rfl
                    rw [hs]; rfl
                  · exact absurd (c_4.symm.trans c_66) (by decide)
                · exact absurd (c_4.symm.trans c_65) (by decide)
              · exact absurd (c_4.symm.trans c_64) (by decide)
            · exact absurd (c_4.symm.trans c_63) (by decide)
          · exact absurd (c_4.symm.trans c_62) (by decide)
      · refine lv_bipush (v := 6) hx hb dX12_sign_26 (by decide) ?_
        refine lv_goto (tgt := 43) hx hb dX12_sign_28 (by decide) ?_
        refine lv_istore (lv' := [(4, .int 6), (0, .ref (ad_m 0)), (1, .int (nI ii)), (2, .int cc), (3, .int dd)]) hx hb dX12_sign_43 hl (by decide) rfl (fun ls hl => ?_)
        refine lv_iload_n hx hb dX12_sign_45 rfl (lv_at hl 3 rfl) ?_
        refine lv_bipush (v := 43) hx hb dX12_sign_46 (by decide) ?_
        refine lv_icmp_ne (tgt := 55) hx hb dX12_sign_48 (by decide) (fun c_74 => ?_) (fun c_74 => ?_)
        · refine lv_iload_n hx hb dX12_sign_55 rfl (lv_at hl 3 rfl) ?_
          refine lv_bipush (v := 45) hx hb dX12_sign_56 (by decide) ?_
          refine lv_icmp_ne (tgt := 65) hx hb dX12_sign_58 (by decide) (fun c_75 => ?_) (fun c_75 => ?_)
          · refine lv_iload_n hx hb dX12_sign_65 rfl (lv_at hl 3 rfl) ?_
            refine lv_bipush (v := 42) hx hb dX12_sign_66 (by decide) ?_
            refine lv_icmp_ne (tgt := 75) hx hb dX12_sign_68 (by decide) (fun c_76 => ?_) (fun c_76 => ?_)
            · refine lv_iload_n hx hb dX12_sign_75 rfl (lv_at hl 3 rfl) ?_
              refine lv_bipush (v := 47) hx hb dX12_sign_76 (by decide) ?_
              refine lv_icmp_ne (tgt := 85) hx hb dX12_sign_78 (by decide) (fun c_77 => ?_) (fun c_77 => ?_)
              · refine lv_iload_n hx hb dX12_sign_85 rfl (lv_at hl 3 rfl) ?_
                refine lv_bipush (v := 60) hx hb dX12_sign_86 (by decide) ?_
                refine lv_icmp_ne (tgt := 95) hx hb dX12_sign_88 (by decide) (fun c_78 => ?_) (fun c_78 => ?_)
                · refine lv_aload_n hx hb dX12_sign_95 rfl (lv_at hl 1 rfl) ?_
                  refine lv_iload hx hb dX12_sign_96 (lv_at hl 0 rfl) ?_
                  refine lv_iload_n hx hb dX12_sign_98 rfl (lv_at hl 2 rfl) ?_
                  refine lv_iconst (v := 0) hx hb dX12_sign_99 (by decide) ?_
                  refine lv_lconst (v := 0) hx hb dX12_sign_100 (by decide) ?_
                  refine z_callv (wc := wj [(mw Y ad_m (sA 10 (fun _ => nI tk) g_m) w_m)]) (wr := wj []) (va_runV (As := [.int 6, .int (nI ii), .int 0, .long (0 : Int64)]) (rest := []) ⟨hx, hb, hml, hown, hts⟩ (m_X12_token l D Y ad_m (sA 10 (fun _ => nI tk) g_m) w_m tk 6 (nI ii) 0 (0 : Int64) s.heap.size (show tk ≤ 401 from by first | assumption | omega | grind)) (cwV 4 hts (lw_V q1887 q1889 qs60 q133 q1890) rfl rfl rfl (by decide +kernel) ⟨Nat.le_of_ble_eq_true rfl, Nat.le_of_ble_eq_true rfl⟩) (zPreV hK hW hR (wj_split3 (B := [(mw Y ad_m (sA 10 (fun _ => nI tk) g_m) w_m)]) (R := []) (C := [(mw Y ad_m (sA 10 (fun _ => nI tk) g_m) w_m)]) (O := []) (X := []) (List.Perm.refl _)) (va_recv hK.1 hW.1 (ci := 11) (q0 := 0) rfl rfl)) rfl rfl hl.1 rfl (lv_room (Nat.le_of_ble_eq_true rfl)) dX12_sign_101 ⟨Nat.le_refl _, Nat.le_refl _⟩) hW hA (wj_split (B := [(mw Y ad_m (sA 10 (fun _ => nI tk) g_m) w_m)]) (C := [(mw Y ad_m (sA 10 (fun _ => nI tk) g_m) w_m)]) (R := []) (List.Perm.refl _)) (fun  u H locs hp_80 hW => ?_)
                  obtain ⟨utKind_81, utPlace_82, utValue_83, utName_84, utokens_85⟩ := u
                  have hp_80 : utKind_81 = upd (g_m 5) tk 6 ∧ utPlace_82 = upd (g_m 6) tk (nI ii) ∧ utValue_83 = upd (g_m 7) tk 0 ∧ utName_84 = vp_updL (w_m 8) tk (0 : Int64) ∧ utokens_85 = tk + 1 := hp_80
                  have hW : zW D A s.heap H locs (wj [(mw Y ad_m (sA 10 (fun _ => nI utokens_85) (sA 7 utValue_83 (sA 6 utPlace_82 (sA 5 utKind_81 g_m)))) (sA 8 utName_84 w_m))]) := hW.join
                  obtain ⟨et1, et2, et3, et4, et5⟩ := hp_80
                  refine lv_iconst (v := 1) hx hb dX12_sign_104 (by decide) ?_
                  refine z_ireti ((utKind_81, utPlace_82, utValue_83, utName_84, utokens_85) : (Nat → Int32) × (Nat → Int32) × (Nat → Int32) × (Nat → Int64) × (Nat)) hx hb hr hlocks rfl hW rfl dX12_sign_105 ?_
                  show 1 = 1 ∧ utKind_81 = upd (g_m 5) tk (nI (signK cc)) ∧ utPlace_82 = upd (g_m 6) tk (nI ii) ∧ utValue_83 = upd (g_m 7) tk 0 ∧ utName_84 = vp_updL (w_m 8) tk 0 ∧ utokens_85 = tk + 1
                  refine ⟨rfl, ?_, et2, et3, et4, et5⟩
                  rw [et1]
                  have hs : signK cc = 6 := by rw [c_3]; rfl
                  rw [hs]; rfl
                · exact absurd (c_3.symm.trans c_78) (by decide)
              · exact absurd (c_3.symm.trans c_77) (by decide)
            · exact absurd (c_3.symm.trans c_76) (by decide)
          · exact absurd (c_3.symm.trans c_75) (by decide)
        · exact absurd (c_3.symm.trans c_74) (by decide)
    · refine lv_iconst (v := 5) hx hb dX12_sign_16 (by decide) ?_
      refine lv_goto (tgt := 43) hx hb dX12_sign_17 (by decide) ?_
      refine lv_istore (lv' := [(4, .int 5), (0, .ref (ad_m 0)), (1, .int (nI ii)), (2, .int cc), (3, .int dd)]) hx hb dX12_sign_43 hl (by decide) rfl (fun ls hl => ?_)
      refine lv_iload_n hx hb dX12_sign_45 rfl (lv_at hl 3 rfl) ?_
      refine lv_bipush (v := 43) hx hb dX12_sign_46 (by decide) ?_
      refine lv_icmp_ne (tgt := 55) hx hb dX12_sign_48 (by decide) (fun c_86 => ?_) (fun c_86 => ?_)
      · refine lv_iload_n hx hb dX12_sign_55 rfl (lv_at hl 3 rfl) ?_
        refine lv_bipush (v := 45) hx hb dX12_sign_56 (by decide) ?_
        refine lv_icmp_ne (tgt := 65) hx hb dX12_sign_58 (by decide) (fun c_87 => ?_) (fun c_87 => ?_)
        · refine lv_iload_n hx hb dX12_sign_65 rfl (lv_at hl 3 rfl) ?_
          refine lv_bipush (v := 42) hx hb dX12_sign_66 (by decide) ?_
          refine lv_icmp_ne (tgt := 75) hx hb dX12_sign_68 (by decide) (fun c_88 => ?_) (fun c_88 => ?_)
          · refine lv_iload_n hx hb dX12_sign_75 rfl (lv_at hl 3 rfl) ?_
            refine lv_bipush (v := 47) hx hb dX12_sign_76 (by decide) ?_
            refine lv_icmp_ne (tgt := 85) hx hb dX12_sign_78 (by decide) (fun c_89 => ?_) (fun c_89 => ?_)
            · refine lv_iload_n hx hb dX12_sign_85 rfl (lv_at hl 3 rfl) ?_
              refine lv_bipush (v := 60) hx hb dX12_sign_86 (by decide) ?_
              refine lv_icmp_ne (tgt := 95) hx hb dX12_sign_88 (by decide) (fun c_90 => ?_) (fun c_90 => ?_)
              · refine lv_aload_n hx hb dX12_sign_95 rfl (lv_at hl 1 rfl) ?_
                refine lv_iload hx hb dX12_sign_96 (lv_at hl 0 rfl) ?_
                refine lv_iload_n hx hb dX12_sign_98 rfl (lv_at hl 2 rfl) ?_
                refine lv_iconst (v := 0) hx hb dX12_sign_99 (by decide) ?_
                refine lv_lconst (v := 0) hx hb dX12_sign_100 (by decide) ?_
                refine z_callv (wc := wj [(mw Y ad_m (sA 10 (fun _ => nI tk) g_m) w_m)]) (wr := wj []) (va_runV (As := [.int 5, .int (nI ii), .int 0, .long (0 : Int64)]) (rest := []) ⟨hx, hb, hml, hown, hts⟩ (m_X12_token l D Y ad_m (sA 10 (fun _ => nI tk) g_m) w_m tk 5 (nI ii) 0 (0 : Int64) s.heap.size (show tk ≤ 401 from by first | assumption | omega | grind)) (cwV 4 hts (lw_V q1887 q1889 qs60 q133 q1890) rfl rfl rfl (by decide +kernel) ⟨Nat.le_of_ble_eq_true rfl, Nat.le_of_ble_eq_true rfl⟩) (zPreV hK hW hR (wj_split3 (B := [(mw Y ad_m (sA 10 (fun _ => nI tk) g_m) w_m)]) (R := []) (C := [(mw Y ad_m (sA 10 (fun _ => nI tk) g_m) w_m)]) (O := []) (X := []) (List.Perm.refl _)) (va_recv hK.1 hW.1 (ci := 11) (q0 := 0) rfl rfl)) rfl rfl hl.1 rfl (lv_room (Nat.le_of_ble_eq_true rfl)) dX12_sign_101 ⟨Nat.le_refl _, Nat.le_refl _⟩) hW hA (wj_split (B := [(mw Y ad_m (sA 10 (fun _ => nI tk) g_m) w_m)]) (C := [(mw Y ad_m (sA 10 (fun _ => nI tk) g_m) w_m)]) (R := []) (List.Perm.refl _)) (fun  u H locs hp_92 hW => ?_)
                obtain ⟨utKind_93, utPlace_94, utValue_95, utName_96, utokens_97⟩ := u
                have hp_92 : utKind_93 = upd (g_m 5) tk 5 ∧ utPlace_94 = upd (g_m 6) tk (nI ii) ∧ utValue_95 = upd (g_m 7) tk 0 ∧ utName_96 = vp_updL (w_m 8) tk (0 : Int64) ∧ utokens_97 = tk + 1 := hp_92
                have hW : zW D A s.heap H locs (wj [(mw Y ad_m (sA 10 (fun _ => nI utokens_97) (sA 7 utValue_95 (sA 6 utPlace_94 (sA 5 utKind_93 g_m)))) (sA 8 utName_96 w_m))]) := hW.join
                obtain ⟨et1, et2, et3, et4, et5⟩ := hp_92
                refine lv_iconst (v := 1) hx hb dX12_sign_104 (by decide) ?_
                refine z_ireti ((utKind_93, utPlace_94, utValue_95, utName_96, utokens_97) : (Nat → Int32) × (Nat → Int32) × (Nat → Int32) × (Nat → Int64) × (Nat)) hx hb hr hlocks rfl hW rfl dX12_sign_105 ?_
                show 1 = 1 ∧ utKind_93 = upd (g_m 5) tk (nI (signK cc)) ∧ utPlace_94 = upd (g_m 6) tk (nI ii) ∧ utValue_95 = upd (g_m 7) tk 0 ∧ utName_96 = vp_updL (w_m 8) tk 0 ∧ utokens_97 = tk + 1
                refine ⟨rfl, ?_, et2, et3, et4, et5⟩
                rw [et1]
                have hs : signK cc = 5 := by rw [c_2]; rfl
                rw [hs]; rfl
              · exact absurd (c_2.symm.trans c_90) (by decide)
            · exact absurd (c_2.symm.trans c_89) (by decide)
          · exact absurd (c_2.symm.trans c_88) (by decide)
        · exact absurd (c_2.symm.trans c_87) (by decide)
      · exact absurd (c_2.symm.trans c_86) (by decide)
  · refine lv_iconst (v := 4) hx hb dX12_sign_6 (by decide) ?_
    refine lv_goto (tgt := 43) hx hb dX12_sign_7 (by decide) ?_
    refine lv_istore (lv' := [(4, .int 4), (0, .ref (ad_m 0)), (1, .int (nI ii)), (2, .int cc), (3, .int dd)]) hx hb dX12_sign_43 hl (by decide) rfl (fun ls hl => ?_)
    refine lv_iload_n hx hb dX12_sign_45 rfl (lv_at hl 3 rfl) ?_
    refine lv_bipush (v := 43) hx hb dX12_sign_46 (by decide) ?_
    refine lv_icmp_ne (tgt := 55) hx hb dX12_sign_48 (by decide) (fun c_98 => ?_) (fun c_98 => ?_)
    · refine lv_iload_n hx hb dX12_sign_55 rfl (lv_at hl 3 rfl) ?_
      refine lv_bipush (v := 45) hx hb dX12_sign_56 (by decide) ?_
      refine lv_icmp_ne (tgt := 65) hx hb dX12_sign_58 (by decide) (fun c_99 => ?_) (fun c_99 => ?_)
      · refine lv_iload_n hx hb dX12_sign_65 rfl (lv_at hl 3 rfl) ?_
        refine lv_bipush (v := 42) hx hb dX12_sign_66 (by decide) ?_
        refine lv_icmp_ne (tgt := 75) hx hb dX12_sign_68 (by decide) (fun c_100 => ?_) (fun c_100 => ?_)
        · refine lv_iload_n hx hb dX12_sign_75 rfl (lv_at hl 3 rfl) ?_
          refine lv_bipush (v := 47) hx hb dX12_sign_76 (by decide) ?_
          refine lv_icmp_ne (tgt := 85) hx hb dX12_sign_78 (by decide) (fun c_101 => ?_) (fun c_101 => ?_)
          · refine lv_iload_n hx hb dX12_sign_85 rfl (lv_at hl 3 rfl) ?_
            refine lv_bipush (v := 60) hx hb dX12_sign_86 (by decide) ?_
            refine lv_icmp_ne (tgt := 95) hx hb dX12_sign_88 (by decide) (fun c_102 => ?_) (fun c_102 => ?_)
            · refine lv_aload_n hx hb dX12_sign_95 rfl (lv_at hl 1 rfl) ?_
              refine lv_iload hx hb dX12_sign_96 (lv_at hl 0 rfl) ?_
              refine lv_iload_n hx hb dX12_sign_98 rfl (lv_at hl 2 rfl) ?_
              refine lv_iconst (v := 0) hx hb dX12_sign_99 (by decide) ?_
              refine lv_lconst (v := 0) hx hb dX12_sign_100 (by decide) ?_
              refine z_callv (wc := wj [(mw Y ad_m (sA 10 (fun _ => nI tk) g_m) w_m)]) (wr := wj []) (va_runV (As := [.int 4, .int (nI ii), .int 0, .long (0 : Int64)]) (rest := []) ⟨hx, hb, hml, hown, hts⟩ (m_X12_token l D Y ad_m (sA 10 (fun _ => nI tk) g_m) w_m tk 4 (nI ii) 0 (0 : Int64) s.heap.size (show tk ≤ 401 from by first | assumption | omega | grind)) (cwV 4 hts (lw_V q1887 q1889 qs60 q133 q1890) rfl rfl rfl (by decide +kernel) ⟨Nat.le_of_ble_eq_true rfl, Nat.le_of_ble_eq_true rfl⟩) (zPreV hK hW hR (wj_split3 (B := [(mw Y ad_m (sA 10 (fun _ => nI tk) g_m) w_m)]) (R := []) (C := [(mw Y ad_m (sA 10 (fun _ => nI tk) g_m) w_m)]) (O := []) (X := []) (List.Perm.refl _)) (va_recv hK.1 hW.1 (ci := 11) (q0 := 0) rfl rfl)) rfl rfl hl.1 rfl (lv_room (Nat.le_of_ble_eq_true rfl)) dX12_sign_101 ⟨Nat.le_refl _, Nat.le_refl _⟩) hW hA (wj_split (B := [(mw Y ad_m (sA 10 (fun _ => nI tk) g_m) w_m)]) (C := [(mw Y ad_m (sA 10 (fun _ => nI tk) g_m) w_m)]) (R := []) (List.Perm.refl _)) (fun  u H locs hp_104 hW => ?_)
              obtain ⟨utKind_105, utPlace_106, utValue_107, utName_108, utokens_109⟩ := u
              have hp_104 : utKind_105 = upd (g_m 5) tk 4 ∧ utPlace_106 = upd (g_m 6) tk (nI ii) ∧ utValue_107 = upd (g_m 7) tk 0 ∧ utName_108 = vp_updL (w_m 8) tk (0 : Int64) ∧ utokens_109 = tk + 1 := hp_104
              have hW : zW D A s.heap H locs (wj [(mw Y ad_m (sA 10 (fun _ => nI utokens_109) (sA 7 utValue_107 (sA 6 utPlace_106 (sA 5 utKind_105 g_m)))) (sA 8 utName_108 w_m))]) := hW.join
              obtain ⟨et1, et2, et3, et4, et5⟩ := hp_104
              refine lv_iconst (v := 1) hx hb dX12_sign_104 (by decide) ?_
              refine z_ireti ((utKind_105, utPlace_106, utValue_107, utName_108, utokens_109) : (Nat → Int32) × (Nat → Int32) × (Nat → Int32) × (Nat → Int64) × (Nat)) hx hb hr hlocks rfl hW rfl dX12_sign_105 ?_
              show 1 = 1 ∧ utKind_105 = upd (g_m 5) tk (nI (signK cc)) ∧ utPlace_106 = upd (g_m 6) tk (nI ii) ∧ utValue_107 = upd (g_m 7) tk 0 ∧ utName_108 = vp_updL (w_m 8) tk 0 ∧ utokens_109 = tk + 1
              refine ⟨rfl, ?_, et2, et3, et4, et5⟩
              rw [et1]
              have hs : signK cc = 4 := by rw [c_1]; rfl
              rw [hs]; rfl
            · exact absurd (c_1.symm.trans c_102) (by decide)
          · exact absurd (c_1.symm.trans c_101) (by decide)
        · exact absurd (c_1.symm.trans c_100) (by decide)
      · exact absurd (c_1.symm.trans c_99) (by decide)
    · exact absurd (c_1.symm.trans c_98) (by decide)
set_option maxHeartbeats 4000000 in
set_option maxRecDepth 100000 in
theorem m_X12_cut (l : Launch) (D : va_G) (Y : Nat → ClassId) (ad_m : Nat → Nat) (g_m : Nat → Nat → Int32) (w_m : Nat → Nat → Int64) (z : Nat) (tk0 : Nat) (sz : Nat) (hz : z ≤ 2000) (hTP : ∀ j, j < z → byteIn ((g_m 3) j)) (hKEY : ∀ k, k < 20 → (w_m 9) k = Int64.ofNat (nvL (wchs k))) : Met l yX12_cut (ws_ yX12_cut cX12_cut 8 none) ({ frames := 3, cells := 0, slots := 0, locals := 61 }) (zPc D Y [.ref (ad_m 0)] sz (wj []) (wj [(mw Y ad_m (sA 10 (fun _ => nI tk0) (sA 4 (fun _ => nI z) g_m)) w_m)])) (va_Qv (fun (u : (Nat → Int32) × (Nat → Int32) × (Nat → Int32) × (Nat → Int64) × (Nat)) => ∃ D, ROWS (tbAt (g_m 3) z) D u.1 u.2.1 u.2.2.1 u.2.2.2.1 ∧ u.2.2.2.2 = D.length ∧ (∃ R, LX (tbAt (g_m 3) z) z 0 = D ++ R) ∧ (LX (tbAt (g_m 3) z) z 0 = D ∨ 400 < D.length)) (zB D (fun (u : (Nat → Int32) × (Nat → Int32) × (Nat → Int32) × (Nat → Int64) × (Nat)) => (wj [(mw Y ad_m (sA 10 (fun _ => nI u.2.2.2.2) (sA 7 u.2.2.1 (sA 6 u.2.1 (sA 5 u.1 (sA 4 (fun _ => nI z) g_m))))) (sA 8 u.2.2.2.1 w_m))])) (va_A (wj [(mw Y ad_m (sA 10 (fun _ => nI tk0) (sA 4 (fun _ => nI z) g_m)) w_m)]) sz)) (va_A (wj [(mw Y ad_m (sA 10 (fun _ => nI tk0) (sA 4 (fun _ => nI z) g_m)) w_m)]) sz)) 0 0 (va_A (wj [(mw Y ad_m (sA 10 (fun _ => nI tk0) (sA 4 (fun _ => nI z) g_m)) w_m)]) sz) := by
  refine Met.ofW (cc := cX12_cut) (maxL := 8) (ret := none) (by decide) rfl ?_
  intro p e s m args below meth c s₁ B hml hv
  obtain ⟨rfl, hsz, hW, hR, hK, hA⟩ := zEntry hv
  subst hsz
  have hx := B.exec
  have hb := B.bytes
  have hr := B.returns
  have hlocks := B.notSynchronized
  have hts : ∀ w ∈ lw_all, w.before _ s = true := fun w h => atoms_spec (ws := (ws_ yX12_cut cX12_cut 8 none)) B.pre w (List.mem_cons_of_mem _ h)
  have hown : s.vm.findClass RX12 = some m.cls := findClass_of_methodNamed B.named
  generalize hAe : va_A (wj [(mw Y ad_m (sA 10 (fun _ => nI tk0) (sA 4 (fun _ => nI z) g_m)) w_m)]) s.heap.size = A at hW hR hA ⊢
  have hl := lv_entry ([.ref (ad_m 0)]) (n := 8) (Nat.le_of_ble_eq_true rfl)
  rw [lg_entry_eq]
  generalize (lg_sl ([.ref (ad_m 0)]) ++ List.replicate (8 - (lg_sl ([.ref (ad_m 0)])).length) Slot.unset).toArray = ls at hl ⊢
  have hl : lv_has ls 8 [(0, .ref (ad_m 0))] := hl
  refine lv_aload_n hx hb dX12_cut_0 rfl (lv_at hl 0 rfl) ?_
  refine lv_iconst (v := 0) hx hb dX12_cut_1 (by decide) ?_
  refine z_put (v := .int 0) (C := RX12) (T := TX12) (N := 75) (ci := 11) (wn := (wj [(mw Y ad_m (sA 10 (fun _ => 0) (sA 4 (fun _ => nI z) g_m)) w_m)])) hx hb hts in_X12 tyX12 tyX12_ok nmX12 hown hK.1 hW 0 rfl rfl 10 (by decide) (hts _ q1646) (fun _ h9 => h9) rfl rfl rfl (Nat.le_of_ble_eq_true rfl) dX12_cut_2 rfl (fun H locs hW => ?_)
  refine lv_iconst (v := 0) hx hb dX12_cut_5 (by decide) ?_
  refine lv_istore_n (lv' := [(1, .int 0), (0, .ref (ad_m 0))]) hx hb dX12_cut_6 rfl hl (by decide) rfl (fun ls hl => ?_)
  have loop_7 : ∀ (n : Nat) (i : Nat) (x_tKind_7 : Nat → Int32) (x_tPlace_7 : Nat → Int32) (x_tValue_7 : Nat → Int32) (x_tName_7 : Nat → Int64) (tk : Nat) (Dl : List ROW), z - i < n → (i ≤ z) → (tk = Dl.length ∧ tk ≤ 401) → (LX (tbAt (g_m 3) z) z 0 = Dl ++ LX (tbAt (g_m 3) z) z i) → (ROWS (tbAt (g_m 3) z) Dl x_tKind_7 x_tPlace_7 x_tValue_7 x_tName_7) → ∀ (H : Heap) (locs : List Loc), zW D A s.heap H locs (wj [(mw Y ad_m (sA 10 (fun _ => nI tk) (sA 7 x_tValue_7 (sA 6 x_tPlace_7 (sA 5 x_tKind_7 (sA 4 (fun _ => nI z) g_m))))) (sA 8 x_tName_7 w_m))]) → ∀ (ls : Array Slot), lv_has ls 8 [(1, .int (nI i)), (0, .ref (ad_m 0))] → W p l e (headSpec (ws_ yX12_cut cX12_cut 8 none) ({ frames := 3, cells := 0, slots := 0, locals := 61 })).room s m ([.ref (ad_m 0)] : List Value).toArray below meth c H locs 0 0 (MQ below (va_Qv (fun (u : (Nat → Int32) × (Nat → Int32) × (Nat → Int32) × (Nat → Int64) × (Nat)) => ∃ D, ROWS (tbAt (g_m 3) z) D u.1 u.2.1 u.2.2.1 u.2.2.2.1 ∧ u.2.2.2.2 = D.length ∧ (∃ R, LX (tbAt (g_m 3) z) z 0 = D ++ R) ∧ (LX (tbAt (g_m 3) z) z 0 = D ∨ 400 < D.length)) (zB D (fun (u : (Nat → Int32) × (Nat → Int32) × (Nat → Int32) × (Nat → Int64) × (Nat)) => (wj [(mw Y ad_m (sA 10 (fun _ => nI u.2.2.2.2) (sA 7 u.2.2.1 (sA 6 u.2.1 (sA 5 u.1 (sA 4 (fun _ => nI z) g_m))))) (sA 8 u.2.2.2.1 w_m))])) A) A) ([.ref (ad_m 0)] : List Value).toArray s 0 0 A) (F0 m 7 ls []) := by
    intro n
    induction n with
    | zero =>
      intro i x_tKind_7 x_tPlace_7 x_tValue_7 x_tName_7 tk Dl hmz
      exact absurd hmz (Nat.not_lt_zero _)
    | succ n ih =>
      intro i x_tKind_7 x_tPlace_7 x_tValue_7 x_tName_7 tk Dl hm_7 hiz hDl hLX hRW H locs hW ls hl
      have ih_7 := ih
      clear ih
      refine lv_aload_n hx hb dX12_cut_7 rfl (lv_at hl 1 rfl) ?_
      refine va_get (v := .int (nI tk)) (C := RX12) (T := TX12) (N := 75) (ci := 11) hx hb hts in_X12 hown hK.1 hW.1 0 rfl rfl 10 (by decide) (hts _ q1646) (fun _ h9 => h9) rfl dX12_cut_8 ?_
      refine lv_sipush (v := 400) hx hb dX12_cut_11 (by decide) ?_
      refine lv_icmp_gt (tgt := 294) hx hb dX12_cut_14 (by decide) (fun c_1 => ?_) (fun c_1 => ?_)
      · have c_1 : 400 < tk := (nI_ltI (a := 400) (b := tk) (by as_aux_lemma => omega) (by as_aux_lemma => omega)).mp c_1
        refine z_vret ((x_tKind_7, x_tPlace_7, x_tValue_7, x_tName_7, tk) : (Nat → Int32) × (Nat → Int32) × (Nat → Int32) × (Nat → Int64) × (Nat)) hx hb hr hlocks hW rfl dX12_cut_294 ?_
        show ∃ D, ROWS (tbAt (g_m 3) z) D x_tKind_7 x_tPlace_7 x_tValue_7 x_tName_7 ∧ tk = D.length ∧ (∃ R, LX (tbAt (g_m 3) z) z 0 = D ++ R) ∧ (LX (tbAt (g_m 3) z) z 0 = D ∨ 400 < D.length)
        exact ⟨Dl, hRW, hDl.1, ⟨_, hLX⟩, Or.inr (by as_aux_lemma => omega)⟩
      · have c_1 : ¬ (400 < tk) := fun hz_ => c_1 ((nI_ltI (a := 400) (b := tk) (by as_aux_lemma => omega) (by as_aux_lemma => omega)).mpr hz_)
        refine lv_aload_n hx hb dX12_cut_17 rfl (lv_at hl 1 rfl) ?_
        refine lv_iload_n hx hb dX12_cut_18 rfl (lv_at hl 0 rfl) ?_
        refine z_calli (wc := wj [(mw Y ad_m (sA 10 (fun _ => nI tk) (sA 7 x_tValue_7 (sA 6 x_tPlace_7 (sA 5 x_tKind_7 (sA 4 (fun _ => nI z) g_m))))) (sA 8 x_tName_7 w_m))]) (wr := wj []) (va_runV (As := [.int (nI i)]) (rest := []) ⟨hx, hb, hml, hown, hts⟩ (m_X12_byteAt l D Y ad_m (sA 10 (fun _ => nI tk) (sA 7 x_tValue_7 (sA 6 x_tPlace_7 (sA 5 x_tKind_7 (sA 4 (fun _ => nI z) g_m))))) (sA 8 x_tName_7 w_m) i z H.size (show z ≤ 2000 from by first | assumption | omega | grind) (show i < 4000 from by first | assumption | omega | grind)) (cwV 1 hts (lw_V q1883 q1885 qs59 q133 q1886) rfl rfl rfl (by decide +kernel) ⟨Nat.le_of_ble_eq_true rfl, Nat.le_of_ble_eq_true rfl⟩) (zPreV hK hW hR (wj_split3 (B := [(mw Y ad_m (sA 10 (fun _ => nI tk) (sA 7 x_tValue_7 (sA 6 x_tPlace_7 (sA 5 x_tKind_7 (sA 4 (fun _ => nI z) g_m))))) (sA 8 x_tName_7 w_m))]) (R := []) (C := [(mw Y ad_m (sA 10 (fun _ => nI tk) (sA 7 x_tValue_7 (sA 6 x_tPlace_7 (sA 5 x_tKind_7 (sA 4 (fun _ => nI z) g_m))))) (sA 8 x_tName_7 w_m))]) (O := []) (X := []) (List.Perm.refl _)) (va_recv hK.1 hW.1 (ci := 11) (q0 := 0) rfl rfl)) rfl rfl hl.1 rfl (lv_room (Nat.le_of_ble_eq_true rfl)) dX12_cut_19 ⟨Nat.le_refl _, Nat.le_refl _⟩) hW hA (wj_split (B := [(mw Y ad_m (sA 10 (fun _ => nI tk) (sA 7 x_tValue_7 (sA 6 x_tPlace_7 (sA 5 x_tKind_7 (sA 4 (fun _ => nI z) g_m))))) (sA 8 x_tName_7 w_m))]) (C := [(mw Y ad_m (sA 10 (fun _ => nI tk) (sA 7 x_tValue_7 (sA 6 x_tPlace_7 (sA 5 x_tKind_7 (sA 4 (fun _ => nI z) g_m))))) (sA 8 x_tName_7 w_m))]) (R := []) (List.Perm.refl _)) (fun r_2 u H locs hp_3 hW => ?_)
        have hp_3 : r_2 = if i < z then (g_m 3) i &&& 255 else 0 := hp_3
        have hW : zW D A s.heap H locs (wj [(mw Y ad_m (sA 10 (fun _ => nI tk) (sA 7 x_tValue_7 (sA 6 x_tPlace_7 (sA 5 x_tKind_7 (sA 4 (fun _ => nI z) g_m))))) (sA 8 x_tName_7 w_m))]) := hW.join
        have hba : r_2 = (tbAt (g_m 3) z i &&& 255) := hp_3.trans (tbAt_255 _ _ _)
        subst hba
        refine lv_istore_n (lv' := [(2, .int (tbAt (g_m 3) z i &&& 255)), (1, .int (nI i)), (0, .ref (ad_m 0))]) hx hb dX12_cut_22 rfl hl (by decide) rfl (fun ls hl => ?_)
        refine lv_iload_n hx hb dX12_cut_23 rfl (lv_at hl 1 rfl) ?_
        refine lv_aload_n hx hb dX12_cut_24 rfl (lv_at hl 2 rfl) ?_
        refine va_get (v := .int (nI z)) (C := RX12) (T := TX12) (N := 75) (ci := 11) hx hb hts in_X12 hown hK.1 hW.1 0 rfl rfl 4 (by decide) (hts _ q1640) (fun _ h9 => h9) rfl dX12_cut_25 ?_
        refine lv_icmp_lt (tgt := 43) hx hb dX12_cut_28 (by decide) (fun c_4 => ?_) (fun c_4 => ?_)
        · have c_4 : i < z := (nI_ltI (a := i) (b := z) (by as_aux_lemma => omega) (by as_aux_lemma => omega)).mp c_4
          refine lv_iload_n hx hb dX12_cut_43 rfl (lv_at hl 0 rfl) ?_
          refine lv_bipush (v := 9) hx hb dX12_cut_44 (by decide) ?_
          refine lv_icmp_eq (tgt := 67) hx hb dX12_cut_46 (by decide) (fun c_5 => ?_) (fun c_5 => ?_)
          · have hsp : isB (tbAt (g_m 3) z i) := (b_B (tbAt_b hTP i)).mp (Or.inr (Or.inl c_5))
            refine lv_iinc (v := nI (i + 1)) (lv' := [(1, .int (nI (i + 1))), (2, .int (tbAt (g_m 3) z i &&& 255)), (0, .ref (ad_m 0))]) hx hb dX12_cut_67 hl (k := 1) rfl (nI_add i 1) (by decide) rfl (fun ls hl => ?_)
            refine lv_goto (tgt := 291) hx hb dX12_cut_70 (by decide) ?_
            refine lv_goto (tgt := 7) hx hb dX12_cut_291 (by decide) ?_
            exact ih_7 (i + 1) x_tKind_7 x_tPlace_7 x_tValue_7 x_tName_7 tk Dl (by as_aux_lemma => omega) (by as_aux_lemma => omega) (by exact hDl) (by rw [hLX, LX_sp (by as_aux_lemma => omega) hsp]) (by exact hRW) _ _ hW _ (lv_sub hl [0, 2] rfl)
          · refine lv_iload_n hx hb dX12_cut_49 rfl (lv_at hl 0 rfl) ?_
            refine lv_bipush (v := 10) hx hb dX12_cut_50 (by decide) ?_
            refine lv_icmp_eq (tgt := 67) hx hb dX12_cut_52 (by decide) (fun c_6 => ?_) (fun c_6 => ?_)
            · have hsp : isB (tbAt (g_m 3) z i) := (b_B (tbAt_b hTP i)).mp (Or.inr (Or.inr (Or.inl c_6)))
              refine lv_iinc (v := nI (i + 1)) (lv' := [(1, .int (nI (i + 1))), (2, .int (tbAt (g_m 3) z i &&& 255)), (0, .ref (ad_m 0))]) hx hb dX12_cut_67 hl (k := 1) rfl (nI_add i 1) (by decide) rfl (fun ls hl => ?_)
              refine lv_goto (tgt := 291) hx hb dX12_cut_70 (by decide) ?_
              refine lv_goto (tgt := 7) hx hb dX12_cut_291 (by decide) ?_
              exact ih_7 (i + 1) x_tKind_7 x_tPlace_7 x_tValue_7 x_tName_7 tk Dl (by as_aux_lemma => omega) (by as_aux_lemma => omega) (by exact hDl) (by rw [hLX, LX_sp (by as_aux_lemma => omega) hsp]) (by exact hRW) _ _ hW _ (lv_sub hl [0, 2] rfl)
            · refine lv_iload_n hx hb dX12_cut_55 rfl (lv_at hl 0 rfl) ?_
              refine lv_bipush (v := 13) hx hb dX12_cut_56 (by decide) ?_
              refine lv_icmp_eq (tgt := 67) hx hb dX12_cut_58 (by decide) (fun c_7 => ?_) (fun c_7 => ?_)
              · have hsp : isB (tbAt (g_m 3) z i) := (b_B (tbAt_b hTP i)).mp (Or.inr (Or.inr (Or.inr c_7)))
                refine lv_iinc (v := nI (i + 1)) (lv' := [(1, .int (nI (i + 1))), (2, .int (tbAt (g_m 3) z i &&& 255)), (0, .ref (ad_m 0))]) hx hb dX12_cut_67 hl (k := 1) rfl (nI_add i 1) (by decide) rfl (fun ls hl => ?_)
                refine lv_goto (tgt := 291) hx hb dX12_cut_70 (by decide) ?_
                refine lv_goto (tgt := 7) hx hb dX12_cut_291 (by decide) ?_
                exact ih_7 (i + 1) x_tKind_7 x_tPlace_7 x_tValue_7 x_tName_7 tk Dl (by as_aux_lemma => omega) (by as_aux_lemma => omega) (by exact hDl) (by rw [hLX, LX_sp (by as_aux_lemma => omega) hsp]) (by exact hRW) _ _ hW _ (lv_sub hl [0, 2] rfl)
              · refine lv_iload_n hx hb dX12_cut_61 rfl (lv_at hl 0 rfl) ?_
                refine lv_bipush (v := 32) hx hb dX12_cut_62 (by decide) ?_
                refine lv_icmp_ne (tgt := 73) hx hb dX12_cut_64 (by decide) (fun c_8 => ?_) (fun c_8 => ?_)
                · have hnsp : ¬ isB (tbAt (g_m 3) z i) := fun q => by rcases (b_B (tbAt_b hTP i)).mpr q with q | q | q | q <;> contradiction
                  refine lv_iload_n hx hb dX12_cut_73 rfl (lv_at hl 0 rfl) ?_
                  refine z_calli (wc := wj []) (wr := wj [(mw Y ad_m (sA 10 (fun _ => nI tk) (sA 7 x_tValue_7 (sA 6 x_tPlace_7 (sA 5 x_tKind_7 (sA 4 (fun _ => nI z) g_m))))) (sA 8 x_tName_7 w_m))]) (va_runS (As := [.int (tbAt (g_m 3) z i &&& 255)]) (rest := []) ⟨hx, hb, hml, hown, hts⟩ (m_X12_isLetter l D Y (tbAt (g_m 3) z i &&& 255) H.size) (va_cwS 1 hts (lw_S q1891 q1892 q133 q1893) rfl rfl rfl (by decide +kernel) ⟨Nat.le_of_ble_eq_true rfl, Nat.le_of_ble_eq_true rfl⟩) (zPre hK hW hR (wj_split3 (B := [(mw Y ad_m (sA 10 (fun _ => nI tk) (sA 7 x_tValue_7 (sA 6 x_tPlace_7 (sA 5 x_tKind_7 (sA 4 (fun _ => nI z) g_m))))) (sA 8 x_tName_7 w_m))]) (R := []) (C := []) (O := []) (X := [(mw Y ad_m (sA 10 (fun _ => nI tk) (sA 7 x_tValue_7 (sA 6 x_tPlace_7 (sA 5 x_tKind_7 (sA 4 (fun _ => nI z) g_m))))) (sA 8 x_tName_7 w_m))]) (List.Perm.refl _))) rfl rfl hl.1 rfl (lv_room (Nat.le_of_ble_eq_true rfl)) dX12_cut_74 ⟨Nat.le_refl _, Nat.le_refl _⟩) hW hA (wj_split (B := [(mw Y ad_m (sA 10 (fun _ => nI tk) (sA 7 x_tValue_7 (sA 6 x_tPlace_7 (sA 5 x_tKind_7 (sA 4 (fun _ => nI z) g_m))))) (sA 8 x_tName_7 w_m))]) (C := []) (R := [(mw Y ad_m (sA 10 (fun _ => nI tk) (sA 7 x_tValue_7 (sA 6 x_tPlace_7 (sA 5 x_tKind_7 (sA 4 (fun _ => nI z) g_m))))) (sA 8 x_tName_7 w_m))]) (List.Perm.refl _)) (fun r_9 u H locs hp_10 hW => ?_)
                  have hp_10 : r_9 = zb (¬ (tbAt (g_m 3) z i &&& 255) < 97 ∧ ¬ 122 < (tbAt (g_m 3) z i &&& 255)) := hp_10
                  have hW : zW D A s.heap H locs (wj [(mw Y ad_m (sA 10 (fun _ => nI tk) (sA 7 x_tValue_7 (sA 6 x_tPlace_7 (sA 5 x_tKind_7 (sA 4 (fun _ => nI z) g_m))))) (sA 8 x_tName_7 w_m))]) := hW.join
                  refine lv_if_eq (tgt := 196) hx hb dX12_cut_77 (by decide) (fun c_11 => ?_) (fun c_11 => ?_)
                  · have c_11 : ¬ (¬ (tbAt (g_m 3) z i &&& 255) < 97 ∧ ¬ 122 < (tbAt (g_m 3) z i &&& 255)) := zb_eq hp_10 c_11
                    have hnL : ¬ isL (tbAt (g_m 3) z i) := fun q => c_11 ((b_L (tbAt_b hTP i)).mpr q)
                    refine lv_iload_n hx hb dX12_cut_196 rfl (lv_at hl 0 rfl) ?_
                    refine z_calli (wc := wj []) (wr := wj [(mw Y ad_m (sA 10 (fun _ => nI tk) (sA 7 x_tValue_7 (sA 6 x_tPlace_7 (sA 5 x_tKind_7 (sA 4 (fun _ => nI z) g_m))))) (sA 8 x_tName_7 w_m))]) (va_runS (As := [.int (tbAt (g_m 3) z i &&& 255)]) (rest := []) ⟨hx, hb, hml, hown, hts⟩ (m_X12_isDigit l D Y (tbAt (g_m 3) z i &&& 255) H.size) (va_cwS 1 hts (lw_S q1894 q1895 q133 q1896) rfl rfl rfl (by decide +kernel) ⟨Nat.le_of_ble_eq_true rfl, Nat.le_of_ble_eq_true rfl⟩) (zPre hK hW hR (wj_split3 (B := [(mw Y ad_m (sA 10 (fun _ => nI tk) (sA 7 x_tValue_7 (sA 6 x_tPlace_7 (sA 5 x_tKind_7 (sA 4 (fun _ => nI z) g_m))))) (sA 8 x_tName_7 w_m))]) (R := []) (C := []) (O := []) (X := [(mw Y ad_m (sA 10 (fun _ => nI tk) (sA 7 x_tValue_7 (sA 6 x_tPlace_7 (sA 5 x_tKind_7 (sA 4 (fun _ => nI z) g_m))))) (sA 8 x_tName_7 w_m))]) (List.Perm.refl _))) rfl rfl hl.1 rfl (lv_room (Nat.le_of_ble_eq_true rfl)) dX12_cut_197 ⟨Nat.le_refl _, Nat.le_refl _⟩) hW hA (wj_split (B := [(mw Y ad_m (sA 10 (fun _ => nI tk) (sA 7 x_tValue_7 (sA 6 x_tPlace_7 (sA 5 x_tKind_7 (sA 4 (fun _ => nI z) g_m))))) (sA 8 x_tName_7 w_m))]) (C := []) (R := [(mw Y ad_m (sA 10 (fun _ => nI tk) (sA 7 x_tValue_7 (sA 6 x_tPlace_7 (sA 5 x_tKind_7 (sA 4 (fun _ => nI z) g_m))))) (sA 8 x_tName_7 w_m))]) (List.Perm.refl _)) (fun r_12 u H locs hp_13 hW => ?_)
                    have hp_13 : r_12 = zb (¬ (tbAt (g_m 3) z i &&& 255) < 48 ∧ ¬ 57 < (tbAt (g_m 3) z i &&& 255)) := hp_13
                    have hW : zW D A s.heap H locs (wj [(mw Y ad_m (sA 10 (fun _ => nI tk) (sA 7 x_tValue_7 (sA 6 x_tPlace_7 (sA 5 x_tKind_7 (sA 4 (fun _ => nI z) g_m))))) (sA 8 x_tName_7 w_m))]) := hW.join
                    refine lv_if_eq (tgt := 275) hx hb dX12_cut_200 (by decide) (fun c_14 => ?_) (fun c_14 => ?_)
                    · have c_14 : ¬ (¬ (tbAt (g_m 3) z i &&& 255) < 48 ∧ ¬ 57 < (tbAt (g_m 3) z i &&& 255)) := zb_eq hp_13 c_14
                      have hnD : ¬ isD (tbAt (g_m 3) z i) := fun q => c_14 ((b_D (tbAt_b hTP i)).mpr q)
                      refine lv_iload_n hx hb dX12_cut_275 rfl (lv_at hl 1 rfl) ?_
                      refine lv_aload_n hx hb dX12_cut_276 rfl (lv_at hl 2 rfl) ?_
                      refine lv_iload_n hx hb dX12_cut_277 rfl (lv_at hl 1 rfl) ?_
                      refine lv_iload_n hx hb dX12_cut_278 rfl (lv_at hl 0 rfl) ?_
                      refine lv_aload_n hx hb dX12_cut_279 rfl (lv_at hl 2 rfl) ?_
                      refine lv_iload_n hx hb dX12_cut_280 rfl (lv_at hl 1 rfl) ?_
                      refine lv_iconst (v := 1) hx hb dX12_cut_281 (by decide) ?_
                      refine lv_iadd hx hb dX12_cut_282 ?_
                      refine lv_topi (nm_r (e' := nI (i + 1)) (nI_add i 1) ?_)
                      refine z_calli (wc := wj [(mw Y ad_m (sA 10 (fun _ => nI tk) (sA 7 x_tValue_7 (sA 6 x_tPlace_7 (sA 5 x_tKind_7 (sA 4 (fun _ => nI z) g_m))))) (sA 8 x_tName_7 w_m))]) (wr := wj []) (va_runV (As := [.int (nI (i + 1))]) (rest := [.int (tbAt (g_m 3) z i &&& 255), .int (nI i), .ref (ad_m 0), .int (nI i)]) ⟨hx, hb, hml, hown, hts⟩ (m_X12_byteAt l D Y ad_m (sA 10 (fun _ => nI tk) (sA 7 x_tValue_7 (sA 6 x_tPlace_7 (sA 5 x_tKind_7 (sA 4 (fun _ => nI z) g_m))))) (sA 8 x_tName_7 w_m) (i + 1) z H.size (show z ≤ 2000 from by first | assumption | omega | grind) (show (i + 1) < 4000 from by first | assumption | omega | grind)) (cwV 1 hts (lw_V q1883 q1885 qs59 q133 q1886) rfl rfl rfl (by decide +kernel) ⟨Nat.le_of_ble_eq_true rfl, Nat.le_of_ble_eq_true rfl⟩) (zPreV hK hW hR (wj_split3 (B := [(mw Y ad_m (sA 10 (fun _ => nI tk) (sA 7 x_tValue_7 (sA 6 x_tPlace_7 (sA 5 x_tKind_7 (sA 4 (fun _ => nI z) g_m))))) (sA 8 x_tName_7 w_m))]) (R := []) (C := [(mw Y ad_m (sA 10 (fun _ => nI tk) (sA 7 x_tValue_7 (sA 6 x_tPlace_7 (sA 5 x_tKind_7 (sA 4 (fun _ => nI z) g_m))))) (sA 8 x_tName_7 w_m))]) (O := []) (X := []) (List.Perm.refl _)) (va_recv hK.1 hW.1 (ci := 11) (q0 := 0) rfl rfl)) rfl rfl hl.1 rfl (lv_room (Nat.le_of_ble_eq_true rfl)) dX12_cut_283 ⟨Nat.le_refl _, Nat.le_refl _⟩) hW hA (wj_split (B := [(mw Y ad_m (sA 10 (fun _ => nI tk) (sA 7 x_tValue_7 (sA 6 x_tPlace_7 (sA 5 x_tKind_7 (sA 4 (fun _ => nI z) g_m))))) (sA 8 x_tName_7 w_m))]) (C := [(mw Y ad_m (sA 10 (fun _ => nI tk) (sA 7 x_tValue_7 (sA 6 x_tPlace_7 (sA 5 x_tKind_7 (sA 4 (fun _ => nI z) g_m))))) (sA 8 x_tName_7 w_m))]) (R := []) (List.Perm.refl _)) (fun r_15 u H locs hp_16 hW => ?_)
                      have hp_16 : r_15 = if (i + 1) < z then (g_m 3) (i + 1) &&& 255 else 0 := hp_16
                      have hW : zW D A s.heap H locs (wj [(mw Y ad_m (sA 10 (fun _ => nI tk) (sA 7 x_tValue_7 (sA 6 x_tPlace_7 (sA 5 x_tKind_7 (sA 4 (fun _ => nI z) g_m))))) (sA 8 x_tName_7 w_m))]) := hW.join
                      have hba : r_15 = (tbAt (g_m 3) z (i + 1) &&& 255) := hp_16.trans (tbAt_255 _ _ _)
                      subst hba
                      refine z_calli (wc := wj [(mw Y ad_m (sA 10 (fun _ => nI tk) (sA 7 x_tValue_7 (sA 6 x_tPlace_7 (sA 5 x_tKind_7 (sA 4 (fun _ => nI z) g_m))))) (sA 8 x_tName_7 w_m))]) (wr := wj []) (va_runV (As := [.int (nI i), .int (tbAt (g_m 3) z i &&& 255), .int (tbAt (g_m 3) z (i + 1) &&& 255)]) (rest := [.int (nI i)]) ⟨hx, hb, hml, hown, hts⟩ (m_X12_sign l D Y ad_m (sA 10 (fun _ => nI tk) (sA 7 x_tValue_7 (sA 6 x_tPlace_7 (sA 5 x_tKind_7 (sA 4 (fun _ => nI z) g_m))))) (sA 8 x_tName_7 w_m) i (tbAt (g_m 3) z i &&& 255) (tbAt (g_m 3) z (i + 1) &&& 255) tk H.size (show tk ≤ 400 from by first | assumption | omega | grind)) (cwV 3 hts (lw_V q1897 q1899 qs61 q133 q1900) rfl rfl rfl (by decide +kernel) ⟨Nat.le_of_ble_eq_true rfl, Nat.le_of_ble_eq_true rfl⟩) (zPreV hK hW hR (wj_split3 (B := [(mw Y ad_m (sA 10 (fun _ => nI tk) (sA 7 x_tValue_7 (sA 6 x_tPlace_7 (sA 5 x_tKind_7 (sA 4 (fun _ => nI z) g_m))))) (sA 8 x_tName_7 w_m))]) (R := []) (C := [(mw Y ad_m (sA 10 (fun _ => nI tk) (sA 7 x_tValue_7 (sA 6 x_tPlace_7 (sA 5 x_tKind_7 (sA 4 (fun _ => nI z) g_m))))) (sA 8 x_tName_7 w_m))]) (O := []) (X := []) (List.Perm.refl _)) (va_recv hK.1 hW.1 (ci := 11) (q0 := 0) rfl rfl)) rfl rfl hl.1 rfl (lv_room (Nat.le_of_ble_eq_true rfl)) dX12_cut_286 ⟨Nat.le_refl _, Nat.le_refl _⟩) hW hA (wj_split (B := [(mw Y ad_m (sA 10 (fun _ => nI tk) (sA 7 x_tValue_7 (sA 6 x_tPlace_7 (sA 5 x_tKind_7 (sA 4 (fun _ => nI z) g_m))))) (sA 8 x_tName_7 w_m))]) (C := [(mw Y ad_m (sA 10 (fun _ => nI tk) (sA 7 x_tValue_7 (sA 6 x_tPlace_7 (sA 5 x_tKind_7 (sA 4 (fun _ => nI z) g_m))))) (sA 8 x_tName_7 w_m))]) (R := []) (List.Perm.refl _)) (fun r_17 u H locs hp_18 hW => ?_)
                      obtain ⟨utKind_19, utPlace_20, utValue_21, utName_22, utokens_23⟩ := u
                      have hp_18 : r_17 = 1 ∧ utKind_19 = upd x_tKind_7 tk (nI (signK (tbAt (g_m 3) z i &&& 255))) ∧ utPlace_20 = upd x_tPlace_7 tk (nI i) ∧ utValue_21 = upd x_tValue_7 tk 0 ∧ utName_22 = vp_updL x_tName_7 tk 0 ∧ utokens_23 = tk + 1 := hp_18
                      have hW : zW D A s.heap H locs (wj [(mw Y ad_m (sA 10 (fun _ => nI utokens_23) (sA 7 utValue_21 (sA 6 utPlace_20 (sA 5 utKind_19 (sA 4 (fun _ => nI z) g_m))))) (sA 8 utName_22 w_m))]) := hW.join
                      obtain ⟨er1, et1, et2, et3, et4, et5⟩ := hp_18
                      subst er1
                      refine lv_iadd hx hb dX12_cut_289 ?_
                      refine lv_topi (nm_r (e' := nI (i + 1)) (nI_add i 1) ?_)
                      refine lv_istore_n (lv' := [(1, .int (nI (i + 1))), (2, .int (tbAt (g_m 3) z i &&& 255)), (0, .ref (ad_m 0))]) hx hb dX12_cut_290 rfl hl (by decide) rfl (fun ls hl => ?_)
                      refine lv_goto (tgt := 7) hx hb dX12_cut_291 (by decide) ?_
                      have htok : tokAt (tbAt (g_m 3) z) z i = (signK (tbAt (g_m 3) z i), i + 1) := tok_S hnL hnD
                      exact ih_7 (i + 1) utKind_19 utPlace_20 utValue_21 utName_22 utokens_23 (Dl ++ [(signK (tbAt (g_m 3) z i), i, i + 1)]) (by as_aux_lemma => omega) (by as_aux_lemma => omega) (by rw [List.length_append]; show _ = Dl.length + 1 ∧ _; omega) (by rw [hLX, LX_tok (by as_aux_lemma => omega) hnsp, htok, List.append_assoc]; rfl) (by rw [et1, et2, et3, et4]; exact hRW.snoc (by rw [b_S (tbAt_b hTP i)]; exact rowS rfl) hDl.1) _ _ hW _ (lv_sub hl [0, 2] rfl)
                    · have c_14 : ¬ (tbAt (g_m 3) z i &&& 255) < 48 ∧ ¬ 57 < (tbAt (g_m 3) z i &&& 255) := zb_ne hp_13 c_14
                      have hD0 : isD (tbAt (g_m 3) z i) := (b_D (tbAt_b hTP i)).mp c_14
                      refine lv_iconst (v := 0) hx hb dX12_cut_203 (by decide) ?_
                      refine lv_istore_n (lv' := [(3, .int 0), (2, .int (tbAt (g_m 3) z i &&& 255)), (1, .int (nI i)), (0, .ref (ad_m 0))]) hx hb dX12_cut_204 rfl hl (by decide) rfl (fun ls hl => ?_)
                      refine lv_iconst (v := 0) hx hb dX12_cut_205 (by decide) ?_
                      refine lv_istore (lv' := [(4, .int 0), (3, .int 0), (2, .int (tbAt (g_m 3) z i &&& 255)), (1, .int (nI i)), (0, .ref (ad_m 0))]) hx hb dX12_cut_206 hl (by decide) rfl (fun ls hl => ?_)
                      have loop_208 : ∀ (n : Nat) (v4_208 : Int32) (nl : Nat), z + 1 - nl < n → (nl ≤ z) → (∀ j, j < nl → isD (tbAt (g_m 3) z (i + j))) → (nl ≤ 4 → v4_208 = numV (tbAt (g_m 3) z) i nl) → ∀ (H : Heap) (locs : List Loc), zW D A s.heap H locs (wj [(mw Y ad_m (sA 10 (fun _ => nI tk) (sA 7 x_tValue_7 (sA 6 x_tPlace_7 (sA 5 x_tKind_7 (sA 4 (fun _ => nI z) g_m))))) (sA 8 x_tName_7 w_m))]) → ∀ (ls : Array Slot), lv_has ls 8 [(4, .int v4_208), (3, .int (nI nl)), (2, .int (tbAt (g_m 3) z i &&& 255)), (1, .int (nI i)), (0, .ref (ad_m 0))] → W p l e (headSpec (ws_ yX12_cut cX12_cut 8 none) ({ frames := 3, cells := 0, slots := 0, locals := 61 })).room s m ([.ref (ad_m 0)] : List Value).toArray below meth c H locs 0 0 (MQ below (va_Qv (fun (u : (Nat → Int32) × (Nat → Int32) × (Nat → Int32) × (Nat → Int64) × (Nat)) => ∃ D, ROWS (tbAt (g_m 3) z) D u.1 u.2.1 u.2.2.1 u.2.2.2.1 ∧ u.2.2.2.2 = D.length ∧ (∃ R, LX (tbAt (g_m 3) z) z 0 = D ++ R) ∧ (LX (tbAt (g_m 3) z) z 0 = D ∨ 400 < D.length)) (zB D (fun (u : (Nat → Int32) × (Nat → Int32) × (Nat → Int32) × (Nat → Int64) × (Nat)) => (wj [(mw Y ad_m (sA 10 (fun _ => nI u.2.2.2.2) (sA 7 u.2.2.1 (sA 6 u.2.1 (sA 5 u.1 (sA 4 (fun _ => nI z) g_m))))) (sA 8 u.2.2.2.1 w_m))])) A) A) ([.ref (ad_m 0)] : List Value).toArray s 0 0 A) (F0 m 208 ls []) := by
                        intro n
                        induction n with
                        | zero =>
                          intro v4_208 nl hmz
                          exact absurd hmz (Nat.not_lt_zero _)
                        | succ n ih =>
                          intro v4_208 nl hm_208 hnz hDn hv H locs hW ls hl
                          have ih_208 := ih
                          clear ih
                          refine lv_aload_n hx hb dX12_cut_208 rfl (lv_at hl 4 rfl) ?_
                          refine lv_iload_n hx hb dX12_cut_209 rfl (lv_at hl 3 rfl) ?_
                          refine lv_iload_n hx hb dX12_cut_210 rfl (lv_at hl 1 rfl) ?_
                          refine lv_iadd hx hb dX12_cut_211 ?_
                          refine lv_topi (nm_r (e' := nI (i + nl)) (nI_add i nl) ?_)
                          refine z_calli (wc := wj [(mw Y ad_m (sA 10 (fun _ => nI tk) (sA 7 x_tValue_7 (sA 6 x_tPlace_7 (sA 5 x_tKind_7 (sA 4 (fun _ => nI z) g_m))))) (sA 8 x_tName_7 w_m))]) (wr := wj []) (va_runV (As := [.int (nI (i + nl))]) (rest := []) ⟨hx, hb, hml, hown, hts⟩ (m_X12_byteAt l D Y ad_m (sA 10 (fun _ => nI tk) (sA 7 x_tValue_7 (sA 6 x_tPlace_7 (sA 5 x_tKind_7 (sA 4 (fun _ => nI z) g_m))))) (sA 8 x_tName_7 w_m) (i + nl) z H.size (show z ≤ 2000 from by first | assumption | omega | grind) (show (i + nl) < 4000 from by first | assumption | omega | grind)) (cwV 1 hts (lw_V q1883 q1885 qs59 q133 q1886) rfl rfl rfl (by decide +kernel) ⟨Nat.le_of_ble_eq_true rfl, Nat.le_of_ble_eq_true rfl⟩) (zPreV hK hW hR (wj_split3 (B := [(mw Y ad_m (sA 10 (fun _ => nI tk) (sA 7 x_tValue_7 (sA 6 x_tPlace_7 (sA 5 x_tKind_7 (sA 4 (fun _ => nI z) g_m))))) (sA 8 x_tName_7 w_m))]) (R := []) (C := [(mw Y ad_m (sA 10 (fun _ => nI tk) (sA 7 x_tValue_7 (sA 6 x_tPlace_7 (sA 5 x_tKind_7 (sA 4 (fun _ => nI z) g_m))))) (sA 8 x_tName_7 w_m))]) (O := []) (X := []) (List.Perm.refl _)) (va_recv hK.1 hW.1 (ci := 11) (q0 := 0) rfl rfl)) rfl rfl hl.1 rfl (lv_room (Nat.le_of_ble_eq_true rfl)) dX12_cut_212 ⟨Nat.le_refl _, Nat.le_refl _⟩) hW hA (wj_split (B := [(mw Y ad_m (sA 10 (fun _ => nI tk) (sA 7 x_tValue_7 (sA 6 x_tPlace_7 (sA 5 x_tKind_7 (sA 4 (fun _ => nI z) g_m))))) (sA 8 x_tName_7 w_m))]) (C := [(mw Y ad_m (sA 10 (fun _ => nI tk) (sA 7 x_tValue_7 (sA 6 x_tPlace_7 (sA 5 x_tKind_7 (sA 4 (fun _ => nI z) g_m))))) (sA 8 x_tName_7 w_m))]) (R := []) (List.Perm.refl _)) (fun r_24 u H locs hp_25 hW => ?_)
                          have hp_25 : r_24 = if (i + nl) < z then (g_m 3) (i + nl) &&& 255 else 0 := hp_25
                          have hW : zW D A s.heap H locs (wj [(mw Y ad_m (sA 10 (fun _ => nI tk) (sA 7 x_tValue_7 (sA 6 x_tPlace_7 (sA 5 x_tKind_7 (sA 4 (fun _ => nI z) g_m))))) (sA 8 x_tName_7 w_m))]) := hW.join
                          have hba : r_24 = (tbAt (g_m 3) z (i + nl) &&& 255) := hp_25.trans (tbAt_255 _ _ _)
                          subst hba
                          refine z_calli (wc := wj []) (wr := wj [(mw Y ad_m (sA 10 (fun _ => nI tk) (sA 7 x_tValue_7 (sA 6 x_tPlace_7 (sA 5 x_tKind_7 (sA 4 (fun _ => nI z) g_m))))) (sA 8 x_tName_7 w_m))]) (va_runS (As := [.int (tbAt (g_m 3) z (i + nl) &&& 255)]) (rest := []) ⟨hx, hb, hml, hown, hts⟩ (m_X12_isDigit l D Y (tbAt (g_m 3) z (i + nl) &&& 255) H.size) (va_cwS 1 hts (lw_S q1894 q1895 q133 q1896) rfl rfl rfl (by decide +kernel) ⟨Nat.le_of_ble_eq_true rfl, Nat.le_of_ble_eq_true rfl⟩) (zPre hK hW hR (wj_split3 (B := [(mw Y ad_m (sA 10 (fun _ => nI tk) (sA 7 x_tValue_7 (sA 6 x_tPlace_7 (sA 5 x_tKind_7 (sA 4 (fun _ => nI z) g_m))))) (sA 8 x_tName_7 w_m))]) (R := []) (C := []) (O := []) (X := [(mw Y ad_m (sA 10 (fun _ => nI tk) (sA 7 x_tValue_7 (sA 6 x_tPlace_7 (sA 5 x_tKind_7 (sA 4 (fun _ => nI z) g_m))))) (sA 8 x_tName_7 w_m))]) (List.Perm.refl _))) rfl rfl hl.1 rfl (lv_room (Nat.le_of_ble_eq_true rfl)) dX12_cut_215 ⟨Nat.le_refl _, Nat.le_refl _⟩) hW hA (wj_split (B := [(mw Y ad_m (sA 10 (fun _ => nI tk) (sA 7 x_tValue_7 (sA 6 x_tPlace_7 (sA 5 x_tKind_7 (sA 4 (fun _ => nI z) g_m))))) (sA 8 x_tName_7 w_m))]) (C := []) (R := [(mw Y ad_m (sA 10 (fun _ => nI tk) (sA 7 x_tValue_7 (sA 6 x_tPlace_7 (sA 5 x_tKind_7 (sA 4 (fun _ => nI z) g_m))))) (sA 8 x_tName_7 w_m))]) (List.Perm.refl _)) (fun r_26 u H locs hp_27 hW => ?_)
                          have hp_27 : r_26 = zb (¬ (tbAt (g_m 3) z (i + nl) &&& 255) < 48 ∧ ¬ 57 < (tbAt (g_m 3) z (i + nl) &&& 255)) := hp_27
                          have hW : zW D A s.heap H locs (wj [(mw Y ad_m (sA 10 (fun _ => nI tk) (sA 7 x_tValue_7 (sA 6 x_tPlace_7 (sA 5 x_tKind_7 (sA 4 (fun _ => nI z) g_m))))) (sA 8 x_tName_7 w_m))]) := hW.join
                          refine lv_if_eq (tgt := 250) hx hb dX12_cut_218 (by decide) (fun c_28 => ?_) (fun c_28 => ?_)
                          · have c_28 : ¬ (¬ (tbAt (g_m 3) z (i + nl) &&& 255) < 48 ∧ ¬ 57 < (tbAt (g_m 3) z (i + nl) &&& 255)) := zb_eq hp_27 c_28
                            have hnDk : ¬ isD (tbAt (g_m 3) z (i + nl)) := fun q => c_28 ((b_D (tbAt_b hTP _)).mpr q)
                            obtain ⟨htok, hn1⟩ := tok_D hDn hnDk hD0
                            refine lv_aload_n hx hb dX12_cut_250 rfl (lv_at hl 4 rfl) ?_
                            refine lv_iload_n hx hb dX12_cut_251 rfl (lv_at hl 1 rfl) ?_
                            refine lv_iconst (v := 4) hx hb dX12_cut_252 (by decide) ?_
                            refine lv_icmp_le (tgt := 260) hx hb dX12_cut_253 (by decide) (fun c_29 => ?_) (fun c_29 => ?_)
                            · have c_29 : nl ≤ 4 := (nI_leI (a := nl) (b := 4) (by as_aux_lemma => omega) (by as_aux_lemma => omega)).mp c_29
                              have hkl : (2 : Int32) = nI (if 4 < nl then 3 else 2) := by rw [if_neg (by as_aux_lemma => omega)]; rfl
                              refine lv_iconst (v := 2) hx hb dX12_cut_260 (by decide) ?_
                              refine lv_iload_n hx hb dX12_cut_261 rfl (lv_at hl 3 rfl) ?_
                              refine lv_iload hx hb dX12_cut_262 (lv_at hl 0 rfl) ?_
                              refine lv_lconst (v := 0) hx hb dX12_cut_264 (by decide) ?_
                              refine z_callv (wc := wj [(mw Y ad_m (sA 10 (fun _ => nI tk) (sA 7 x_tValue_7 (sA 6 x_tPlace_7 (sA 5 x_tKind_7 (sA 4 (fun _ => nI z) g_m))))) (sA 8 x_tName_7 w_m))]) (wr := wj []) (va_runV (As := [.int 2, .int (nI i), .int v4_208, .long (0 : Int64)]) (rest := []) ⟨hx, hb, hml, hown, hts⟩ (m_X12_token l D Y ad_m (sA 10 (fun _ => nI tk) (sA 7 x_tValue_7 (sA 6 x_tPlace_7 (sA 5 x_tKind_7 (sA 4 (fun _ => nI z) g_m))))) (sA 8 x_tName_7 w_m) tk 2 (nI i) v4_208 (0 : Int64) H.size (show tk ≤ 401 from by first | assumption | omega | grind)) (cwV 4 hts (lw_V q1887 q1889 qs60 q133 q1890) rfl rfl rfl (by decide +kernel) ⟨Nat.le_of_ble_eq_true rfl, Nat.le_of_ble_eq_true rfl⟩) (zPreV hK hW hR (wj_split3 (B := [(mw Y ad_m (sA 10 (fun _ => nI tk) (sA 7 x_tValue_7 (sA 6 x_tPlace_7 (sA 5 x_tKind_7 (sA 4 (fun _ => nI z) g_m))))) (sA 8 x_tName_7 w_m))]) (R := []) (C := [(mw Y ad_m (sA 10 (fun _ => nI tk) (sA 7 x_tValue_7 (sA 6 x_tPlace_7 (sA 5 x_tKind_7 (sA 4 (fun _ => nI z) g_m))))) (sA 8 x_tName_7 w_m))]) (O := []) (X := []) (List.Perm.refl _)) (va_recv hK.1 hW.1 (ci := 11) (q0 := 0) rfl rfl)) rfl rfl hl.1 rfl (lv_room (Nat.le_of_ble_eq_true rfl)) dX12_cut_265 ⟨Nat.le_refl _, Nat.le_refl _⟩) hW hA (wj_split (B := [(mw Y ad_m (sA 10 (fun _ => nI tk) (sA 7 x_tValue_7 (sA 6 x_tPlace_7 (sA 5 x_tKind_7 (sA 4 (fun _ => nI z) g_m))))) (sA 8 x_tName_7 w_m))]) (C := [(mw Y ad_m (sA 10 (fun _ => nI tk) (sA 7 x_tValue_7 (sA 6 x_tPlace_7 (sA 5 x_tKind_7 (sA 4 (fun _ => nI z) g_m))))) (sA 8 x_tName_7 w_m))]) (R := []) (List.Perm.refl _)) (fun  u H locs hp_31 hW => ?_)
                              obtain ⟨utKind_32, utPlace_33, utValue_34, utName_35, utokens_36⟩ := u
                              have hp_31 : utKind_32 = upd x_tKind_7 tk 2 ∧ utPlace_33 = upd x_tPlace_7 tk (nI i) ∧ utValue_34 = upd x_tValue_7 tk v4_208 ∧ utName_35 = vp_updL x_tName_7 tk (0 : Int64) ∧ utokens_36 = tk + 1 := hp_31
                              have hW : zW D A s.heap H locs (wj [(mw Y ad_m (sA 10 (fun _ => nI utokens_36) (sA 7 utValue_34 (sA 6 utPlace_33 (sA 5 utKind_32 (sA 4 (fun _ => nI z) g_m))))) (sA 8 utName_35 w_m))]) := hW.join
                              obtain ⟨et1, et2, et3, et4, et5⟩ := hp_31
                              refine lv_iload_n hx hb dX12_cut_268 rfl (lv_at hl 3 rfl) ?_
                              refine lv_iload_n hx hb dX12_cut_269 rfl (lv_at hl 1 rfl) ?_
                              refine lv_iadd hx hb dX12_cut_270 ?_
                              refine lv_topi (nm_r (e' := nI (i + nl)) (nI_add i nl) ?_)
                              refine lv_istore_n (lv' := [(1, .int (nI (i + nl))), (4, .int v4_208), (3, .int (nI nl)), (2, .int (tbAt (g_m 3) z i &&& 255)), (0, .ref (ad_m 0))]) hx hb dX12_cut_271 rfl hl (by decide) rfl (fun ls hl => ?_)
                              refine lv_goto (tgt := 291) hx hb dX12_cut_272 (by decide) ?_
                              refine lv_goto (tgt := 7) hx hb dX12_cut_291 (by decide) ?_
                              have hin := tokAt_le (tbAt (g_m 3) z) (show i < z by omega)
                              rw [htok] at hin
                              have hin : i + nl ≤ z := hin
                              exact ih_7 (i + nl) utKind_32 utPlace_33 utValue_34 utName_35 utokens_36 (Dl ++ [((if 4 < nl then 3 else 2), i, i + nl)]) (by as_aux_lemma => omega) (by as_aux_lemma => omega) (by rw [List.length_append]; show _ = Dl.length + 1 ∧ _; omega) (by rw [hLX, LX_tok (by as_aux_lemma => omega) hnsp, htok, List.append_assoc]; rfl) (by rw [et1, et2, et3, et4]; exact hRW.snoc (rowD hkl hv) hDl.1) _ _ hW _ (lv_sub hl [0, 4] rfl)
                            · have c_29 : ¬ (nl ≤ 4) := fun hz_ => c_29 ((nI_leI (a := nl) (b := 4) (by as_aux_lemma => omega) (by as_aux_lemma => omega)).mpr hz_)
                              have hkl : (3 : Int32) = nI (if 4 < nl then 3 else 2) := by rw [if_pos (by as_aux_lemma => omega)]; rfl
                              refine lv_iconst (v := 3) hx hb dX12_cut_256 (by decide) ?_
                              refine lv_goto (tgt := 261) hx hb dX12_cut_257 (by decide) ?_
                              refine lv_iload_n hx hb dX12_cut_261 rfl (lv_at hl 3 rfl) ?_
                              refine lv_iload hx hb dX12_cut_262 (lv_at hl 0 rfl) ?_
                              refine lv_lconst (v := 0) hx hb dX12_cut_264 (by decide) ?_
                              refine z_callv (wc := wj [(mw Y ad_m (sA 10 (fun _ => nI tk) (sA 7 x_tValue_7 (sA 6 x_tPlace_7 (sA 5 x_tKind_7 (sA 4 (fun _ => nI z) g_m))))) (sA 8 x_tName_7 w_m))]) (wr := wj []) (va_runV (As := [.int 3, .int (nI i), .int v4_208, .long (0 : Int64)]) (rest := []) ⟨hx, hb, hml, hown, hts⟩ (m_X12_token l D Y ad_m (sA 10 (fun _ => nI tk) (sA 7 x_tValue_7 (sA 6 x_tPlace_7 (sA 5 x_tKind_7 (sA 4 (fun _ => nI z) g_m))))) (sA 8 x_tName_7 w_m) tk 3 (nI i) v4_208 (0 : Int64) H.size (show tk ≤ 401 from by first | assumption | omega | grind)) (cwV 4 hts (lw_V q1887 q1889 qs60 q133 q1890) rfl rfl rfl (by decide +kernel) ⟨Nat.le_of_ble_eq_true rfl, Nat.le_of_ble_eq_true rfl⟩) (zPreV hK hW hR (wj_split3 (B := [(mw Y ad_m (sA 10 (fun _ => nI tk) (sA 7 x_tValue_7 (sA 6 x_tPlace_7 (sA 5 x_tKind_7 (sA 4 (fun _ => nI z) g_m))))) (sA 8 x_tName_7 w_m))]) (R := []) (C := [(mw Y ad_m (sA 10 (fun _ => nI tk) (sA 7 x_tValue_7 (sA 6 x_tPlace_7 (sA 5 x_tKind_7 (sA 4 (fun _ => nI z) g_m))))) (sA 8 x_tName_7 w_m))]) (O := []) (X := []) (List.Perm.refl _)) (va_recv hK.1 hW.1 (ci := 11) (q0 := 0) rfl rfl)) rfl rfl hl.1 rfl (lv_room (Nat.le_of_ble_eq_true rfl)) dX12_cut_265 ⟨Nat.le_refl _, Nat.le_refl _⟩) hW hA (wj_split (B := [(mw Y ad_m (sA 10 (fun _ => nI tk) (sA 7 x_tValue_7 (sA 6 x_tPlace_7 (sA 5 x_tKind_7 (sA 4 (fun _ => nI z) g_m))))) (sA 8 x_tName_7 w_m))]) (C := [(mw Y ad_m (sA 10 (fun _ => nI tk) (sA 7 x_tValue_7 (sA 6 x_tPlace_7 (sA 5 x_tKind_7 (sA 4 (fun _ => nI z) g_m))))) (sA 8 x_tName_7 w_m))]) (R := []) (List.Perm.refl _)) (fun  u H locs hp_38 hW => ?_)
                              obtain ⟨utKind_39, utPlace_40, utValue_41, utName_42, utokens_43⟩ := u
                              have hp_38 : utKind_39 = upd x_tKind_7 tk 3 ∧ utPlace_40 = upd x_tPlace_7 tk (nI i) ∧ utValue_41 = upd x_tValue_7 tk v4_208 ∧ utName_42 = vp_updL x_tName_7 tk (0 : Int64) ∧ utokens_43 = tk + 1 := hp_38
                              have hW : zW D A s.heap H locs (wj [(mw Y ad_m (sA 10 (fun _ => nI utokens_43) (sA 7 utValue_41 (sA 6 utPlace_40 (sA 5 utKind_39 (sA 4 (fun _ => nI z) g_m))))) (sA 8 utName_42 w_m))]) := hW.join
                              obtain ⟨et1, et2, et3, et4, et5⟩ := hp_38
                              refine lv_iload_n hx hb dX12_cut_268 rfl (lv_at hl 3 rfl) ?_
                              refine lv_iload_n hx hb dX12_cut_269 rfl (lv_at hl 1 rfl) ?_
                              refine lv_iadd hx hb dX12_cut_270 ?_
                              refine lv_topi (nm_r (e' := nI (i + nl)) (nI_add i nl) ?_)
                              refine lv_istore_n (lv' := [(1, .int (nI (i + nl))), (4, .int v4_208), (3, .int (nI nl)), (2, .int (tbAt (g_m 3) z i &&& 255)), (0, .ref (ad_m 0))]) hx hb dX12_cut_271 rfl hl (by decide) rfl (fun ls hl => ?_)
                              refine lv_goto (tgt := 291) hx hb dX12_cut_272 (by decide) ?_
                              refine lv_goto (tgt := 7) hx hb dX12_cut_291 (by decide) ?_
                              have hin := tokAt_le (tbAt (g_m 3) z) (show i < z by omega)
                              rw [htok] at hin
                              have hin : i + nl ≤ z := hin
                              exact ih_7 (i + nl) utKind_39 utPlace_40 utValue_41 utName_42 utokens_43 (Dl ++ [((if 4 < nl then 3 else 2), i, i + nl)]) (by as_aux_lemma => omega) (by as_aux_lemma => omega) (by rw [List.length_append]; show _ = Dl.length + 1 ∧ _; omega) (by rw [hLX, LX_tok (by as_aux_lemma => omega) hnsp, htok, List.append_assoc]; rfl) (by rw [et1, et2, et3, et4]; exact hRW.snoc (rowD hkl hv) hDl.1) _ _ hW _ (lv_sub hl [0, 4] rfl)
                          · have c_28 : ¬ (tbAt (g_m 3) z (i + nl) &&& 255) < 48 ∧ ¬ 57 < (tbAt (g_m 3) z (i + nl) &&& 255) := zb_ne hp_27 c_28
                            have hDk : isD (tbAt (g_m 3) z (i + nl)) := (b_D (tbAt_b hTP _)).mp c_28
                            refine lv_iload_n hx hb dX12_cut_221 rfl (lv_at hl 1 rfl) ?_
                            refine lv_iconst (v := 4) hx hb dX12_cut_222 (by decide) ?_
                            refine lv_icmp_ge (tgt := 244) hx hb dX12_cut_223 (by decide) (fun c_44 => ?_) (fun c_44 => ?_)
                            · have c_44 : 4 ≤ nl := (nI_leI (a := 4) (b := nl) (by as_aux_lemma => omega) (by as_aux_lemma => omega)).mp c_44
                              refine lv_iinc (v := nI (nl + 1)) (lv' := [(3, .int (nI (nl + 1))), (4, .int v4_208), (2, .int (tbAt (g_m 3) z i &&& 255)), (1, .int (nI i)), (0, .ref (ad_m 0))]) hx hb dX12_cut_244 hl (k := 1) rfl (nI_add nl 1) (by decide) rfl (fun ls hl => ?_)
                              refine lv_goto (tgt := 208) hx hb dX12_cut_247 (by decide) ?_
                              exact ih_208 v4_208 (nl + 1) (by as_aux_lemma => omega) (by have := tbAt_lt (Or.inr hDk); omega) (by
                                  intro j hj; by_cases q : j = nl; · rw [q]; exact hDk
                                  · exact hDn j (by as_aux_lemma => omega)) (by intro q; omega) _ _ hW _ (lv_sub hl [1, 0, 2, 3, 4] rfl)
                            · have c_44 : ¬ (4 ≤ nl) := fun hz_ => c_44 ((nI_leI (a := 4) (b := nl) (by as_aux_lemma => omega) (by as_aux_lemma => omega)).mpr hz_)
                              refine lv_bipush (v := 10) hx hb dX12_cut_226 (by decide) ?_
                              refine lv_iload hx hb dX12_cut_228 (lv_at hl 0 rfl) ?_
                              refine lv_imul hx hb dX12_cut_230 ?_
                              refine lv_aload_n hx hb dX12_cut_231 rfl (lv_at hl 4 rfl) ?_
                              refine lv_iload_n hx hb dX12_cut_232 rfl (lv_at hl 3 rfl) ?_
                              refine lv_iload_n hx hb dX12_cut_233 rfl (lv_at hl 1 rfl) ?_
                              refine lv_iadd hx hb dX12_cut_234 ?_
                              refine lv_topi (nm_r (e' := nI (i + nl)) (nI_add i nl) ?_)
                              refine z_calli (wc := wj [(mw Y ad_m (sA 10 (fun _ => nI tk) (sA 7 x_tValue_7 (sA 6 x_tPlace_7 (sA 5 x_tKind_7 (sA 4 (fun _ => nI z) g_m))))) (sA 8 x_tName_7 w_m))]) (wr := wj []) (va_runV (As := [.int (nI (i + nl))]) (rest := [.int (10 * v4_208)]) ⟨hx, hb, hml, hown, hts⟩ (m_X12_byteAt l D Y ad_m (sA 10 (fun _ => nI tk) (sA 7 x_tValue_7 (sA 6 x_tPlace_7 (sA 5 x_tKind_7 (sA 4 (fun _ => nI z) g_m))))) (sA 8 x_tName_7 w_m) (i + nl) z H.size (show z ≤ 2000 from by first | assumption | omega | grind) (show (i + nl) < 4000 from by first | assumption | omega | grind)) (cwV 1 hts (lw_V q1883 q1885 qs59 q133 q1886) rfl rfl rfl (by decide +kernel) ⟨Nat.le_of_ble_eq_true rfl, Nat.le_of_ble_eq_true rfl⟩) (zPreV hK hW hR (wj_split3 (B := [(mw Y ad_m (sA 10 (fun _ => nI tk) (sA 7 x_tValue_7 (sA 6 x_tPlace_7 (sA 5 x_tKind_7 (sA 4 (fun _ => nI z) g_m))))) (sA 8 x_tName_7 w_m))]) (R := []) (C := [(mw Y ad_m (sA 10 (fun _ => nI tk) (sA 7 x_tValue_7 (sA 6 x_tPlace_7 (sA 5 x_tKind_7 (sA 4 (fun _ => nI z) g_m))))) (sA 8 x_tName_7 w_m))]) (O := []) (X := []) (List.Perm.refl _)) (va_recv hK.1 hW.1 (ci := 11) (q0 := 0) rfl rfl)) rfl rfl hl.1 rfl (lv_room (Nat.le_of_ble_eq_true rfl)) dX12_cut_235 ⟨Nat.le_refl _, Nat.le_refl _⟩) hW hA (wj_split (B := [(mw Y ad_m (sA 10 (fun _ => nI tk) (sA 7 x_tValue_7 (sA 6 x_tPlace_7 (sA 5 x_tKind_7 (sA 4 (fun _ => nI z) g_m))))) (sA 8 x_tName_7 w_m))]) (C := [(mw Y ad_m (sA 10 (fun _ => nI tk) (sA 7 x_tValue_7 (sA 6 x_tPlace_7 (sA 5 x_tKind_7 (sA 4 (fun _ => nI z) g_m))))) (sA 8 x_tName_7 w_m))]) (R := []) (List.Perm.refl _)) (fun r_45 u H locs hp_46 hW => ?_)
                              have hp_46 : r_45 = if (i + nl) < z then (g_m 3) (i + nl) &&& 255 else 0 := hp_46
                              have hW : zW D A s.heap H locs (wj [(mw Y ad_m (sA 10 (fun _ => nI tk) (sA 7 x_tValue_7 (sA 6 x_tPlace_7 (sA 5 x_tKind_7 (sA 4 (fun _ => nI z) g_m))))) (sA 8 x_tName_7 w_m))]) := hW.join
                              have hba : r_45 = (tbAt (g_m 3) z (i + nl) &&& 255) := hp_46.trans (tbAt_255 _ _ _)
                              subst hba
                              refine lv_iadd hx hb dX12_cut_238 ?_
                              refine lv_bipush (v := 48) hx hb dX12_cut_239 (by decide) ?_
                              refine lv_isub hx hb dX12_cut_241 ?_
                              refine lv_istore (lv' := [(4, .int (((10 * v4_208) + (tbAt (g_m 3) z (i + nl) &&& 255)) - 48)), (3, .int (nI nl)), (2, .int (tbAt (g_m 3) z i &&& 255)), (1, .int (nI i)), (0, .ref (ad_m 0))]) hx hb dX12_cut_242 hl (by decide) rfl (fun ls hl => ?_)
                              refine lv_iinc (v := nI (nl + 1)) (lv' := [(3, .int (nI (nl + 1))), (4, .int (((10 * v4_208) + (tbAt (g_m 3) z (i + nl) &&& 255)) - 48)), (2, .int (tbAt (g_m 3) z i &&& 255)), (1, .int (nI i)), (0, .ref (ad_m 0))]) hx hb dX12_cut_244 hl (k := 1) rfl (nI_add nl 1) (by decide) rfl (fun ls hl => ?_)
                              refine lv_goto (tgt := 208) hx hb dX12_cut_247 (by decide) ?_
                              exact ih_208 (((10 * v4_208) + (tbAt (g_m 3) z (i + nl) &&& 255)) - 48) (nl + 1) (by as_aux_lemma => omega) (by have := tbAt_lt (Or.inr hDk); omega) (by
                                  intro j hj; by_cases q : j = nl; · rw [q]; exact hDk
                                  · exact hDn j (by as_aux_lemma => omega)) (by intro _; rw [hv (by as_aux_lemma => omega), b_E (tbAt_b hTP _) (Or.inr hDk)]; rfl) _ _ hW _ (lv_sub hl [1, 0, 2, 3, 4] rfl)
                      exact loop_208 _ 0 0 (Nat.lt_succ_self _) (by as_aux_lemma => omega) (by intro j hj; omega) (by intro _; rfl) _ _ hW _ (lv_sub hl [0, 1, 2, 3, 4] rfl)
                  · have c_11 : ¬ (tbAt (g_m 3) z i &&& 255) < 97 ∧ ¬ 122 < (tbAt (g_m 3) z i &&& 255) := zb_ne hp_10 c_11
                    have hL0 : isL (tbAt (g_m 3) z i) := (b_L (tbAt_b hTP i)).mp c_11
                    refine lv_iconst (v := 0) hx hb dX12_cut_80 (by decide) ?_
                    refine lv_istore_n (lv' := [(3, .int 0), (2, .int (tbAt (g_m 3) z i &&& 255)), (1, .int (nI i)), (0, .ref (ad_m 0))]) hx hb dX12_cut_81 rfl hl (by decide) rfl (fun ls hl => ?_)
                    refine lv_lconst (v := 0) hx hb dX12_cut_82 (by decide) ?_
                    refine lv_lstore (lv' := [(4, .long (0 : Int64)), (3, .int 0), (2, .int (tbAt (g_m 3) z i &&& 255)), (1, .int (nI i)), (0, .ref (ad_m 0))]) hx hb dX12_cut_83 hl (by decide) rfl (fun ls hl => ?_)
                    have loop_85 : ∀ (n : Nat) (v4_85 : Int64) (nl : Nat), z + 1 - nl < n → (nl ≤ z) → (∀ j, j < nl → isL (tbAt (g_m 3) z (i + j))) → (v4_85 = Int64.ofNat (nv8 (tbAt (g_m 3) z) i nl)) → ∀ (H : Heap) (locs : List Loc), zW D A s.heap H locs (wj [(mw Y ad_m (sA 10 (fun _ => nI tk) (sA 7 x_tValue_7 (sA 6 x_tPlace_7 (sA 5 x_tKind_7 (sA 4 (fun _ => nI z) g_m))))) (sA 8 x_tName_7 w_m))]) → ∀ (ls : Array Slot), lv_has ls 8 [(4, .long v4_85), (3, .int (nI nl)), (2, .int (tbAt (g_m 3) z i &&& 255)), (1, .int (nI i)), (0, .ref (ad_m 0))] → W p l e (headSpec (ws_ yX12_cut cX12_cut 8 none) ({ frames := 3, cells := 0, slots := 0, locals := 61 })).room s m ([.ref (ad_m 0)] : List Value).toArray below meth c H locs 0 0 (MQ below (va_Qv (fun (u : (Nat → Int32) × (Nat → Int32) × (Nat → Int32) × (Nat → Int64) × (Nat)) => ∃ D, ROWS (tbAt (g_m 3) z) D u.1 u.2.1 u.2.2.1 u.2.2.2.1 ∧ u.2.2.2.2 = D.length ∧ (∃ R, LX (tbAt (g_m 3) z) z 0 = D ++ R) ∧ (LX (tbAt (g_m 3) z) z 0 = D ∨ 400 < D.length)) (zB D (fun (u : (Nat → Int32) × (Nat → Int32) × (Nat → Int32) × (Nat → Int64) × (Nat)) => (wj [(mw Y ad_m (sA 10 (fun _ => nI u.2.2.2.2) (sA 7 u.2.2.1 (sA 6 u.2.1 (sA 5 u.1 (sA 4 (fun _ => nI z) g_m))))) (sA 8 u.2.2.2.1 w_m))])) A) A) ([.ref (ad_m 0)] : List Value).toArray s 0 0 A) (F0 m 85 ls []) := by
                      intro n
                      induction n with
                      | zero =>
                        intro v4_85 nl hmz
                        exact absurd hmz (Nat.not_lt_zero _)
                      | succ n ih =>
                        intro v4_85 nl hm_85 hnz hLn hnm H locs hW ls hl
                        have ih_85 := ih
                        clear ih
                        refine lv_aload_n hx hb dX12_cut_85 rfl (lv_at hl 4 rfl) ?_
                        refine lv_iload_n hx hb dX12_cut_86 rfl (lv_at hl 3 rfl) ?_
                        refine lv_iload_n hx hb dX12_cut_87 rfl (lv_at hl 1 rfl) ?_
                        refine lv_iadd hx hb dX12_cut_88 ?_
                        refine lv_topi (nm_r (e' := nI (i + nl)) (nI_add i nl) ?_)
                        refine z_calli (wc := wj [(mw Y ad_m (sA 10 (fun _ => nI tk) (sA 7 x_tValue_7 (sA 6 x_tPlace_7 (sA 5 x_tKind_7 (sA 4 (fun _ => nI z) g_m))))) (sA 8 x_tName_7 w_m))]) (wr := wj []) (va_runV (As := [.int (nI (i + nl))]) (rest := []) ⟨hx, hb, hml, hown, hts⟩ (m_X12_byteAt l D Y ad_m (sA 10 (fun _ => nI tk) (sA 7 x_tValue_7 (sA 6 x_tPlace_7 (sA 5 x_tKind_7 (sA 4 (fun _ => nI z) g_m))))) (sA 8 x_tName_7 w_m) (i + nl) z H.size (show z ≤ 2000 from by first | assumption | omega | grind) (show (i + nl) < 4000 from by first | assumption | omega | grind)) (cwV 1 hts (lw_V q1883 q1885 qs59 q133 q1886) rfl rfl rfl (by decide +kernel) ⟨Nat.le_of_ble_eq_true rfl, Nat.le_of_ble_eq_true rfl⟩) (zPreV hK hW hR (wj_split3 (B := [(mw Y ad_m (sA 10 (fun _ => nI tk) (sA 7 x_tValue_7 (sA 6 x_tPlace_7 (sA 5 x_tKind_7 (sA 4 (fun _ => nI z) g_m))))) (sA 8 x_tName_7 w_m))]) (R := []) (C := [(mw Y ad_m (sA 10 (fun _ => nI tk) (sA 7 x_tValue_7 (sA 6 x_tPlace_7 (sA 5 x_tKind_7 (sA 4 (fun _ => nI z) g_m))))) (sA 8 x_tName_7 w_m))]) (O := []) (X := []) (List.Perm.refl _)) (va_recv hK.1 hW.1 (ci := 11) (q0 := 0) rfl rfl)) rfl rfl hl.1 rfl (lv_room (Nat.le_of_ble_eq_true rfl)) dX12_cut_89 ⟨Nat.le_refl _, Nat.le_refl _⟩) hW hA (wj_split (B := [(mw Y ad_m (sA 10 (fun _ => nI tk) (sA 7 x_tValue_7 (sA 6 x_tPlace_7 (sA 5 x_tKind_7 (sA 4 (fun _ => nI z) g_m))))) (sA 8 x_tName_7 w_m))]) (C := [(mw Y ad_m (sA 10 (fun _ => nI tk) (sA 7 x_tValue_7 (sA 6 x_tPlace_7 (sA 5 x_tKind_7 (sA 4 (fun _ => nI z) g_m))))) (sA 8 x_tName_7 w_m))]) (R := []) (List.Perm.refl _)) (fun r_47 u H locs hp_48 hW => ?_)
                        have hp_48 : r_47 = if (i + nl) < z then (g_m 3) (i + nl) &&& 255 else 0 := hp_48
                        have hW : zW D A s.heap H locs (wj [(mw Y ad_m (sA 10 (fun _ => nI tk) (sA 7 x_tValue_7 (sA 6 x_tPlace_7 (sA 5 x_tKind_7 (sA 4 (fun _ => nI z) g_m))))) (sA 8 x_tName_7 w_m))]) := hW.join
                        have hba : r_47 = (tbAt (g_m 3) z (i + nl) &&& 255) := hp_48.trans (tbAt_255 _ _ _)
                        subst hba
                        refine z_calli (wc := wj []) (wr := wj [(mw Y ad_m (sA 10 (fun _ => nI tk) (sA 7 x_tValue_7 (sA 6 x_tPlace_7 (sA 5 x_tKind_7 (sA 4 (fun _ => nI z) g_m))))) (sA 8 x_tName_7 w_m))]) (va_runS (As := [.int (tbAt (g_m 3) z (i + nl) &&& 255)]) (rest := []) ⟨hx, hb, hml, hown, hts⟩ (m_X12_isLetter l D Y (tbAt (g_m 3) z (i + nl) &&& 255) H.size) (va_cwS 1 hts (lw_S q1891 q1892 q133 q1893) rfl rfl rfl (by decide +kernel) ⟨Nat.le_of_ble_eq_true rfl, Nat.le_of_ble_eq_true rfl⟩) (zPre hK hW hR (wj_split3 (B := [(mw Y ad_m (sA 10 (fun _ => nI tk) (sA 7 x_tValue_7 (sA 6 x_tPlace_7 (sA 5 x_tKind_7 (sA 4 (fun _ => nI z) g_m))))) (sA 8 x_tName_7 w_m))]) (R := []) (C := []) (O := []) (X := [(mw Y ad_m (sA 10 (fun _ => nI tk) (sA 7 x_tValue_7 (sA 6 x_tPlace_7 (sA 5 x_tKind_7 (sA 4 (fun _ => nI z) g_m))))) (sA 8 x_tName_7 w_m))]) (List.Perm.refl _))) rfl rfl hl.1 rfl (lv_room (Nat.le_of_ble_eq_true rfl)) dX12_cut_92 ⟨Nat.le_refl _, Nat.le_refl _⟩) hW hA (wj_split (B := [(mw Y ad_m (sA 10 (fun _ => nI tk) (sA 7 x_tValue_7 (sA 6 x_tPlace_7 (sA 5 x_tKind_7 (sA 4 (fun _ => nI z) g_m))))) (sA 8 x_tName_7 w_m))]) (C := []) (R := [(mw Y ad_m (sA 10 (fun _ => nI tk) (sA 7 x_tValue_7 (sA 6 x_tPlace_7 (sA 5 x_tKind_7 (sA 4 (fun _ => nI z) g_m))))) (sA 8 x_tName_7 w_m))]) (List.Perm.refl _)) (fun r_49 u H locs hp_50 hW => ?_)
                        have hp_50 : r_49 = zb (¬ (tbAt (g_m 3) z (i + nl) &&& 255) < 97 ∧ ¬ 122 < (tbAt (g_m 3) z (i + nl) &&& 255)) := hp_50
                        have hW : zW D A s.heap H locs (wj [(mw Y ad_m (sA 10 (fun _ => nI tk) (sA 7 x_tValue_7 (sA 6 x_tPlace_7 (sA 5 x_tKind_7 (sA 4 (fun _ => nI z) g_m))))) (sA 8 x_tName_7 w_m))]) := hW.join
                        refine lv_if_eq (tgt := 124) hx hb dX12_cut_95 (by decide) (fun c_51 => ?_) (fun c_51 => ?_)
                        · have c_51 : ¬ (¬ (tbAt (g_m 3) z (i + nl) &&& 255) < 97 ∧ ¬ 122 < (tbAt (g_m 3) z (i + nl) &&& 255)) := zb_eq hp_50 c_51
                          have hnLk : ¬ isL (tbAt (g_m 3) z (i + nl)) := fun q => c_51 ((b_L (tbAt_b hTP _)).mpr q)
                          obtain ⟨htok, hn1⟩ := tok_L hLn hnLk hL0
                          refine lv_iload_n hx hb dX12_cut_124 rfl (lv_at hl 1 rfl) ?_
                          refine lv_bipush (v := 8) hx hb dX12_cut_125 (by decide) ?_
                          refine lv_icmp_le (tgt := 134) hx hb dX12_cut_127 (by decide) (fun c_52 => ?_) (fun c_52 => ?_)
                          · have c_52 : nl ≤ 8 := (nI_leI (a := nl) (b := 8) (by as_aux_lemma => omega) (by as_aux_lemma => omega)).mp c_52
                            refine lv_iconst (v := 1) hx hb dX12_cut_134 (by decide) ?_
                            refine lv_istore (lv' := [(6, .int 1), (4, .long v4_85), (3, .int (nI nl)), (2, .int (tbAt (g_m 3) z i &&& 255)), (1, .int (nI i)), (0, .ref (ad_m 0))]) hx hb dX12_cut_135 hl (by decide) rfl (fun ls hl => ?_)
                            refine lv_iload_n hx hb dX12_cut_137 rfl (lv_at hl 2 rfl) ?_
                            refine lv_bipush (v := 7) hx hb dX12_cut_138 (by decide) ?_
                            refine lv_icmp_gt (tgt := 179) hx hb dX12_cut_140 (by decide) (fun c_53 => ?_) (fun c_53 => ?_)
                            · have c_53 : 7 < nl := (nI_ltI (a := 7) (b := nl) (by as_aux_lemma => omega) (by as_aux_lemma => omega)).mp c_53
                              have hkl : (1 : Int32) = nI (lkind (tbAt (g_m 3) z) i nl) := by rw [kind_long (by as_aux_lemma => omega), if_neg (by as_aux_lemma => omega)]; rfl
                              refine lv_aload_n hx hb dX12_cut_179 rfl (lv_at hl 5 rfl) ?_
                              refine lv_iload hx hb dX12_cut_180 (lv_at hl 0 rfl) ?_
                              refine lv_iload_n hx hb dX12_cut_182 rfl (lv_at hl 4 rfl) ?_
                              refine lv_iconst (v := 0) hx hb dX12_cut_183 (by decide) ?_
                              refine lv_lload hx hb dX12_cut_184 (lv_at hl 1 rfl) ?_
                              refine z_callv (wc := wj [(mw Y ad_m (sA 10 (fun _ => nI tk) (sA 7 x_tValue_7 (sA 6 x_tPlace_7 (sA 5 x_tKind_7 (sA 4 (fun _ => nI z) g_m))))) (sA 8 x_tName_7 w_m))]) (wr := wj []) (va_runV (As := [.int 1, .int (nI i), .int 0, .long v4_85]) (rest := []) ⟨hx, hb, hml, hown, hts⟩ (m_X12_token l D Y ad_m (sA 10 (fun _ => nI tk) (sA 7 x_tValue_7 (sA 6 x_tPlace_7 (sA 5 x_tKind_7 (sA 4 (fun _ => nI z) g_m))))) (sA 8 x_tName_7 w_m) tk 1 (nI i) 0 v4_85 H.size (show tk ≤ 401 from by first | assumption | omega | grind)) (cwV 4 hts (lw_V q1887 q1889 qs60 q133 q1890) rfl rfl rfl (by decide +kernel) ⟨Nat.le_of_ble_eq_true rfl, Nat.le_of_ble_eq_true rfl⟩) (zPreV hK hW hR (wj_split3 (B := [(mw Y ad_m (sA 10 (fun _ => nI tk) (sA 7 x_tValue_7 (sA 6 x_tPlace_7 (sA 5 x_tKind_7 (sA 4 (fun _ => nI z) g_m))))) (sA 8 x_tName_7 w_m))]) (R := []) (C := [(mw Y ad_m (sA 10 (fun _ => nI tk) (sA 7 x_tValue_7 (sA 6 x_tPlace_7 (sA 5 x_tKind_7 (sA 4 (fun _ => nI z) g_m))))) (sA 8 x_tName_7 w_m))]) (O := []) (X := []) (List.Perm.refl _)) (va_recv hK.1 hW.1 (ci := 11) (q0 := 0) rfl rfl)) rfl rfl hl.1 rfl (lv_room (Nat.le_of_ble_eq_true rfl)) dX12_cut_186 ⟨Nat.le_refl _, Nat.le_refl _⟩) hW hA (wj_split (B := [(mw Y ad_m (sA 10 (fun _ => nI tk) (sA 7 x_tValue_7 (sA 6 x_tPlace_7 (sA 5 x_tKind_7 (sA 4 (fun _ => nI z) g_m))))) (sA 8 x_tName_7 w_m))]) (C := [(mw Y ad_m (sA 10 (fun _ => nI tk) (sA 7 x_tValue_7 (sA 6 x_tPlace_7 (sA 5 x_tKind_7 (sA 4 (fun _ => nI z) g_m))))) (sA 8 x_tName_7 w_m))]) (R := []) (List.Perm.refl _)) (fun  u H locs hp_55 hW => ?_)
                              obtain ⟨utKind_56, utPlace_57, utValue_58, utName_59, utokens_60⟩ := u
                              have hp_55 : utKind_56 = upd x_tKind_7 tk 1 ∧ utPlace_57 = upd x_tPlace_7 tk (nI i) ∧ utValue_58 = upd x_tValue_7 tk 0 ∧ utName_59 = vp_updL x_tName_7 tk v4_85 ∧ utokens_60 = tk + 1 := hp_55
                              have hW : zW D A s.heap H locs (wj [(mw Y ad_m (sA 10 (fun _ => nI utokens_60) (sA 7 utValue_58 (sA 6 utPlace_57 (sA 5 utKind_56 (sA 4 (fun _ => nI z) g_m))))) (sA 8 utName_59 w_m))]) := hW.join
                              obtain ⟨et1, et2, et3, et4, et5⟩ := hp_55
                              refine lv_iload_n hx hb dX12_cut_189 rfl (lv_at hl 4 rfl) ?_
                              refine lv_iload_n hx hb dX12_cut_190 rfl (lv_at hl 2 rfl) ?_
                              refine lv_iadd hx hb dX12_cut_191 ?_
                              refine lv_topi (nm_r (e' := nI (i + nl)) (nI_add i nl) ?_)
                              refine lv_istore_n (lv' := [(1, .int (nI (i + nl))), (6, .int 1), (4, .long v4_85), (3, .int (nI nl)), (2, .int (tbAt (g_m 3) z i &&& 255)), (0, .ref (ad_m 0))]) hx hb dX12_cut_192 rfl hl (by decide) rfl (fun ls hl => ?_)
                              refine lv_goto (tgt := 291) hx hb dX12_cut_193 (by decide) ?_
                              refine lv_goto (tgt := 7) hx hb dX12_cut_291 (by decide) ?_
                              have hin := tokAt_le (tbAt (g_m 3) z) (show i < z by omega)
                              rw [htok] at hin
                              have hin : i + nl ≤ z := hin
                              exact ih_7 (i + nl) utKind_56 utPlace_57 utValue_58 utName_59 utokens_60 (Dl ++ [(lkind (tbAt (g_m 3) z) i nl, i, i + nl)]) (by as_aux_lemma => omega) (by as_aux_lemma => omega) (by rw [List.length_append]; show _ = Dl.length + 1 ∧ _; omega) (by rw [hLX, LX_tok (by as_aux_lemma => omega) hnsp, htok, List.append_assoc]; rfl) (by rw [et1, et2, et3, et4]; exact hRW.snoc (rowL hkl hnm) hDl.1) _ _ hW _ (lv_sub hl [0, 5] rfl)
                            · have c_53 : ¬ (7 < nl) := fun hz_ => c_53 ((nI_ltI (a := 7) (b := nl) (by as_aux_lemma => omega) (by as_aux_lemma => omega)).mpr hz_)
                              refine lv_iconst (v := 0) hx hb dX12_cut_143 (by decide) ?_
                              refine lv_istore (lv' := [(7, .int 0), (6, .int 1), (4, .long v4_85), (3, .int (nI nl)), (2, .int (tbAt (g_m 3) z i &&& 255)), (1, .int (nI i)), (0, .ref (ad_m 0))]) hx hb dX12_cut_144 hl (by decide) rfl (fun ls hl => ?_)
                              have loop_146 : ∀ (n : Nat) (k : Nat) (v6_146 : Int32), 20 - k < n → (k ≤ 20) → ((v6_146 = 1 ∧ ∀ j, j < k → cutL (tbAt (g_m 3) z) i (i + nl) ≠ wchs j) ∨ (∃ j, j < k ∧ j < 20 ∧ cutL (tbAt (g_m 3) z) i (i + nl) = wchs j ∧ v6_146 = nI (20 + j))) → ∀ (H : Heap) (locs : List Loc), zW D A s.heap H locs (wj [(mw Y ad_m (sA 10 (fun _ => nI tk) (sA 7 x_tValue_7 (sA 6 x_tPlace_7 (sA 5 x_tKind_7 (sA 4 (fun _ => nI z) g_m))))) (sA 8 x_tName_7 w_m))]) → ∀ (ls : Array Slot), lv_has ls 8 [(7, .int (nI k)), (6, .int v6_146), (4, .long v4_85), (3, .int (nI nl)), (2, .int (tbAt (g_m 3) z i &&& 255)), (1, .int (nI i)), (0, .ref (ad_m 0))] → W p l e (headSpec (ws_ yX12_cut cX12_cut 8 none) ({ frames := 3, cells := 0, slots := 0, locals := 61 })).room s m ([.ref (ad_m 0)] : List Value).toArray below meth c H locs 0 0 (MQ below (va_Qv (fun (u : (Nat → Int32) × (Nat → Int32) × (Nat → Int32) × (Nat → Int64) × (Nat)) => ∃ D, ROWS (tbAt (g_m 3) z) D u.1 u.2.1 u.2.2.1 u.2.2.2.1 ∧ u.2.2.2.2 = D.length ∧ (∃ R, LX (tbAt (g_m 3) z) z 0 = D ++ R) ∧ (LX (tbAt (g_m 3) z) z 0 = D ∨ 400 < D.length)) (zB D (fun (u : (Nat → Int32) × (Nat → Int32) × (Nat → Int32) × (Nat → Int64) × (Nat)) => (wj [(mw Y ad_m (sA 10 (fun _ => nI u.2.2.2.2) (sA 7 u.2.2.1 (sA 6 u.2.1 (sA 5 u.1 (sA 4 (fun _ => nI z) g_m))))) (sA 8 u.2.2.2.1 w_m))])) A) A) ([.ref (ad_m 0)] : List Value).toArray s 0 0 A) (F0 m 146 ls []) := by
                                intro n
                                induction n with
                                | zero =>
                                  intro k v6_146 hmz
                                  exact absurd hmz (Nat.not_lt_zero _)
                                | succ n ih =>
                                  intro k v6_146 hm_146 hk20 hkd H locs hW ls hl
                                  have ih_146 := ih
                                  clear ih
                                  refine lv_iload hx hb dX12_cut_146 (lv_at hl 0 rfl) ?_
                                  refine lv_bipush (v := 20) hx hb dX12_cut_148 (by decide) ?_
                                  refine lv_icmp_ge (tgt := 179) hx hb dX12_cut_150 (by decide) (fun c_61 => ?_) (fun c_61 => ?_)
                                  · have c_61 : 20 ≤ k := (nI_leI (a := 20) (b := k) (by as_aux_lemma => omega) (by as_aux_lemma => omega)).mp c_61
                                    have hkl : v6_146 = nI (lkind (tbAt (g_m 3) z) i nl) := by
                                      rcases hkd with ⟨q1, q2⟩ | ⟨j, q1, q2, q3, q4⟩
                                      · rw [kind_no (fun j hj => q2 j (by as_aux_lemma => omega)), if_neg (by as_aux_lemma => omega), q1]; rfl
                                      · rw [kind_yes q2 q3, q4]
                                    refine lv_aload_n hx hb dX12_cut_179 rfl (lv_at hl 6 rfl) ?_
                                    refine lv_iload hx hb dX12_cut_180 (lv_at hl 1 rfl) ?_
                                    refine lv_iload_n hx hb dX12_cut_182 rfl (lv_at hl 5 rfl) ?_
                                    refine lv_iconst (v := 0) hx hb dX12_cut_183 (by decide) ?_
                                    refine lv_lload hx hb dX12_cut_184 (lv_at hl 2 rfl) ?_
                                    refine z_callv (wc := wj [(mw Y ad_m (sA 10 (fun _ => nI tk) (sA 7 x_tValue_7 (sA 6 x_tPlace_7 (sA 5 x_tKind_7 (sA 4 (fun _ => nI z) g_m))))) (sA 8 x_tName_7 w_m))]) (wr := wj []) (va_runV (As := [.int v6_146, .int (nI i), .int 0, .long v4_85]) (rest := []) ⟨hx, hb, hml, hown, hts⟩ (m_X12_token l D Y ad_m (sA 10 (fun _ => nI tk) (sA 7 x_tValue_7 (sA 6 x_tPlace_7 (sA 5 x_tKind_7 (sA 4 (fun _ => nI z) g_m))))) (sA 8 x_tName_7 w_m) tk v6_146 (nI i) 0 v4_85 H.size (show tk ≤ 401 from by first | assumption | omega | grind)) (cwV 4 hts (lw_V q1887 q1889 qs60 q133 q1890) rfl rfl rfl (by decide +kernel) ⟨Nat.le_of_ble_eq_true rfl, Nat.le_of_ble_eq_true rfl⟩) (zPreV hK hW hR (wj_split3 (B := [(mw Y ad_m (sA 10 (fun _ => nI tk) (sA 7 x_tValue_7 (sA 6 x_tPlace_7 (sA 5 x_tKind_7 (sA 4 (fun _ => nI z) g_m))))) (sA 8 x_tName_7 w_m))]) (R := []) (C := [(mw Y ad_m (sA 10 (fun _ => nI tk) (sA 7 x_tValue_7 (sA 6 x_tPlace_7 (sA 5 x_tKind_7 (sA 4 (fun _ => nI z) g_m))))) (sA 8 x_tName_7 w_m))]) (O := []) (X := []) (List.Perm.refl _)) (va_recv hK.1 hW.1 (ci := 11) (q0 := 0) rfl rfl)) rfl rfl hl.1 rfl (lv_room (Nat.le_of_ble_eq_true rfl)) dX12_cut_186 ⟨Nat.le_refl _, Nat.le_refl _⟩) hW hA (wj_split (B := [(mw Y ad_m (sA 10 (fun _ => nI tk) (sA 7 x_tValue_7 (sA 6 x_tPlace_7 (sA 5 x_tKind_7 (sA 4 (fun _ => nI z) g_m))))) (sA 8 x_tName_7 w_m))]) (C := [(mw Y ad_m (sA 10 (fun _ => nI tk) (sA 7 x_tValue_7 (sA 6 x_tPlace_7 (sA 5 x_tKind_7 (sA 4 (fun _ => nI z) g_m))))) (sA 8 x_tName_7 w_m))]) (R := []) (List.Perm.refl _)) (fun  u H locs hp_63 hW => ?_)
                                    obtain ⟨utKind_64, utPlace_65, utValue_66, utName_67, utokens_68⟩ := u
                                    have hp_63 : utKind_64 = upd x_tKind_7 tk v6_146 ∧ utPlace_65 = upd x_tPlace_7 tk (nI i) ∧ utValue_66 = upd x_tValue_7 tk 0 ∧ utName_67 = vp_updL x_tName_7 tk v4_85 ∧ utokens_68 = tk + 1 := hp_63
                                    have hW : zW D A s.heap H locs (wj [(mw Y ad_m (sA 10 (fun _ => nI utokens_68) (sA 7 utValue_66 (sA 6 utPlace_65 (sA 5 utKind_64 (sA 4 (fun _ => nI z) g_m))))) (sA 8 utName_67 w_m))]) := hW.join
                                    obtain ⟨et1, et2, et3, et4, et5⟩ := hp_63
                                    refine lv_iload_n hx hb dX12_cut_189 rfl (lv_at hl 5 rfl) ?_
                                    refine lv_iload_n hx hb dX12_cut_190 rfl (lv_at hl 3 rfl) ?_
                                    refine lv_iadd hx hb dX12_cut_191 ?_
                                    refine lv_topi (nm_r (e' := nI (i + nl)) (nI_add i nl) ?_)
                                    refine lv_istore_n (lv' := [(1, .int (nI (i + nl))), (7, .int (nI k)), (6, .int v6_146), (4, .long v4_85), (3, .int (nI nl)), (2, .int (tbAt (g_m 3) z i &&& 255)), (0, .ref (ad_m 0))]) hx hb dX12_cut_192 rfl hl (by decide) rfl (fun ls hl => ?_)
                                    refine lv_goto (tgt := 291) hx hb dX12_cut_193 (by decide) ?_
                                    refine lv_goto (tgt := 7) hx hb dX12_cut_291 (by decide) ?_
                                    have hin := tokAt_le (tbAt (g_m 3) z) (show i < z by omega)
                                    rw [htok] at hin
                                    have hin : i + nl ≤ z := hin
                                    exact ih_7 (i + nl) utKind_64 utPlace_65 utValue_66 utName_67 utokens_68 (Dl ++ [(lkind (tbAt (g_m 3) z) i nl, i, i + nl)]) (by as_aux_lemma => omega) (by as_aux_lemma => omega) (by rw [List.length_append]; show _ = Dl.length + 1 ∧ _; omega) (by rw [hLX, LX_tok (by as_aux_lemma => omega) hnsp, htok, List.append_assoc]; rfl) (by rw [et1, et2, et3, et4]; exact hRW.snoc (rowL hkl hnm) hDl.1) _ _ hW _ (lv_sub hl [0, 6] rfl)
                                  · have c_61 : ¬ (20 ≤ k) := fun hz_ => c_61 ((nI_leI (a := 20) (b := k) (by as_aux_lemma => omega) (by as_aux_lemma => omega)).mpr hz_)
                                    refine lv_aload_n hx hb dX12_cut_153 rfl (lv_at hl 6 rfl) ?_
                                    refine va_get (v := .ref (ad_m 9)) (C := RX12) (T := TX12) (N := 75) (ci := 11) hx hb hts in_X12 hown hK.1 hW.1 0 rfl rfl 9 (by decide) (hts _ q1645) (fun _ h9 => h9) rfl dX12_cut_154 ?_
                                    refine lv_iload hx hb dX12_cut_157 (lv_at hl 0 rfl) ?_
                                    refine z_lald (v := (w_m 9) k) (f := w_m 9) (j := k) hx hb hK.1 hW.1 7 4 rfl rfl (vp_in_nI (n := k) (by as_aux_lemma => omega) (by decide)) (nI_clamp (n := k) (by as_aux_lemma => omega)) rfl dX12_cut_159 ?_
                                    refine lv_lload hx hb dX12_cut_160 (lv_at hl 2 rfl) ?_
                                    refine z_lcmp hx hb dX12_cut_162 (fun lc_69 hlc_69 => ?_)
                                    refine lv_if_ne (tgt := 173) hx hb dX12_cut_163 (by decide) (fun c_70 => ?_) (fun c_70 => ?_)
                                    · have hke : cutL (tbAt (g_m 3) z) i (i + nl) ≠ wchs k := fun q => c_70 (hlc_69.mpr (by rw [hKEY k (by as_aux_lemma => omega), hnm]; exact (key_eq hLn (by as_aux_lemma => omega)).mpr q))
                                      refine lv_iinc (v := nI (k + 1)) (lv' := [(7, .int (nI (k + 1))), (6, .int v6_146), (4, .long v4_85), (3, .int (nI nl)), (2, .int (tbAt (g_m 3) z i &&& 255)), (1, .int (nI i)), (0, .ref (ad_m 0))]) hx hb dX12_cut_173 hl (k := 0) rfl (nI_add k 1) (by decide) rfl (fun ls hl => ?_)
                                      refine lv_goto (tgt := 146) hx hb dX12_cut_176 (by decide) ?_
                                      exact ih_146 (k + 1) v6_146 (by as_aux_lemma => omega) (by as_aux_lemma => omega) (by
                                          rcases hkd with ⟨q1, q2⟩ | ⟨j, q1, q2, q3, q4⟩
                                          · refine Or.inl ⟨q1, fun j hj => ?_⟩
                                            by_cases q : j = k
                                            · rw [q]; exact hke
                                            · exact q2 j (by as_aux_lemma => omega)
                                          · exact Or.inr ⟨j, by omega, q2, q3, q4⟩) _ _ hW _ (lv_sub hl [0, 1, 2, 3, 4, 5, 6] rfl)
                                    · have hke : cutL (tbAt (g_m 3) z) i (i + nl) = wchs k := (key_eq hLn (by as_aux_lemma => omega)).mp (by rw [← hKEY k (by as_aux_lemma => omega), ← hnm]; exact hlc_69.mp c_70)
                                      refine lv_bipush (v := 20) hx hb dX12_cut_166 (by decide) ?_
                                      refine lv_iload hx hb dX12_cut_168 (lv_at hl 0 rfl) ?_
                                      refine lv_iadd hx hb dX12_cut_170 ?_
                                      refine lv_topi (nm_r (e' := nI (20 + k)) (nI_add 20 k) ?_)
                                      refine lv_istore (lv' := [(6, .int (nI (20 + k))), (7, .int (nI k)), (4, .long v4_85), (3, .int (nI nl)), (2, .int (tbAt (g_m 3) z i &&& 255)), (1, .int (nI i)), (0, .ref (ad_m 0))]) hx hb dX12_cut_171 hl (by decide) rfl (fun ls hl => ?_)
                                      refine lv_iinc (v := nI (k + 1)) (lv' := [(7, .int (nI (k + 1))), (6, .int (nI (20 + k))), (4, .long v4_85), (3, .int (nI nl)), (2, .int (tbAt (g_m 3) z i &&& 255)), (1, .int (nI i)), (0, .ref (ad_m 0))]) hx hb dX12_cut_173 hl (k := 1) rfl (nI_add k 1) (by decide) rfl (fun ls hl => ?_)
                                      refine lv_goto (tgt := 146) hx hb dX12_cut_176 (by decide) ?_
                                      exact ih_146 (k + 1) (nI (20 + k)) (by as_aux_lemma => omega) (by as_aux_lemma => omega) (by exact Or.inr ⟨k, by omega, by omega, hke, rfl⟩) _ _ hW _ (lv_sub hl [0, 1, 2, 3, 4, 5, 6] rfl)
                              exact loop_146 _ 0 1 (Nat.lt_succ_self _) (by as_aux_lemma => omega) (by exact Or.inl ⟨rfl, fun j hj => by omega⟩) _ _ hW _ (lv_sub hl [0, 1, 2, 3, 4, 5, 6] rfl)
                          · have c_52 : ¬ (nl ≤ 8) := fun hz_ => c_52 ((nI_leI (a := nl) (b := 8) (by as_aux_lemma => omega) (by as_aux_lemma => omega)).mpr hz_)
                            refine lv_iconst (v := 3) hx hb dX12_cut_130 (by decide) ?_
                            refine lv_goto (tgt := 135) hx hb dX12_cut_131 (by decide) ?_
                            refine lv_istore (lv' := [(6, .int 3), (4, .long v4_85), (3, .int (nI nl)), (2, .int (tbAt (g_m 3) z i &&& 255)), (1, .int (nI i)), (0, .ref (ad_m 0))]) hx hb dX12_cut_135 hl (by decide) rfl (fun ls hl => ?_)
                            refine lv_iload_n hx hb dX12_cut_137 rfl (lv_at hl 2 rfl) ?_
                            refine lv_bipush (v := 7) hx hb dX12_cut_138 (by decide) ?_
                            refine lv_icmp_gt (tgt := 179) hx hb dX12_cut_140 (by decide) (fun c_71 => ?_) (fun c_71 => ?_)
                            · have c_71 : 7 < nl := (nI_ltI (a := 7) (b := nl) (by as_aux_lemma => omega) (by as_aux_lemma => omega)).mp c_71
                              have hkl : (3 : Int32) = nI (lkind (tbAt (g_m 3) z) i nl) := by rw [kind_long (by as_aux_lemma => omega), if_pos (by as_aux_lemma => omega)]; rfl
                              refine lv_aload_n hx hb dX12_cut_179 rfl (lv_at hl 5 rfl) ?_
                              refine lv_iload hx hb dX12_cut_180 (lv_at hl 0 rfl) ?_
                              refine lv_iload_n hx hb dX12_cut_182 rfl (lv_at hl 4 rfl) ?_
                              refine lv_iconst (v := 0) hx hb dX12_cut_183 (by decide) ?_
                              refine lv_lload hx hb dX12_cut_184 (lv_at hl 1 rfl) ?_
                              refine z_callv (wc := wj [(mw Y ad_m (sA 10 (fun _ => nI tk) (sA 7 x_tValue_7 (sA 6 x_tPlace_7 (sA 5 x_tKind_7 (sA 4 (fun _ => nI z) g_m))))) (sA 8 x_tName_7 w_m))]) (wr := wj []) (va_runV (As := [.int 3, .int (nI i), .int 0, .long v4_85]) (rest := []) ⟨hx, hb, hml, hown, hts⟩ (m_X12_token l D Y ad_m (sA 10 (fun _ => nI tk) (sA 7 x_tValue_7 (sA 6 x_tPlace_7 (sA 5 x_tKind_7 (sA 4 (fun _ => nI z) g_m))))) (sA 8 x_tName_7 w_m) tk 3 (nI i) 0 v4_85 H.size (show tk ≤ 401 from by first | assumption | omega | grind)) (cwV 4 hts (lw_V q1887 q1889 qs60 q133 q1890) rfl rfl rfl (by decide +kernel) ⟨Nat.le_of_ble_eq_true rfl, Nat.le_of_ble_eq_true rfl⟩) (zPreV hK hW hR (wj_split3 (B := [(mw Y ad_m (sA 10 (fun _ => nI tk) (sA 7 x_tValue_7 (sA 6 x_tPlace_7 (sA 5 x_tKind_7 (sA 4 (fun _ => nI z) g_m))))) (sA 8 x_tName_7 w_m))]) (R := []) (C := [(mw Y ad_m (sA 10 (fun _ => nI tk) (sA 7 x_tValue_7 (sA 6 x_tPlace_7 (sA 5 x_tKind_7 (sA 4 (fun _ => nI z) g_m))))) (sA 8 x_tName_7 w_m))]) (O := []) (X := []) (List.Perm.refl _)) (va_recv hK.1 hW.1 (ci := 11) (q0 := 0) rfl rfl)) rfl rfl hl.1 rfl (lv_room (Nat.le_of_ble_eq_true rfl)) dX12_cut_186 ⟨Nat.le_refl _, Nat.le_refl _⟩) hW hA (wj_split (B := [(mw Y ad_m (sA 10 (fun _ => nI tk) (sA 7 x_tValue_7 (sA 6 x_tPlace_7 (sA 5 x_tKind_7 (sA 4 (fun _ => nI z) g_m))))) (sA 8 x_tName_7 w_m))]) (C := [(mw Y ad_m (sA 10 (fun _ => nI tk) (sA 7 x_tValue_7 (sA 6 x_tPlace_7 (sA 5 x_tKind_7 (sA 4 (fun _ => nI z) g_m))))) (sA 8 x_tName_7 w_m))]) (R := []) (List.Perm.refl _)) (fun  u H locs hp_73 hW => ?_)
                              obtain ⟨utKind_74, utPlace_75, utValue_76, utName_77, utokens_78⟩ := u
                              have hp_73 : utKind_74 = upd x_tKind_7 tk 3 ∧ utPlace_75 = upd x_tPlace_7 tk (nI i) ∧ utValue_76 = upd x_tValue_7 tk 0 ∧ utName_77 = vp_updL x_tName_7 tk v4_85 ∧ utokens_78 = tk + 1 := hp_73
                              have hW : zW D A s.heap H locs (wj [(mw Y ad_m (sA 10 (fun _ => nI utokens_78) (sA 7 utValue_76 (sA 6 utPlace_75 (sA 5 utKind_74 (sA 4 (fun _ => nI z) g_m))))) (sA 8 utName_77 w_m))]) := hW.join
                              obtain ⟨et1, et2, et3, et4, et5⟩ := hp_73
                              refine lv_iload_n hx hb dX12_cut_189 rfl (lv_at hl 4 rfl) ?_
                              refine lv_iload_n hx hb dX12_cut_190 rfl (lv_at hl 2 rfl) ?_
                              refine lv_iadd hx hb dX12_cut_191 ?_
                              refine lv_topi (nm_r (e' := nI (i + nl)) (nI_add i nl) ?_)
                              refine lv_istore_n (lv' := [(1, .int (nI (i + nl))), (6, .int 3), (4, .long v4_85), (3, .int (nI nl)), (2, .int (tbAt (g_m 3) z i &&& 255)), (0, .ref (ad_m 0))]) hx hb dX12_cut_192 rfl hl (by decide) rfl (fun ls hl => ?_)
                              refine lv_goto (tgt := 291) hx hb dX12_cut_193 (by decide) ?_
                              refine lv_goto (tgt := 7) hx hb dX12_cut_291 (by decide) ?_
                              have hin := tokAt_le (tbAt (g_m 3) z) (show i < z by omega)
                              rw [htok] at hin
                              have hin : i + nl ≤ z := hin
                              exact ih_7 (i + nl) utKind_74 utPlace_75 utValue_76 utName_77 utokens_78 (Dl ++ [(lkind (tbAt (g_m 3) z) i nl, i, i + nl)]) (by as_aux_lemma => omega) (by as_aux_lemma => omega) (by rw [List.length_append]; show _ = Dl.length + 1 ∧ _; omega) (by rw [hLX, LX_tok (by as_aux_lemma => omega) hnsp, htok, List.append_assoc]; rfl) (by rw [et1, et2, et3, et4]; exact hRW.snoc (rowL hkl hnm) hDl.1) _ _ hW _ (lv_sub hl [0, 5] rfl)
                            · have c_71 : ¬ (7 < nl) := fun hz_ => c_71 ((nI_ltI (a := 7) (b := nl) (by as_aux_lemma => omega) (by as_aux_lemma => omega)).mpr hz_)
                              omega
                        · have c_51 : ¬ (tbAt (g_m 3) z (i + nl) &&& 255) < 97 ∧ ¬ 122 < (tbAt (g_m 3) z (i + nl) &&& 255) := zb_ne hp_50 c_51
                          have hLk : isL (tbAt (g_m 3) z (i + nl)) := (b_L (tbAt_b hTP _)).mp c_51
                          refine lv_iload_n hx hb dX12_cut_98 rfl (lv_at hl 1 rfl) ?_
                          refine lv_bipush (v := 8) hx hb dX12_cut_99 (by decide) ?_
                          refine lv_icmp_ge (tgt := 118) hx hb dX12_cut_101 (by decide) (fun c_79 => ?_) (fun c_79 => ?_)
                          · have c_79 : 8 ≤ nl := (nI_leI (a := 8) (b := nl) (by as_aux_lemma => omega) (by as_aux_lemma => omega)).mp c_79
                            refine lv_iinc (v := nI (nl + 1)) (lv' := [(3, .int (nI (nl + 1))), (4, .long v4_85), (2, .int (tbAt (g_m 3) z i &&& 255)), (1, .int (nI i)), (0, .ref (ad_m 0))]) hx hb dX12_cut_118 hl (k := 1) rfl (nI_add nl 1) (by decide) rfl (fun ls hl => ?_)
                            refine lv_goto (tgt := 85) hx hb dX12_cut_121 (by decide) ?_
                            exact ih_85 v4_85 (nl + 1) (by as_aux_lemma => omega) (by have := tbAt_lt (Or.inl hLk); omega) (by
                                intro j hj; by_cases q : j = nl; · rw [q]; exact hLk
                                · exact hLn j (by as_aux_lemma => omega)) (by rw [hnm]; congr 1; exact nv8_st (by as_aux_lemma => omega)) _ _ hW _ (lv_sub hl [1, 0, 2, 3, 4] rfl)
                          · have c_79 : ¬ (8 ≤ nl) := fun hz_ => c_79 ((nI_leI (a := 8) (b := nl) (by as_aux_lemma => omega) (by as_aux_lemma => omega)).mpr hz_)
                            refine lv_lload hx hb dX12_cut_104 (lv_at hl 0 rfl) ?_
                            refine lv_aload_n hx hb dX12_cut_106 rfl (lv_at hl 4 rfl) ?_
                            refine lv_iload_n hx hb dX12_cut_107 rfl (lv_at hl 3 rfl) ?_
                            refine lv_iload_n hx hb dX12_cut_108 rfl (lv_at hl 1 rfl) ?_
                            refine lv_iadd hx hb dX12_cut_109 ?_
                            refine lv_topi (nm_r (e' := nI (i + nl)) (nI_add i nl) ?_)
                            refine z_calli (wc := wj [(mw Y ad_m (sA 10 (fun _ => nI tk) (sA 7 x_tValue_7 (sA 6 x_tPlace_7 (sA 5 x_tKind_7 (sA 4 (fun _ => nI z) g_m))))) (sA 8 x_tName_7 w_m))]) (wr := wj []) (va_runV (As := [.int (nI (i + nl))]) (rest := [.long v4_85]) ⟨hx, hb, hml, hown, hts⟩ (m_X12_byteAt l D Y ad_m (sA 10 (fun _ => nI tk) (sA 7 x_tValue_7 (sA 6 x_tPlace_7 (sA 5 x_tKind_7 (sA 4 (fun _ => nI z) g_m))))) (sA 8 x_tName_7 w_m) (i + nl) z H.size (show z ≤ 2000 from by first | assumption | omega | grind) (show (i + nl) < 4000 from by first | assumption | omega | grind)) (cwV 1 hts (lw_V q1883 q1885 qs59 q133 q1886) rfl rfl rfl (by decide +kernel) ⟨Nat.le_of_ble_eq_true rfl, Nat.le_of_ble_eq_true rfl⟩) (zPreV hK hW hR (wj_split3 (B := [(mw Y ad_m (sA 10 (fun _ => nI tk) (sA 7 x_tValue_7 (sA 6 x_tPlace_7 (sA 5 x_tKind_7 (sA 4 (fun _ => nI z) g_m))))) (sA 8 x_tName_7 w_m))]) (R := []) (C := [(mw Y ad_m (sA 10 (fun _ => nI tk) (sA 7 x_tValue_7 (sA 6 x_tPlace_7 (sA 5 x_tKind_7 (sA 4 (fun _ => nI z) g_m))))) (sA 8 x_tName_7 w_m))]) (O := []) (X := []) (List.Perm.refl _)) (va_recv hK.1 hW.1 (ci := 11) (q0 := 0) rfl rfl)) rfl rfl hl.1 rfl (lv_room (Nat.le_of_ble_eq_true rfl)) dX12_cut_110 ⟨Nat.le_refl _, Nat.le_refl _⟩) hW hA (wj_split (B := [(mw Y ad_m (sA 10 (fun _ => nI tk) (sA 7 x_tValue_7 (sA 6 x_tPlace_7 (sA 5 x_tKind_7 (sA 4 (fun _ => nI z) g_m))))) (sA 8 x_tName_7 w_m))]) (C := [(mw Y ad_m (sA 10 (fun _ => nI tk) (sA 7 x_tValue_7 (sA 6 x_tPlace_7 (sA 5 x_tKind_7 (sA 4 (fun _ => nI z) g_m))))) (sA 8 x_tName_7 w_m))]) (R := []) (List.Perm.refl _)) (fun r_80 u H locs hp_81 hW => ?_)
                            have hp_81 : r_80 = if (i + nl) < z then (g_m 3) (i + nl) &&& 255 else 0 := hp_81
                            have hW : zW D A s.heap H locs (wj [(mw Y ad_m (sA 10 (fun _ => nI tk) (sA 7 x_tValue_7 (sA 6 x_tPlace_7 (sA 5 x_tKind_7 (sA 4 (fun _ => nI z) g_m))))) (sA 8 x_tName_7 w_m))]) := hW.join
                            have hba : r_80 = (tbAt (g_m 3) z (i + nl) &&& 255) := hp_81.trans (tbAt_255 _ _ _)
                            subst hba
                            refine z_calll (wc := wj []) (wr := wj [(mw Y ad_m (sA 10 (fun _ => nI tk) (sA 7 x_tValue_7 (sA 6 x_tPlace_7 (sA 5 x_tKind_7 (sA 4 (fun _ => nI z) g_m))))) (sA 8 x_tName_7 w_m))]) (va_runS (As := [.long v4_85, .int (tbAt (g_m 3) z (i + nl) &&& 255)]) (rest := []) ⟨hx, hb, hml, hown, hts⟩ (m_X12_appends l D Y v4_85 (tbAt (g_m 3) z (i + nl) &&& 255) H.size) (va_cwS 2 hts (lw_S q1621 q1622 q133 q1623) rfl rfl rfl (by decide +kernel) ⟨Nat.le_of_ble_eq_true rfl, Nat.le_of_ble_eq_true rfl⟩) (zPre hK hW hR (wj_split3 (B := [(mw Y ad_m (sA 10 (fun _ => nI tk) (sA 7 x_tValue_7 (sA 6 x_tPlace_7 (sA 5 x_tKind_7 (sA 4 (fun _ => nI z) g_m))))) (sA 8 x_tName_7 w_m))]) (R := []) (C := []) (O := []) (X := [(mw Y ad_m (sA 10 (fun _ => nI tk) (sA 7 x_tValue_7 (sA 6 x_tPlace_7 (sA 5 x_tKind_7 (sA 4 (fun _ => nI z) g_m))))) (sA 8 x_tName_7 w_m))]) (List.Perm.refl _))) rfl rfl hl.1 rfl (lv_room (Nat.le_of_ble_eq_true rfl)) dX12_cut_113 ⟨Nat.le_refl _, Nat.le_refl _⟩) hW hA (wj_split (B := [(mw Y ad_m (sA 10 (fun _ => nI tk) (sA 7 x_tValue_7 (sA 6 x_tPlace_7 (sA 5 x_tKind_7 (sA 4 (fun _ => nI z) g_m))))) (sA 8 x_tName_7 w_m))]) (C := []) (R := [(mw Y ad_m (sA 10 (fun _ => nI tk) (sA 7 x_tValue_7 (sA 6 x_tPlace_7 (sA 5 x_tKind_7 (sA 4 (fun _ => nI z) g_m))))) (sA 8 x_tName_7 w_m))]) (List.Perm.refl _)) (fun r_82 u H locs hp_83 hW => ?_)
                            have hp_83 : r_82 = f_app v4_85 (tbAt (g_m 3) z (i + nl) &&& 255) := hp_83
                            have hW : zW D A s.heap H locs (wj [(mw Y ad_m (sA 10 (fun _ => nI tk) (sA 7 x_tValue_7 (sA 6 x_tPlace_7 (sA 5 x_tKind_7 (sA 4 (fun _ => nI z) g_m))))) (sA 8 x_tName_7 w_m))]) := hW.join
                            have hap := hp_83
                            refine lv_lstore (lv' := [(4, .long r_82), (3, .int (nI nl)), (2, .int (tbAt (g_m 3) z i &&& 255)), (1, .int (nI i)), (0, .ref (ad_m 0))]) hx hb dX12_cut_116 hl (by decide) rfl (fun ls hl => ?_)
                            refine lv_iinc (v := nI (nl + 1)) (lv' := [(3, .int (nI (nl + 1))), (4, .long r_82), (2, .int (tbAt (g_m 3) z i &&& 255)), (1, .int (nI i)), (0, .ref (ad_m 0))]) hx hb dX12_cut_118 hl (k := 1) rfl (nI_add nl 1) (by decide) rfl (fun ls hl => ?_)
                            refine lv_goto (tgt := 85) hx hb dX12_cut_121 (by decide) ?_
                            exact ih_85 r_82 (nl + 1) (by as_aux_lemma => omega) (by have := tbAt_lt (Or.inl hLk); omega) (by
                                intro j hj; by_cases q : j = nl; · rw [q]; exact hLk
                                · exact hLn j (by as_aux_lemma => omega)) (by rw [hap, b_E (tbAt_b hTP _) (Or.inl hLk), hnm]; exact nv8_up hLn hLk (by as_aux_lemma => omega)) _ _ hW _ (lv_sub hl [1, 0, 2, 3, 4] rfl)
                    exact loop_85 _ (0 : Int64) 0 (Nat.lt_succ_self _) (by as_aux_lemma => omega) (by intro j hj; omega) (by rw [nv8_0]; rfl) _ _ hW _ (lv_sub hl [0, 1, 2, 3, 4] rfl)
                · have hsp : isB (tbAt (g_m 3) z i) := (b_B (tbAt_b hTP i)).mp (Or.inl c_8)
                  refine lv_iinc (v := nI (i + 1)) (lv' := [(1, .int (nI (i + 1))), (2, .int (tbAt (g_m 3) z i &&& 255)), (0, .ref (ad_m 0))]) hx hb dX12_cut_67 hl (k := 1) rfl (nI_add i 1) (by decide) rfl (fun ls hl => ?_)
                  refine lv_goto (tgt := 291) hx hb dX12_cut_70 (by decide) ?_
                  refine lv_goto (tgt := 7) hx hb dX12_cut_291 (by decide) ?_
                  exact ih_7 (i + 1) x_tKind_7 x_tPlace_7 x_tValue_7 x_tName_7 tk Dl (by as_aux_lemma => omega) (by as_aux_lemma => omega) (by exact hDl) (by rw [hLX, LX_sp (by as_aux_lemma => omega) hsp]) (by exact hRW) _ _ hW _ (lv_sub hl [0, 2] rfl)
        · have c_4 : ¬ (i < z) := fun hz_ => c_4 ((nI_ltI (a := i) (b := z) (by as_aux_lemma => omega) (by as_aux_lemma => omega)).mpr hz_)
          refine lv_aload_n hx hb dX12_cut_31 rfl (lv_at hl 2 rfl) ?_
          refine lv_iconst (v := 0) hx hb dX12_cut_32 (by decide) ?_
          refine lv_aload_n hx hb dX12_cut_33 rfl (lv_at hl 2 rfl) ?_
          refine va_get (v := .int (nI z)) (C := RX12) (T := TX12) (N := 75) (ci := 11) hx hb hts in_X12 hown hK.1 hW.1 0 rfl rfl 4 (by decide) (hts _ q1640) (fun _ h9 => h9) rfl dX12_cut_34 ?_
          refine lv_iconst (v := 0) hx hb dX12_cut_37 (by decide) ?_
          refine lv_lconst (v := 0) hx hb dX12_cut_38 (by decide) ?_
          refine z_callv (wc := wj [(mw Y ad_m (sA 10 (fun _ => nI tk) (sA 7 x_tValue_7 (sA 6 x_tPlace_7 (sA 5 x_tKind_7 (sA 4 (fun _ => nI z) g_m))))) (sA 8 x_tName_7 w_m))]) (wr := wj []) (va_runV (As := [.int 0, .int (nI z), .int 0, .long (0 : Int64)]) (rest := []) ⟨hx, hb, hml, hown, hts⟩ (m_X12_token l D Y ad_m (sA 10 (fun _ => nI tk) (sA 7 x_tValue_7 (sA 6 x_tPlace_7 (sA 5 x_tKind_7 (sA 4 (fun _ => nI z) g_m))))) (sA 8 x_tName_7 w_m) tk 0 (nI z) 0 (0 : Int64) H.size (show tk ≤ 401 from by first | assumption | omega | grind)) (cwV 4 hts (lw_V q1887 q1889 qs60 q133 q1890) rfl rfl rfl (by decide +kernel) ⟨Nat.le_of_ble_eq_true rfl, Nat.le_of_ble_eq_true rfl⟩) (zPreV hK hW hR (wj_split3 (B := [(mw Y ad_m (sA 10 (fun _ => nI tk) (sA 7 x_tValue_7 (sA 6 x_tPlace_7 (sA 5 x_tKind_7 (sA 4 (fun _ => nI z) g_m))))) (sA 8 x_tName_7 w_m))]) (R := []) (C := [(mw Y ad_m (sA 10 (fun _ => nI tk) (sA 7 x_tValue_7 (sA 6 x_tPlace_7 (sA 5 x_tKind_7 (sA 4 (fun _ => nI z) g_m))))) (sA 8 x_tName_7 w_m))]) (O := []) (X := []) (List.Perm.refl _)) (va_recv hK.1 hW.1 (ci := 11) (q0 := 0) rfl rfl)) rfl rfl hl.1 rfl (lv_room (Nat.le_of_ble_eq_true rfl)) dX12_cut_39 ⟨Nat.le_refl _, Nat.le_refl _⟩) hW hA (wj_split (B := [(mw Y ad_m (sA 10 (fun _ => nI tk) (sA 7 x_tValue_7 (sA 6 x_tPlace_7 (sA 5 x_tKind_7 (sA 4 (fun _ => nI z) g_m))))) (sA 8 x_tName_7 w_m))]) (C := [(mw Y ad_m (sA 10 (fun _ => nI tk) (sA 7 x_tValue_7 (sA 6 x_tPlace_7 (sA 5 x_tKind_7 (sA 4 (fun _ => nI z) g_m))))) (sA 8 x_tName_7 w_m))]) (R := []) (List.Perm.refl _)) (fun  u H locs hp_85 hW => ?_)
          obtain ⟨utKind_86, utPlace_87, utValue_88, utName_89, utokens_90⟩ := u
          have hp_85 : utKind_86 = upd x_tKind_7 tk 0 ∧ utPlace_87 = upd x_tPlace_7 tk (nI z) ∧ utValue_88 = upd x_tValue_7 tk 0 ∧ utName_89 = vp_updL x_tName_7 tk (0 : Int64) ∧ utokens_90 = tk + 1 := hp_85
          have hW : zW D A s.heap H locs (wj [(mw Y ad_m (sA 10 (fun _ => nI utokens_90) (sA 7 utValue_88 (sA 6 utPlace_87 (sA 5 utKind_86 (sA 4 (fun _ => nI z) g_m))))) (sA 8 utName_89 w_m))]) := hW.join
          obtain ⟨et1, et2, et3, et4, et5⟩ := hp_85
          refine z_vret ((utKind_86, utPlace_87, utValue_88, utName_89, utokens_90) : (Nat → Int32) × (Nat → Int32) × (Nat → Int32) × (Nat → Int64) × (Nat)) hx hb hr hlocks hW rfl dX12_cut_42 ?_
          show ∃ D, ROWS (tbAt (g_m 3) z) D utKind_86 utPlace_87 utValue_88 utName_89 ∧ utokens_90 = D.length ∧ (∃ R, LX (tbAt (g_m 3) z) z 0 = D ++ R) ∧ (LX (tbAt (g_m 3) z) z 0 = D ∨ 400 < D.length)
          refine ⟨Dl ++ [(0, z, z)], ?_, ?_, ⟨[], ?_⟩, Or.inl ?_⟩
          · rw [et1, et2, et3, et4]; exact hRW.snoc ⟨rfl, rfl, fun q => by simp at q, fun q => by simp at q⟩ hDl.1
          · rw [et5, List.length_append]; show _ = Dl.length + 1; omega
          · rw [List.append_nil, hLX, LX_end (by as_aux_lemma => omega), show i = z by omega]
          · rw [hLX, LX_end (by as_aux_lemma => omega), show i = z by omega]
  exact loop_7 _ 0 (g_m 5) (g_m 6) (g_m 7) (w_m 8) 0 ([] : List ROW) (Nat.lt_succ_self _) (by as_aux_lemma => omega) (by exact ⟨rfl, by omega⟩) (by rfl) (by intro j r hj; simp at hj) _ _ hW _ (lv_sub hl [0, 1] rfl)
