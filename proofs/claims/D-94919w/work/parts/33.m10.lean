/-! the model: what would be, teaching -/
set_option maxRecDepth 100000
set_option maxHeartbeats 4000000 in
set_option maxRecDepth 100000 in
theorem m_X12_missed (l : Launch) (D : va_G) (Y : Nat → ClassId) (ad_m : Nat → Nat) (g_m : Nat → Nat → Int32) (w_m : Nat → Nat → Int64) (lv : Nat) (cn : Nat → Nat) (t : tab) (lw : Nat → Option LAW) (σ : tab) (U : List tab) (un : Nat) (B_ : Int) (kx : Int32) (wx : Int32) (sz : Nat) (hlv : lv < 2) (hTW : TW cn t lw) (hTM : TM lv cn t lw g_m) (hKN : KN (cn 2) σ U (g_m 59) (g_m 65) un) (hF1 : ∀ h, h < cn 1 → σ 1 h = t 2 h) (hF2 : σ 18 0 = t 12 2) (hWF : WF cn B_ σ) : Met l yX12_missed (ws_ yX12_missed cX12_missed 7 (some .int)) ({ frames := 6, cells := 0, slots := 0, locals := 141 }) (zPc D Y [.ref (ad_m 0), .int kx, .int wx] sz (wj []) (wj [(mw Y ad_m (sA 64 (fun _ => nI un) (sA 18 (fun _ => nI lv) g_m)) w_m)])) (va_Qi (fun (r : Int32) (u : (Nat → Int32) × (Nat → Int32) × (Nat → Int32) × (Nat → Int32) × (Int32) × (Int32) × (Nat → Int32)) => r = missedO cn lw t σ kx wx) (zB D (fun (u : (Nat → Int32) × (Nat → Int32) × (Nat → Int32) × (Nat → Int32) × (Int32) × (Int32) × (Nat → Int32)) => (wj [(mw Y ad_m (sA 64 (fun _ => nI un) (sA 63 u.2.1 (sA 62 u.2.2.2.2.2.2 (sA 61 (fun _ => u.2.2.2.2.2.1) (sA 60 u.1 (sA 58 (fun _ => u.2.2.2.2.1) (sA 57 u.2.2.2.1 (sA 56 u.2.2.1 (sA 18 (fun _ => nI lv) g_m))))))))) w_m)])) (va_A (wj [(mw Y ad_m (sA 64 (fun _ => nI un) (sA 18 (fun _ => nI lv) g_m)) w_m)]) sz)) (va_A (wj [(mw Y ad_m (sA 64 (fun _ => nI un) (sA 18 (fun _ => nI lv) g_m)) w_m)]) sz)) 0 0 (va_A (wj [(mw Y ad_m (sA 64 (fun _ => nI un) (sA 18 (fun _ => nI lv) g_m)) w_m)]) sz) := by
  refine Met.ofW (cc := cX12_missed) (maxL := 7) (ret := (some .int)) (by decide) rfl ?_
  intro p e s m args below meth c s₁ B hml hv
  obtain ⟨rfl, hsz, hW, hR, hK, hA⟩ := zEntry hv
  subst hsz
  have hx := B.exec
  have hb := B.bytes
  have hr := B.returns
  have hlocks := B.notSynchronized
  have hts : ∀ w ∈ lw_all, w.before _ s = true := fun w h => atoms_spec (ws := (ws_ yX12_missed cX12_missed 7 (some .int))) B.pre w (List.mem_cons_of_mem _ h)
  have hown : s.vm.findClass RX12 = some m.cls := findClass_of_methodNamed B.named
  generalize hAe : va_A (wj [(mw Y ad_m (sA 64 (fun _ => nI un) (sA 18 (fun _ => nI lv) g_m)) w_m)]) s.heap.size = A at hW hR hA ⊢
  have hl := lv_entry ([.ref (ad_m 0), .int kx, .int wx]) (n := 7) (Nat.le_of_ble_eq_true rfl)
  rw [lg_entry_eq]
  generalize (lg_sl ([.ref (ad_m 0), .int kx, .int wx]) ++ List.replicate (7 - (lg_sl ([.ref (ad_m 0), .int kx, .int wx])).length) Slot.unset).toArray = ls at hl ⊢
  have hl : lv_has ls 7 [(0, .ref (ad_m 0)), (1, .int kx), (2, .int wx)] := hl
  have hk8 := hTW.n2
  have hk6 := hTW.n1
  have hk60 := hTW.n0
  have hk5 := hTW.n3
  refine lv_iload_n hx hb dX12_missed_0 rfl (lv_at hl 1 rfl) ?_
  refine z_calli (wc := wj []) (wr := wj [(mw Y ad_m (sA 64 (fun _ => nI un) (sA 18 (fun _ => nI lv) g_m)) w_m)]) (va_runS (As := [.int kx]) (rest := []) ⟨hx, hb, hml, hown, hts⟩ (m_X12_isLong l D Y kx s.heap.size) (va_cwS 1 hts (lw_S q2158 q2159 q133 q2160) rfl rfl rfl (by decide +kernel) ⟨Nat.le_of_ble_eq_true rfl, Nat.le_of_ble_eq_true rfl⟩) (zPre hK hW hR (wj_split3 (B := [(mw Y ad_m (sA 64 (fun _ => nI un) (sA 18 (fun _ => nI lv) g_m)) w_m)]) (R := []) (C := []) (O := []) (X := [(mw Y ad_m (sA 64 (fun _ => nI un) (sA 18 (fun _ => nI lv) g_m)) w_m)]) (List.Perm.refl _))) rfl rfl hl.1 rfl (lv_room (Nat.le_of_ble_eq_true rfl)) dX12_missed_1 ⟨Nat.le_refl _, Nat.le_refl _⟩) hW hA (wj_split (B := [(mw Y ad_m (sA 64 (fun _ => nI un) (sA 18 (fun _ => nI lv) g_m)) w_m)]) (C := []) (R := [(mw Y ad_m (sA 64 (fun _ => nI un) (sA 18 (fun _ => nI lv) g_m)) w_m)]) (List.Perm.refl _)) (fun r_1 u H locs hp_2 hW => ?_)
  have hp_2 : r_1 = zb (inP kx 0 600) := hp_2
  have hW : zW D A s.heap H locs (wj [(mw Y ad_m (sA 64 (fun _ => nI un) (sA 18 (fun _ => nI lv) g_m)) w_m)]) := hW.join
  refine lv_if_eq (tgt := 16) hx hb dX12_missed_4 (by decide) (fun c_3 => ?_) (fun c_3 => ?_)
  · have c_3 : ¬ (inP kx 0 600) := zb_eq hp_2 c_3
    refine lv_iconst (v := (-1)) hx hb dX12_missed_16 (by decide) ?_
    refine z_ireti ((g_m 60, g_m 63, g_m 56, g_m 57, g_m 58 0, g_m 61 0, g_m 62) : (Nat → Int32) × (Nat → Int32) × (Nat → Int32) × (Nat → Int32) × (Int32) × (Int32) × (Nat → Int32)) hx hb hr hlocks rfl hW rfl dX12_missed_17 ?_
    show (-1) = missedO cn lw t σ kx wx
    unfold missedO
    exact Eq.symm (zi_f (by first | (intro hq; exact absurd hq.1 (by assumption)) | (intro hq; exact absurd hq.2 (by assumption))) _ _)
  · have c_3 : inP kx 0 600 := zb_ne hp_2 c_3
    obtain ⟨kq, lkq, hkq, ekq⟩ := inP_nat (x := kx) (a := 0) (b := 600) c_3 (by omega) (by omega)
    have ckq : kx.toNatClampNeg = kq := by rw [ekq]; exact nI_clamp (by omega)
    refine lv_iload_n hx hb dX12_missed_7 rfl (lv_at hl 2 rfl) ?_
    refine lv_iconst (v := 0) hx hb dX12_missed_8 (by decide) ?_
    refine lv_iconst (v := 1) hx hb dX12_missed_9 (by decide) ?_
    refine z_calli (wc := wj []) (wr := wj [(mw Y ad_m (sA 64 (fun _ => nI un) (sA 18 (fun _ => nI lv) g_m)) w_m)]) (va_runS (As := [.int wx, .int 0, .int 1]) (rest := []) ⟨hx, hb, hml, hown, hts⟩ (m_X12_in l D Y wx 0 1 H.size) (va_cwS 3 hts (lw_S q1997 q1998 q133 q1999) rfl rfl rfl (by decide +kernel) ⟨Nat.le_of_ble_eq_true rfl, Nat.le_of_ble_eq_true rfl⟩) (zPre hK hW hR (wj_split3 (B := [(mw Y ad_m (sA 64 (fun _ => nI un) (sA 18 (fun _ => nI lv) g_m)) w_m)]) (R := []) (C := []) (O := []) (X := [(mw Y ad_m (sA 64 (fun _ => nI un) (sA 18 (fun _ => nI lv) g_m)) w_m)]) (List.Perm.refl _))) rfl rfl hl.1 rfl (lv_room (Nat.le_of_ble_eq_true rfl)) dX12_missed_10 ⟨Nat.le_refl _, Nat.le_refl _⟩) hW hA (wj_split (B := [(mw Y ad_m (sA 64 (fun _ => nI un) (sA 18 (fun _ => nI lv) g_m)) w_m)]) (C := []) (R := [(mw Y ad_m (sA 64 (fun _ => nI un) (sA 18 (fun _ => nI lv) g_m)) w_m)]) (List.Perm.refl _)) (fun r_4 u H locs hp_5 hW => ?_)
    have hp_5 : r_4 = zb (¬ wx < 0 ∧ ¬ 1 < wx) := hp_5
    have hW : zW D A s.heap H locs (wj [(mw Y ad_m (sA 64 (fun _ => nI un) (sA 18 (fun _ => nI lv) g_m)) w_m)]) := hW.join
    refine lv_if_ne (tgt := 18) hx hb dX12_missed_13 (by decide) (fun c_6 => ?_) (fun c_6 => ?_)
    · have c_6 : ¬ wx < 0 ∧ ¬ 1 < wx := zb_ne hp_5 c_6
      refine lv_bipush (v := (-2)) hx hb dX12_missed_18 (by decide) ?_
      refine lv_istore_n (lv' := [(3, .int (-2)), (0, .ref (ad_m 0)), (1, .int kx), (2, .int wx)]) hx hb dX12_missed_20 rfl hl (by decide) rfl (fun ls hl => ?_)
      refine lv_bipush (v := (-2)) hx hb dX12_missed_21 (by decide) ?_
      refine lv_istore (lv' := [(4, .int (-2)), (3, .int (-2)), (0, .ref (ad_m 0)), (1, .int kx), (2, .int wx)]) hx hb dX12_missed_23 hl (by decide) rfl (fun ls hl => ?_)
      refine lv_iconst (v := 0) hx hb dX12_missed_25 (by decide) ?_
      refine lv_istore (lv' := [(5, .int 0), (4, .int (-2)), (3, .int (-2)), (0, .ref (ad_m 0)), (1, .int kx), (2, .int wx)]) hx hb dX12_missed_26 hl (by decide) rfl (fun ls hl => ?_)
      have loop_28 : ∀ (n : Nat) (rr : Nat) (v4_28 : Int32) (v3_28 : Int32) (x_row_28 : Nat → Int32) (x_isLoaded_28 : Nat → Int32) (x_variables_28 : Nat → Int32) (x_pile_28 : Nat → Int32) (x_isBroken_28 : Int32) (x_lots_28 : Int32) (x_farNow_28 : Nat → Int32), cn 2 - rr < n → (rr ≤ cn 2) → (msTo cn lw t σ kq rr = (v3_28, v4_28)) → ∀ (H : Heap) (locs : List Loc), zW D A s.heap H locs (wj [(mw Y ad_m (sA 64 (fun _ => nI un) (sA 63 x_isLoaded_28 (sA 62 x_farNow_28 (sA 61 (fun _ => x_lots_28) (sA 60 x_row_28 (sA 58 (fun _ => x_isBroken_28) (sA 57 x_pile_28 (sA 56 x_variables_28 (sA 18 (fun _ => nI lv) g_m))))))))) w_m)]) → ∀ (ls : Array Slot), lv_has ls 7 [(5, .int (nI rr)), (4, .int v4_28), (3, .int v3_28), (0, .ref (ad_m 0)), (1, .int kx), (2, .int wx)] → W p l e (headSpec (ws_ yX12_missed cX12_missed 7 (some .int)) ({ frames := 6, cells := 0, slots := 0, locals := 141 })).room s m ([.ref (ad_m 0), .int kx, .int wx] : List Value).toArray below meth c H locs 0 0 (MQ below (va_Qi (fun (r : Int32) (u : (Nat → Int32) × (Nat → Int32) × (Nat → Int32) × (Nat → Int32) × (Int32) × (Int32) × (Nat → Int32)) => r = missedO cn lw t σ kx wx) (zB D (fun (u : (Nat → Int32) × (Nat → Int32) × (Nat → Int32) × (Nat → Int32) × (Int32) × (Int32) × (Nat → Int32)) => (wj [(mw Y ad_m (sA 64 (fun _ => nI un) (sA 63 u.2.1 (sA 62 u.2.2.2.2.2.2 (sA 61 (fun _ => u.2.2.2.2.2.1) (sA 60 u.1 (sA 58 (fun _ => u.2.2.2.2.1) (sA 57 u.2.2.2.1 (sA 56 u.2.2.1 (sA 18 (fun _ => nI lv) g_m))))))))) w_m)])) A) A) ([.ref (ad_m 0), .int kx, .int wx] : List Value).toArray s 0 0 A) (F0 m 28 ls []) := by
        intro n
        induction n with
        | zero =>
          intro rr v4_28 v3_28 x_row_28 x_isLoaded_28 x_variables_28 x_pile_28 x_isBroken_28 x_lots_28 x_farNow_28 hmz
          exact absurd hmz (Nat.not_lt_zero _)
        | succ n ih =>
          intro rr v4_28 v3_28 x_row_28 x_isLoaded_28 x_variables_28 x_pile_28 x_isBroken_28 x_lots_28 x_farNow_28 hm_28 hi hs H locs hW ls hl
          have ih_28 := ih
          clear ih
          refine lv_iload hx hb dX12_missed_28 (lv_at hl 0 rfl) ?_
          refine lv_aload_n hx hb dX12_missed_30 rfl (lv_at hl 3 rfl) ?_
          refine va_get (v := .ref (ad_m 30)) (C := RX12) (T := TX12) (N := 75) (ci := 11) hx hb hts in_X12 hown hK.1 hW.1 0 rfl rfl 30 (by decide) (hts _ q1666) (fun _ h9 => h9) rfl dX12_missed_31 ?_
          refine lv_aload_n hx hb dX12_missed_34 rfl (lv_at hl 3 rfl) ?_
          refine va_get (v := .int (nI lv)) (C := RX12) (T := TX12) (N := 75) (ci := 11) hx hb hts in_X12 hown hK.1 hW.1 0 rfl rfl 18 (by decide) (hts _ q1654) (fun _ h9 => h9) rfl dX12_missed_35 ?_
          refine z_iald (v := nI (cn 2)) (f := g_m 30) (j := lv) hx hb hK.1 hW.1 17 0 rfl rfl (vp_in_nI (n := lv) (by omega) (by decide)) (nI_clamp (n := lv) (by omega)) (TM.c30 hTM) dX12_missed_38 ?_
          refine lv_icmp_ge (tgt := 107) hx hb dX12_missed_39 (by decide) (fun c_7 => ?_) (fun c_7 => ?_)
          · have c_7 : cn 2 ≤ rr := (nI_leI (a := cn 2) (b := rr) (by omega) (by omega)).mp c_7
            refine lv_iload_n hx hb dX12_missed_107 rfl (lv_at hl 5 rfl) ?_
            refine lv_if_ne (tgt := 115) hx hb dX12_missed_108 (by decide) (fun c_8 => ?_) (fun c_8 => ?_)
            · have hw := c_8
              refine lv_iload hx hb dX12_missed_115 (lv_at hl 1 rfl) ?_
              refine z_ireti ((x_row_28, x_isLoaded_28, x_variables_28, x_pile_28, x_isBroken_28, x_lots_28, x_farNow_28) : (Nat → Int32) × (Nat → Int32) × (Nat → Int32) × (Nat → Int32) × (Int32) × (Int32) × (Nat → Int32)) hx hb hr hlocks rfl hW rfl dX12_missed_117 ?_
              show v4_28 = missedO cn lw t σ kx wx
              have er : rr = cn 2 := by omega
              unfold missedO
              refine Eq.trans ?_ (Eq.symm (zi_t ⟨c_3, (show inP wx 0 1 from c_6)⟩ _ _))
              rw [ckq, ← er, hs]
              first | rw [if_pos hw] | rw [if_neg hw]
            · have hw := c_8
              refine lv_iload_n hx hb dX12_missed_111 rfl (lv_at hl 2 rfl) ?_
              refine lv_goto (tgt := 117) hx hb dX12_missed_112 (by decide) ?_
              refine z_ireti ((x_row_28, x_isLoaded_28, x_variables_28, x_pile_28, x_isBroken_28, x_lots_28, x_farNow_28) : (Nat → Int32) × (Nat → Int32) × (Nat → Int32) × (Nat → Int32) × (Int32) × (Int32) × (Nat → Int32)) hx hb hr hlocks rfl hW rfl dX12_missed_117 ?_
              show v3_28 = missedO cn lw t σ kx wx
              have er : rr = cn 2 := by omega
              unfold missedO
              refine Eq.trans ?_ (Eq.symm (zi_t ⟨c_3, (show inP wx 0 1 from c_6)⟩ _ _))
              rw [ckq, ← er, hs]
              first | rw [if_pos hw] | rw [if_neg hw]
          · have c_7 : ¬ (cn 2 ≤ rr) := fun hz_ => c_7 ((nI_leI (a := cn 2) (b := rr) (by omega) (by omega)).mpr hz_)
            refine lv_aload_n hx hb dX12_missed_42 rfl (lv_at hl 3 rfl) ?_
            refine va_get (v := .ref (ad_m 59)) (C := RX12) (T := TX12) (N := 75) (ci := 11) hx hb hts in_X12 hown hK.1 hW.1 0 rfl rfl 59 (by decide) (hts _ q1695) (fun _ h9 => h9) rfl dX12_missed_43 ?_
            refine lv_bipush (v := 42) hx hb dX12_missed_46 (by decide) ?_
            refine lv_iload hx hb dX12_missed_48 (lv_at hl 0 rfl) ?_
            refine lv_iadd hx hb dX12_missed_50 ?_
            refine lv_topi (nm_r (e' := nI (42 + rr)) (nI_add 42 rr) ?_)
            refine z_iald (v := σ 3 rr) (f := g_m 59) (j := 42 + rr) hx hb hK.1 hW.1 42 0 rfl rfl (vp_in_nI (n := 42 + rr) (by omega) (by decide)) (nI_clamp (n := 42 + rr) (by omega)) (MR.r3 hKN.mr (r := rr) (by omega)) dX12_missed_51 ?_
            refine lv_iconst (v := 3) hx hb dX12_missed_52 (by decide) ?_
            refine lv_icmp_ne (tgt := 59) hx hb dX12_missed_53 (by decide) (fun c_9 => ?_) (fun c_9 => ?_)
            · have hn3 := c_9
              refine lv_aload_n hx hb dX12_missed_59 rfl (lv_at hl 3 rfl) ?_
              refine z_callv (wc := wj [(mw Y ad_m (sA 64 (fun _ => nI un) (sA 63 x_isLoaded_28 (sA 62 x_farNow_28 (sA 61 (fun _ => x_lots_28) (sA 60 x_row_28 (sA 58 (fun _ => x_isBroken_28) (sA 57 x_pile_28 (sA 56 x_variables_28 (sA 18 (fun _ => nI lv) g_m))))))))) w_m)]) (wr := wj []) (va_runV (As := []) (rest := []) ⟨hx, hb, hml, hown, hts⟩ (m_X12_copies l D Y ad_m (sA 64 (fun _ => nI un) (sA 63 x_isLoaded_28 (sA 62 x_farNow_28 (sA 61 (fun _ => x_lots_28) (sA 60 x_row_28 (sA 58 (fun _ => x_isBroken_28) (sA 57 x_pile_28 (sA 56 x_variables_28 (sA 18 (fun _ => nI lv) g_m))))))))) w_m lv cn t lw σ H.size (show lv < 2 from by exact hlv) (show TW cn t lw from by exact hTW) (show TM lv cn t lw (sA 64 (fun _ => nI un) (sA 63 x_isLoaded_28 (sA 62 x_farNow_28 (sA 61 (fun _ => x_lots_28) (sA 60 x_row_28 (sA 58 (fun _ => x_isBroken_28) (sA 57 x_pile_28 (sA 56 x_variables_28 (sA 18 (fun _ => nI lv) g_m))))))))) from by exact hTM) (show MR (cn 2) σ (g_m 59) from by exact hKN.mr) (show ∀ h, h < cn 1 → σ 1 h = t 2 h from by exact hF1) (show σ 18 0 = t 12 2 from by exact hF2)) (cwV 0 hts (lw_V q2020 q2022 qs86 q133 q2023) rfl rfl rfl (by decide +kernel) ⟨Nat.le_of_ble_eq_true rfl, Nat.le_of_ble_eq_true rfl⟩) (zPreV hK hW hR (wj_split3 (B := [(mw Y ad_m (sA 64 (fun _ => nI un) (sA 63 x_isLoaded_28 (sA 62 x_farNow_28 (sA 61 (fun _ => x_lots_28) (sA 60 x_row_28 (sA 58 (fun _ => x_isBroken_28) (sA 57 x_pile_28 (sA 56 x_variables_28 (sA 18 (fun _ => nI lv) g_m))))))))) w_m)]) (R := []) (C := [(mw Y ad_m (sA 64 (fun _ => nI un) (sA 63 x_isLoaded_28 (sA 62 x_farNow_28 (sA 61 (fun _ => x_lots_28) (sA 60 x_row_28 (sA 58 (fun _ => x_isBroken_28) (sA 57 x_pile_28 (sA 56 x_variables_28 (sA 18 (fun _ => nI lv) g_m))))))))) w_m)]) (O := []) (X := []) (List.Perm.refl _)) (va_recv hK.1 hW.1 (ci := 11) (q0 := 0) rfl rfl)) rfl rfl hl.1 rfl (lv_room (Nat.le_of_ble_eq_true rfl)) dX12_missed_60 ⟨Nat.le_refl _, Nat.le_refl _⟩) hW hA (wj_split (B := [(mw Y ad_m (sA 64 (fun _ => nI un) (sA 63 x_isLoaded_28 (sA 62 x_farNow_28 (sA 61 (fun _ => x_lots_28) (sA 60 x_row_28 (sA 58 (fun _ => x_isBroken_28) (sA 57 x_pile_28 (sA 56 x_variables_28 (sA 18 (fun _ => nI lv) g_m))))))))) w_m)]) (C := [(mw Y ad_m (sA 64 (fun _ => nI un) (sA 63 x_isLoaded_28 (sA 62 x_farNow_28 (sA 61 (fun _ => x_lots_28) (sA 60 x_row_28 (sA 58 (fun _ => x_isBroken_28) (sA 57 x_pile_28 (sA 56 x_variables_28 (sA 18 (fun _ => nI lv) g_m))))))))) w_m)]) (R := []) (List.Perm.refl _)) (fun  u H locs hp_11 hW => ?_)
              obtain ⟨urow_12, ulots_13, ufarNow_14⟩ := u
              have hp_11 : RS cn σ urow_12 ufarNow_14 ulots_13 := hp_11
              have hW : zW D A s.heap H locs (wj [(mw Y ad_m (sA 64 (fun _ => nI un) (sA 63 x_isLoaded_28 (sA 62 ufarNow_14 (sA 61 (fun _ => ulots_13) (sA 60 urow_12 (sA 58 (fun _ => x_isBroken_28) (sA 57 x_pile_28 (sA 56 x_variables_28 (sA 18 (fun _ => nI lv) g_m))))))))) w_m)]) := hW.join
              refine lv_aload_n hx hb dX12_missed_63 rfl (lv_at hl 3 rfl) ?_
              refine lv_iload hx hb dX12_missed_64 (lv_at hl 0 rfl) ?_
              refine z_callv (wc := wj [(mw Y ad_m (sA 64 (fun _ => nI un) (sA 63 x_isLoaded_28 (sA 62 ufarNow_14 (sA 61 (fun _ => ulots_13) (sA 60 urow_12 (sA 58 (fun _ => x_isBroken_28) (sA 57 x_pile_28 (sA 56 x_variables_28 (sA 18 (fun _ => nI lv) g_m))))))))) w_m)]) (wr := wj []) (va_runV (As := [.int (nI rr)]) (rest := []) ⟨hx, hb, hml, hown, hts⟩ (m_X12_goesHome l D Y ad_m (sA 64 (fun _ => nI un) (sA 63 x_isLoaded_28 (sA 62 ufarNow_14 (sA 61 (fun _ => ulots_13) (sA 60 urow_12 (sA 58 (fun _ => x_isBroken_28) (sA 57 x_pile_28 (sA 56 x_variables_28 (sA 18 (fun _ => nI lv) g_m))))))))) w_m lv cn t lw σ rr H.size (show lv < 2 from by exact hlv) (show TW cn t lw from by exact hTW) (show TM lv cn t lw (sA 64 (fun _ => nI un) (sA 63 x_isLoaded_28 (sA 62 ufarNow_14 (sA 61 (fun _ => ulots_13) (sA 60 urow_12 (sA 58 (fun _ => x_isBroken_28) (sA 57 x_pile_28 (sA 56 x_variables_28 (sA 18 (fun _ => nI lv) g_m))))))))) from by exact hTM) (show RS cn σ urow_12 ufarNow_14 ulots_13 from by exact hp_11) (show rr < cn 2 from by omega) (show ¬ σ 5 rr ≤ 0 → vp_in (σ 6 rr) 6 from by exact fun q => vp_mono (hWF.w5 (by omega) q).2 hk60)) (cwV 1 hts (lw_V q2106 q2108 qs98 q133 q2109) rfl rfl rfl (by decide +kernel) ⟨Nat.le_of_ble_eq_true rfl, Nat.le_of_ble_eq_true rfl⟩) (zPreV hK hW hR (wj_split3 (B := [(mw Y ad_m (sA 64 (fun _ => nI un) (sA 63 x_isLoaded_28 (sA 62 ufarNow_14 (sA 61 (fun _ => ulots_13) (sA 60 urow_12 (sA 58 (fun _ => x_isBroken_28) (sA 57 x_pile_28 (sA 56 x_variables_28 (sA 18 (fun _ => nI lv) g_m))))))))) w_m)]) (R := []) (C := [(mw Y ad_m (sA 64 (fun _ => nI un) (sA 63 x_isLoaded_28 (sA 62 ufarNow_14 (sA 61 (fun _ => ulots_13) (sA 60 urow_12 (sA 58 (fun _ => x_isBroken_28) (sA 57 x_pile_28 (sA 56 x_variables_28 (sA 18 (fun _ => nI lv) g_m))))))))) w_m)]) (O := []) (X := []) (List.Perm.refl _)) (va_recv hK.1 hW.1 (ci := 11) (q0 := 0) rfl rfl)) rfl rfl hl.1 rfl (lv_room (Nat.le_of_ble_eq_true rfl)) dX12_missed_66 ⟨Nat.le_refl _, Nat.le_refl _⟩) hW hA (wj_split (B := [(mw Y ad_m (sA 64 (fun _ => nI un) (sA 63 x_isLoaded_28 (sA 62 ufarNow_14 (sA 61 (fun _ => ulots_13) (sA 60 urow_12 (sA 58 (fun _ => x_isBroken_28) (sA 57 x_pile_28 (sA 56 x_variables_28 (sA 18 (fun _ => nI lv) g_m))))))))) w_m)]) (C := [(mw Y ad_m (sA 64 (fun _ => nI un) (sA 63 x_isLoaded_28 (sA 62 ufarNow_14 (sA 61 (fun _ => ulots_13) (sA 60 urow_12 (sA 58 (fun _ => x_isBroken_28) (sA 57 x_pile_28 (sA 56 x_variables_28 (sA 18 (fun _ => nI lv) g_m))))))))) w_m)]) (R := []) (List.Perm.refl _)) (fun  u H locs hp_16 hW => ?_)
              obtain ⟨urow_17, rfl⟩ : ∃ z, z = u := ⟨_, rfl⟩
              have hp_16 : RS cn (homeP σ rr) urow_17 ufarNow_14 ulots_13 := hp_16
              have hW : zW D A s.heap H locs (wj [(mw Y ad_m (sA 64 (fun _ => nI un) (sA 63 x_isLoaded_28 (sA 62 ufarNow_14 (sA 61 (fun _ => ulots_13) (sA 60 urow_17 (sA 58 (fun _ => x_isBroken_28) (sA 57 x_pile_28 (sA 56 x_variables_28 (sA 18 (fun _ => nI lv) g_m))))))))) w_m)]) := hW.join
              refine lv_aload_n hx hb dX12_missed_69 rfl (lv_at hl 3 rfl) ?_
              refine lv_iload_n hx hb dX12_missed_70 rfl (lv_at hl 4 rfl) ?_
              refine lv_topi (nm_r (e' := nI kq) ekq ?_)
              refine z_callv (wc := wj [(mw Y ad_m (sA 64 (fun _ => nI un) (sA 63 x_isLoaded_28 (sA 62 ufarNow_14 (sA 61 (fun _ => ulots_13) (sA 60 urow_17 (sA 58 (fun _ => x_isBroken_28) (sA 57 x_pile_28 (sA 56 x_variables_28 (sA 18 (fun _ => nI lv) g_m))))))))) w_m)]) (wr := wj []) (va_runV (As := [.int (nI kq)]) (rest := []) ⟨hx, hb, hml, hown, hts⟩ (m_X12_goes l D Y ad_m (sA 64 (fun _ => nI un) (sA 63 x_isLoaded_28 (sA 62 ufarNow_14 (sA 61 (fun _ => ulots_13) (sA 60 urow_17 (sA 58 (fun _ => x_isBroken_28) (sA 57 x_pile_28 (sA 56 x_variables_28 (sA 18 (fun _ => nI lv) g_m))))))))) w_m lv cn t lw (homeP σ rr) B_ kq H.size (show lv < 2 from by exact hlv) (show TW cn t lw from by exact hTW) (show TM lv cn t lw (sA 64 (fun _ => nI un) (sA 63 x_isLoaded_28 (sA 62 ufarNow_14 (sA 61 (fun _ => ulots_13) (sA 60 urow_17 (sA 58 (fun _ => x_isBroken_28) (sA 57 x_pile_28 (sA 56 x_variables_28 (sA 18 (fun _ => nI lv) g_m))))))))) from by exact hTM) (show RS cn (homeP σ rr) urow_17 ufarNow_14 ulots_13 from by exact hp_16) (show WF cn B_ (homeP σ rr) from by exact WF.home hTW hWF (by omega)) (show kq < 2000 from by first | assumption | omega | grind)) (cwV 1 hts (lw_V q2039 q2041 qs88 q133 q2042) rfl rfl rfl (by decide +kernel) ⟨Nat.le_of_ble_eq_true rfl, Nat.le_of_ble_eq_true rfl⟩) (zPreV hK hW hR (wj_split3 (B := [(mw Y ad_m (sA 64 (fun _ => nI un) (sA 63 x_isLoaded_28 (sA 62 ufarNow_14 (sA 61 (fun _ => ulots_13) (sA 60 urow_17 (sA 58 (fun _ => x_isBroken_28) (sA 57 x_pile_28 (sA 56 x_variables_28 (sA 18 (fun _ => nI lv) g_m))))))))) w_m)]) (R := []) (C := [(mw Y ad_m (sA 64 (fun _ => nI un) (sA 63 x_isLoaded_28 (sA 62 ufarNow_14 (sA 61 (fun _ => ulots_13) (sA 60 urow_17 (sA 58 (fun _ => x_isBroken_28) (sA 57 x_pile_28 (sA 56 x_variables_28 (sA 18 (fun _ => nI lv) g_m))))))))) w_m)]) (O := []) (X := []) (List.Perm.refl _)) (va_recv hK.1 hW.1 (ci := 11) (q0 := 0) rfl rfl)) rfl rfl hl.1 rfl (lv_room (Nat.le_of_ble_eq_true rfl)) dX12_missed_71 ⟨Nat.le_refl _, Nat.le_refl _⟩) hW hA (wj_split (B := [(mw Y ad_m (sA 64 (fun _ => nI un) (sA 63 x_isLoaded_28 (sA 62 ufarNow_14 (sA 61 (fun _ => ulots_13) (sA 60 urow_17 (sA 58 (fun _ => x_isBroken_28) (sA 57 x_pile_28 (sA 56 x_variables_28 (sA 18 (fun _ => nI lv) g_m))))))))) w_m)]) (C := [(mw Y ad_m (sA 64 (fun _ => nI un) (sA 63 x_isLoaded_28 (sA 62 ufarNow_14 (sA 61 (fun _ => ulots_13) (sA 60 urow_17 (sA 58 (fun _ => x_isBroken_28) (sA 57 x_pile_28 (sA 56 x_variables_28 (sA 18 (fun _ => nI lv) g_m))))))))) w_m)]) (R := []) (List.Perm.refl _)) (fun  u H locs hp_19 hW => ?_)
              obtain ⟨urow_20, uisLoaded_21, uvariables_22, upile_23, uisBroken_24⟩ := u
              have hp_19 : RS cn (runsP cn lw t (homeP σ rr) kq) urow_20 ufarNow_14 ulots_13 := hp_19
              have hW : zW D A s.heap H locs (wj [(mw Y ad_m (sA 64 (fun _ => nI un) (sA 63 uisLoaded_21 (sA 62 ufarNow_14 (sA 61 (fun _ => ulots_13) (sA 60 urow_20 (sA 58 (fun _ => uisBroken_24) (sA 57 upile_23 (sA 56 uvariables_22 (sA 18 (fun _ => nI lv) g_m))))))))) w_m)]) := hW.join
              refine lv_aload_n hx hb dX12_missed_74 rfl (lv_at hl 3 rfl) ?_
              refine z_calli (wc := wj [(mw Y ad_m (sA 64 (fun _ => nI un) (sA 63 uisLoaded_21 (sA 62 ufarNow_14 (sA 61 (fun _ => ulots_13) (sA 60 urow_20 (sA 58 (fun _ => uisBroken_24) (sA 57 upile_23 (sA 56 uvariables_22 (sA 18 (fun _ => nI lv) g_m))))))))) w_m)]) (wr := wj []) (va_runV (As := []) (rest := []) ⟨hx, hb, hml, hown, hts⟩ (m_X12_worthAll l D Y ad_m (sA 64 (fun _ => nI un) (sA 63 uisLoaded_21 (sA 62 ufarNow_14 (sA 61 (fun _ => ulots_13) (sA 60 urow_20 (sA 58 (fun _ => uisBroken_24) (sA 57 upile_23 (sA 56 uvariables_22 (sA 18 (fun _ => nI lv) g_m))))))))) w_m lv cn t lw (runsP cn lw t (homeP σ rr) kq) H.size (show lv < 2 from by exact hlv) (show TW cn t lw from by exact hTW) (show TM lv cn t lw (sA 64 (fun _ => nI un) (sA 63 uisLoaded_21 (sA 62 ufarNow_14 (sA 61 (fun _ => ulots_13) (sA 60 urow_20 (sA 58 (fun _ => uisBroken_24) (sA 57 upile_23 (sA 56 uvariables_22 (sA 18 (fun _ => nI lv) g_m))))))))) from by exact hTM) (show RS cn (runsP cn lw t (homeP σ rr) kq) urow_20 ufarNow_14 ulots_13 from by exact hp_19)) (cwV 0 hts (lw_V q2161 q2163 qs104 q133 q2164) rfl rfl rfl (by decide +kernel) ⟨Nat.le_of_ble_eq_true rfl, Nat.le_of_ble_eq_true rfl⟩) (zPreV hK hW hR (wj_split3 (B := [(mw Y ad_m (sA 64 (fun _ => nI un) (sA 63 uisLoaded_21 (sA 62 ufarNow_14 (sA 61 (fun _ => ulots_13) (sA 60 urow_20 (sA 58 (fun _ => uisBroken_24) (sA 57 upile_23 (sA 56 uvariables_22 (sA 18 (fun _ => nI lv) g_m))))))))) w_m)]) (R := []) (C := [(mw Y ad_m (sA 64 (fun _ => nI un) (sA 63 uisLoaded_21 (sA 62 ufarNow_14 (sA 61 (fun _ => ulots_13) (sA 60 urow_20 (sA 58 (fun _ => uisBroken_24) (sA 57 upile_23 (sA 56 uvariables_22 (sA 18 (fun _ => nI lv) g_m))))))))) w_m)]) (O := []) (X := []) (List.Perm.refl _)) (va_recv hK.1 hW.1 (ci := 11) (q0 := 0) rfl rfl)) rfl rfl hl.1 rfl (lv_room (Nat.le_of_ble_eq_true rfl)) dX12_missed_75 ⟨Nat.le_refl _, Nat.le_refl _⟩) hW hA (wj_split (B := [(mw Y ad_m (sA 64 (fun _ => nI un) (sA 63 uisLoaded_21 (sA 62 ufarNow_14 (sA 61 (fun _ => ulots_13) (sA 60 urow_20 (sA 58 (fun _ => uisBroken_24) (sA 57 upile_23 (sA 56 uvariables_22 (sA 18 (fun _ => nI lv) g_m))))))))) w_m)]) (C := [(mw Y ad_m (sA 64 (fun _ => nI un) (sA 63 uisLoaded_21 (sA 62 ufarNow_14 (sA 61 (fun _ => ulots_13) (sA 60 urow_20 (sA 58 (fun _ => uisBroken_24) (sA 57 upile_23 (sA 56 uvariables_22 (sA 18 (fun _ => nI lv) g_m))))))))) w_m)]) (R := []) (List.Perm.refl _)) (fun r_25 u H locs hp_26 hW => ?_)
              have hp_26 : r_25 = worthTo t (runsP cn lw t (homeP σ rr) kq) (cn 1) := hp_26
              have hW : zW D A s.heap H locs (wj [(mw Y ad_m (sA 64 (fun _ => nI un) (sA 63 uisLoaded_21 (sA 62 ufarNow_14 (sA 61 (fun _ => ulots_13) (sA 60 urow_20 (sA 58 (fun _ => uisBroken_24) (sA 57 upile_23 (sA 56 uvariables_22 (sA 18 (fun _ => nI lv) g_m))))))))) w_m)]) := hW.join
              refine lv_istore (lv' := [(6, .int r_25), (5, .int (nI rr)), (4, .int v4_28), (3, .int v3_28), (0, .ref (ad_m 0)), (1, .int kx), (2, .int wx)]) hx hb dX12_missed_78 hl (by decide) rfl (fun ls hl => ?_)
              refine lv_iload_n hx hb dX12_missed_80 rfl (lv_at hl 3 rfl) ?_
              refine lv_if_lt (tgt := 94) hx hb dX12_missed_81 (by decide) (fun c_27 => ?_) (fun c_27 => ?_)
              · have hbe := c_27
                refine lv_iload hx hb dX12_missed_94 (lv_at hl 1 rfl) ?_
                refine lv_istore_n (lv' := [(3, .int (nI rr)), (6, .int r_25), (5, .int (nI rr)), (4, .int v4_28), (0, .ref (ad_m 0)), (1, .int kx), (2, .int wx)]) hx hb dX12_missed_96 rfl hl (by decide) rfl (fun ls hl => ?_)
                refine lv_iload hx hb dX12_missed_97 (lv_at hl 1 rfl) ?_
                refine lv_istore (lv' := [(4, .int r_25), (3, .int (nI rr)), (6, .int r_25), (5, .int (nI rr)), (0, .ref (ad_m 0)), (1, .int kx), (2, .int wx)]) hx hb dX12_missed_99 hl (by decide) rfl (fun ls hl => ?_)
                refine lv_iinc (v := nI (rr + 1)) (lv' := [(5, .int (nI (rr + 1))), (4, .int r_25), (3, .int (nI rr)), (6, .int r_25), (0, .ref (ad_m 0)), (1, .int kx), (2, .int wx)]) hx hb dX12_missed_101 hl (k := 3) rfl (nI_add rr 1) (by decide) rfl (fun ls hl => ?_)
                refine lv_goto (tgt := 28) hx hb dX12_missed_104 (by decide) ?_
                exact ih_28 (rr + 1) r_25 (nI rr) urow_20 uisLoaded_21 uvariables_22 upile_23 uisBroken_24 ulots_13 ufarNow_14 (by omega) (by omega) (by
                    simp only [msTo]
                    rw [hs, ← hp_26]
                    first | exact zi_t (Or.inl hy3) _ _ | exact zi_t (Or.inr ⟨by assumption, by first | assumption | exact Int32.not_lt.mp hv⟩) _ _ | exact zi_f (by rintro (q | q); exact hn3 q; first | exact q.1 (by assumption) | exact absurd q.2 (by first | assumption | exact Int32.not_le.mpr hv)) _ _) _ _ hW _ (lv_sub hl [0, 1, 2, 4, 5, 6] rfl)
              · have hbe := c_27
                refine lv_iload hx hb dX12_missed_84 (lv_at hl 0 rfl) ?_
                refine lv_iload hx hb dX12_missed_86 (lv_at hl 2 rfl) ?_
                refine lv_icmp_lt (tgt := 94) hx hb dX12_missed_88 (by decide) (fun c_28 => ?_) (fun c_28 => ?_)
                · have hv := c_28
                  refine lv_iload hx hb dX12_missed_94 (lv_at hl 1 rfl) ?_
                  refine lv_istore_n (lv' := [(3, .int (nI rr)), (6, .int r_25), (5, .int (nI rr)), (4, .int v4_28), (0, .ref (ad_m 0)), (1, .int kx), (2, .int wx)]) hx hb dX12_missed_96 rfl hl (by decide) rfl (fun ls hl => ?_)
                  refine lv_iload hx hb dX12_missed_97 (lv_at hl 1 rfl) ?_
                  refine lv_istore (lv' := [(4, .int r_25), (3, .int (nI rr)), (6, .int r_25), (5, .int (nI rr)), (0, .ref (ad_m 0)), (1, .int kx), (2, .int wx)]) hx hb dX12_missed_99 hl (by decide) rfl (fun ls hl => ?_)
                  refine lv_iinc (v := nI (rr + 1)) (lv' := [(5, .int (nI (rr + 1))), (4, .int r_25), (3, .int (nI rr)), (6, .int r_25), (0, .ref (ad_m 0)), (1, .int kx), (2, .int wx)]) hx hb dX12_missed_101 hl (k := 3) rfl (nI_add rr 1) (by decide) rfl (fun ls hl => ?_)
                  refine lv_goto (tgt := 28) hx hb dX12_missed_104 (by decide) ?_
                  exact ih_28 (rr + 1) r_25 (nI rr) urow_20 uisLoaded_21 uvariables_22 upile_23 uisBroken_24 ulots_13 ufarNow_14 (by omega) (by omega) (by
                      simp only [msTo]
                      rw [hs, ← hp_26]
                      first | exact zi_t (Or.inl hy3) _ _ | exact zi_t (Or.inr ⟨by assumption, by first | assumption | exact Int32.not_lt.mp hv⟩) _ _ | exact zi_f (by rintro (q | q); exact hn3 q; first | exact q.1 (by assumption) | exact absurd q.2 (by first | assumption | exact Int32.not_le.mpr hv)) _ _) _ _ hW _ (lv_sub hl [0, 1, 2, 4, 5, 6] rfl)
                · have hv := c_28
                  refine lv_goto (tgt := 101) hx hb dX12_missed_91 (by decide) ?_
                  refine lv_iinc (v := nI (rr + 1)) (lv' := [(5, .int (nI (rr + 1))), (6, .int r_25), (4, .int v4_28), (3, .int v3_28), (0, .ref (ad_m 0)), (1, .int kx), (2, .int wx)]) hx hb dX12_missed_101 hl (k := 1) rfl (nI_add rr 1) (by decide) rfl (fun ls hl => ?_)
                  refine lv_goto (tgt := 28) hx hb dX12_missed_104 (by decide) ?_
                  exact ih_28 (rr + 1) v4_28 v3_28 urow_20 uisLoaded_21 uvariables_22 upile_23 uisBroken_24 ulots_13 ufarNow_14 (by omega) (by omega) (by
                      simp only [msTo]
                      rw [hs, ← hp_26]
                      first | exact zi_t (Or.inl hy3) _ _ | exact zi_t (Or.inr ⟨by assumption, by first | assumption | exact Int32.not_lt.mp hv⟩) _ _ | exact zi_f (by rintro (q | q); exact hn3 q; first | exact q.1 (by assumption) | exact absurd q.2 (by first | assumption | exact Int32.not_le.mpr hv)) _ _) _ _ hW _ (lv_sub hl [0, 2, 3, 4, 5, 6] rfl)
            · have hy3 := c_9
              refine lv_goto (tgt := 101) hx hb dX12_missed_56 (by decide) ?_
              refine lv_iinc (v := nI (rr + 1)) (lv' := [(5, .int (nI (rr + 1))), (4, .int v4_28), (3, .int v3_28), (0, .ref (ad_m 0)), (1, .int kx), (2, .int wx)]) hx hb dX12_missed_101 hl (k := 0) rfl (nI_add rr 1) (by decide) rfl (fun ls hl => ?_)
              refine lv_goto (tgt := 28) hx hb dX12_missed_104 (by decide) ?_
              exact ih_28 (rr + 1) v4_28 v3_28 x_row_28 x_isLoaded_28 x_variables_28 x_pile_28 x_isBroken_28 x_lots_28 x_farNow_28 (by omega) (by omega) (by
                  simp only [msTo]
                  rw [hs]
                  first | exact zi_t (Or.inl hy3) _ _ | exact zi_t (Or.inr ⟨by assumption, by first | assumption | exact Int32.not_lt.mp hv⟩) _ _ | exact zi_f (by rintro (q | q); exact hn3 q; first | exact q.1 (by assumption) | exact absurd q.2 (by first | assumption | exact Int32.not_le.mpr hv)) _ _) _ _ hW _ (lv_sub hl [0, 1, 2, 3, 4, 5] rfl)
      exact loop_28 _ 0 (-2) (-2) (g_m 60) (g_m 63) (g_m 56) (g_m 57) (g_m 58 0) (g_m 61 0) (g_m 62) (Nat.lt_succ_self _) (by omega) (by rfl) _ _ hW _ (lv_sub hl [0, 1, 2, 3, 4, 5] rfl)
    · have c_6 : ¬ (¬ wx < 0 ∧ ¬ 1 < wx) := zb_eq hp_5 c_6
      refine lv_iconst (v := (-1)) hx hb dX12_missed_16 (by decide) ?_
      refine z_ireti ((g_m 60, g_m 63, g_m 56, g_m 57, g_m 58 0, g_m 61 0, g_m 62) : (Nat → Int32) × (Nat → Int32) × (Nat → Int32) × (Nat → Int32) × (Int32) × (Int32) × (Nat → Int32)) hx hb hr hlocks rfl hW rfl dX12_missed_17 ?_
      show (-1) = missedO cn lw t σ kx wx
      unfold missedO
      exact Eq.symm (zi_f (by first | (intro hq; exact absurd hq.1 (by assumption)) | (intro hq; exact absurd hq.2 (by assumption))) _ _)
set_option maxHeartbeats 4000000 in
set_option maxRecDepth 100000 in
theorem m_X12_catAt (l : Launch) (D : va_G) (Y : Nat → ClassId) (ad_m : Nat → Nat) (g_m : Nat → Nat → Int32) (w_m : Nat → Nat → Int64) (lv : Nat) (cn : Nat → Nat) (t : tab) (lw : Nat → Option LAW) (σ : tab) (U : List tab) (un : Nat) (B_ : Int) (kx : Int32) (wx : Int32) (sz : Nat) (hlv : lv < 2) (hTW : TW cn t lw) (hTM : TM lv cn t lw g_m) (hKN : KN (cn 2) σ U (g_m 59) (g_m 65) un) (hF1 : ∀ h, h < cn 1 → σ 1 h = t 2 h) (hF2 : σ 18 0 = t 12 2) (hWF : WF cn B_ σ) (hc10 : σ 12 0 ≤ 2000) : Met l yX12_catAt (ws_ yX12_catAt cX12_catAt 7 (some .int)) ({ frames := 6, cells := 0, slots := 0, locals := 141 }) (zPc D Y [.ref (ad_m 0), .int kx, .int wx] sz (wj []) (wj [(mw Y ad_m (sA 64 (fun _ => nI un) (sA 18 (fun _ => nI lv) g_m)) w_m)])) (va_Qi (fun (r : Int32) (u : (Nat → Int32) × (Nat → Int32) × (Nat → Int32) × (Nat → Int32) × (Int32) × (Int32) × (Nat → Int32)) => r = catAtO cn lw t σ kx wx) (zB D (fun (u : (Nat → Int32) × (Nat → Int32) × (Nat → Int32) × (Nat → Int32) × (Int32) × (Int32) × (Nat → Int32)) => (wj [(mw Y ad_m (sA 64 (fun _ => nI un) (sA 63 u.2.1 (sA 62 u.2.2.2.2.2.2 (sA 61 (fun _ => u.2.2.2.2.2.1) (sA 60 u.1 (sA 58 (fun _ => u.2.2.2.2.1) (sA 57 u.2.2.2.1 (sA 56 u.2.2.1 (sA 18 (fun _ => nI lv) g_m))))))))) w_m)])) (va_A (wj [(mw Y ad_m (sA 64 (fun _ => nI un) (sA 18 (fun _ => nI lv) g_m)) w_m)]) sz)) (va_A (wj [(mw Y ad_m (sA 64 (fun _ => nI un) (sA 18 (fun _ => nI lv) g_m)) w_m)]) sz)) 0 0 (va_A (wj [(mw Y ad_m (sA 64 (fun _ => nI un) (sA 18 (fun _ => nI lv) g_m)) w_m)]) sz) := by
  refine Met.ofW (cc := cX12_catAt) (maxL := 7) (ret := (some .int)) (by decide) rfl ?_
  intro p e s m args below meth c s₁ B hml hv
  obtain ⟨rfl, hsz, hW, hR, hK, hA⟩ := zEntry hv
  subst hsz
  have hx := B.exec
  have hb := B.bytes
  have hr := B.returns
  have hlocks := B.notSynchronized
  have hts : ∀ w ∈ lw_all, w.before _ s = true := fun w h => atoms_spec (ws := (ws_ yX12_catAt cX12_catAt 7 (some .int))) B.pre w (List.mem_cons_of_mem _ h)
  have hown : s.vm.findClass RX12 = some m.cls := findClass_of_methodNamed B.named
  generalize hAe : va_A (wj [(mw Y ad_m (sA 64 (fun _ => nI un) (sA 18 (fun _ => nI lv) g_m)) w_m)]) s.heap.size = A at hW hR hA ⊢
  have hl := lv_entry ([.ref (ad_m 0), .int kx, .int wx]) (n := 7) (Nat.le_of_ble_eq_true rfl)
  rw [lg_entry_eq]
  generalize (lg_sl ([.ref (ad_m 0), .int kx, .int wx]) ++ List.replicate (7 - (lg_sl ([.ref (ad_m 0), .int kx, .int wx])).length) Slot.unset).toArray = ls at hl ⊢
  have hl : lv_has ls 7 [(0, .ref (ad_m 0)), (1, .int kx), (2, .int wx)] := hl
  have hk8 := hTW.n2
  have hk6 := hTW.n1
  have hk60 := hTW.n0
  have hk5 := hTW.n3
  refine lv_iload_n hx hb dX12_catAt_0 rfl (lv_at hl 1 rfl) ?_
  refine lv_iconst (v := 1) hx hb dX12_catAt_1 (by decide) ?_
  refine lv_bipush (v := 120) hx hb dX12_catAt_2 (by decide) ?_
  refine z_calli (wc := wj []) (wr := wj [(mw Y ad_m (sA 64 (fun _ => nI un) (sA 18 (fun _ => nI lv) g_m)) w_m)]) (va_runS (As := [.int kx, .int 1, .int 120]) (rest := []) ⟨hx, hb, hml, hown, hts⟩ (m_X12_in l D Y kx 1 120 s.heap.size) (va_cwS 3 hts (lw_S q1997 q1998 q133 q1999) rfl rfl rfl (by decide +kernel) ⟨Nat.le_of_ble_eq_true rfl, Nat.le_of_ble_eq_true rfl⟩) (zPre hK hW hR (wj_split3 (B := [(mw Y ad_m (sA 64 (fun _ => nI un) (sA 18 (fun _ => nI lv) g_m)) w_m)]) (R := []) (C := []) (O := []) (X := [(mw Y ad_m (sA 64 (fun _ => nI un) (sA 18 (fun _ => nI lv) g_m)) w_m)]) (List.Perm.refl _))) rfl rfl hl.1 rfl (lv_room (Nat.le_of_ble_eq_true rfl)) dX12_catAt_4 ⟨Nat.le_refl _, Nat.le_refl _⟩) hW hA (wj_split (B := [(mw Y ad_m (sA 64 (fun _ => nI un) (sA 18 (fun _ => nI lv) g_m)) w_m)]) (C := []) (R := [(mw Y ad_m (sA 64 (fun _ => nI un) (sA 18 (fun _ => nI lv) g_m)) w_m)]) (List.Perm.refl _)) (fun r_1 u H locs hp_2 hW => ?_)
  have hp_2 : r_1 = zb (¬ kx < 1 ∧ ¬ 120 < kx) := hp_2
  have hW : zW D A s.heap H locs (wj [(mw Y ad_m (sA 64 (fun _ => nI un) (sA 18 (fun _ => nI lv) g_m)) w_m)]) := hW.join
  refine lv_if_eq (tgt := 19) hx hb dX12_catAt_7 (by decide) (fun c_3 => ?_) (fun c_3 => ?_)
  · have c_3 : ¬ (¬ kx < 1 ∧ ¬ 120 < kx) := zb_eq hp_2 c_3
    refine lv_iconst (v := (-1)) hx hb dX12_catAt_19 (by decide) ?_
    refine z_ireti ((g_m 60, g_m 63, g_m 56, g_m 57, g_m 58 0, g_m 61 0, g_m 62) : (Nat → Int32) × (Nat → Int32) × (Nat → Int32) × (Nat → Int32) × (Int32) × (Int32) × (Nat → Int32)) hx hb hr hlocks rfl hW rfl dX12_catAt_20 ?_
    show (-1) = catAtO cn lw t σ kx wx
    unfold catAtO
    exact Eq.symm (zi_f (by first | (intro hq; exact absurd hq.1 (by assumption)) | (intro hq; exact absurd hq.2 (by assumption))) _ _)
  · have c_3 : ¬ kx < 1 ∧ ¬ 120 < kx := zb_ne hp_2 c_3
    obtain ⟨kq, lkq, hkq, ekq⟩ := inP_nat (x := kx) (a := 1) (b := 120) c_3 (by omega) (by omega)
    have ckq : kx.toNatClampNeg = kq := by rw [ekq]; exact nI_clamp (by omega)
    refine lv_iload_n hx hb dX12_catAt_10 rfl (lv_at hl 2 rfl) ?_
    refine lv_iconst (v := 0) hx hb dX12_catAt_11 (by decide) ?_
    refine lv_iconst (v := 1) hx hb dX12_catAt_12 (by decide) ?_
    refine z_calli (wc := wj []) (wr := wj [(mw Y ad_m (sA 64 (fun _ => nI un) (sA 18 (fun _ => nI lv) g_m)) w_m)]) (va_runS (As := [.int wx, .int 0, .int 1]) (rest := []) ⟨hx, hb, hml, hown, hts⟩ (m_X12_in l D Y wx 0 1 H.size) (va_cwS 3 hts (lw_S q1997 q1998 q133 q1999) rfl rfl rfl (by decide +kernel) ⟨Nat.le_of_ble_eq_true rfl, Nat.le_of_ble_eq_true rfl⟩) (zPre hK hW hR (wj_split3 (B := [(mw Y ad_m (sA 64 (fun _ => nI un) (sA 18 (fun _ => nI lv) g_m)) w_m)]) (R := []) (C := []) (O := []) (X := [(mw Y ad_m (sA 64 (fun _ => nI un) (sA 18 (fun _ => nI lv) g_m)) w_m)]) (List.Perm.refl _))) rfl rfl hl.1 rfl (lv_room (Nat.le_of_ble_eq_true rfl)) dX12_catAt_13 ⟨Nat.le_refl _, Nat.le_refl _⟩) hW hA (wj_split (B := [(mw Y ad_m (sA 64 (fun _ => nI un) (sA 18 (fun _ => nI lv) g_m)) w_m)]) (C := []) (R := [(mw Y ad_m (sA 64 (fun _ => nI un) (sA 18 (fun _ => nI lv) g_m)) w_m)]) (List.Perm.refl _)) (fun r_4 u H locs hp_5 hW => ?_)
    have hp_5 : r_4 = zb (¬ wx < 0 ∧ ¬ 1 < wx) := hp_5
    have hW : zW D A s.heap H locs (wj [(mw Y ad_m (sA 64 (fun _ => nI un) (sA 18 (fun _ => nI lv) g_m)) w_m)]) := hW.join
    refine lv_if_ne (tgt := 21) hx hb dX12_catAt_16 (by decide) (fun c_6 => ?_) (fun c_6 => ?_)
    · have c_6 : ¬ wx < 0 ∧ ¬ 1 < wx := zb_ne hp_5 c_6
      refine lv_iconst (v := 0) hx hb dX12_catAt_21 (by decide) ?_
      refine lv_istore_n (lv' := [(3, .int 0), (0, .ref (ad_m 0)), (1, .int kx), (2, .int wx)]) hx hb dX12_catAt_22 rfl hl (by decide) rfl (fun ls hl => ?_)
      refine lv_iconst (v := (-1)) hx hb dX12_catAt_23 (by decide) ?_
      refine lv_istore (lv' := [(4, .int (-1)), (3, .int 0), (0, .ref (ad_m 0)), (1, .int kx), (2, .int wx)]) hx hb dX12_catAt_24 hl (by decide) rfl (fun ls hl => ?_)
      refine lv_iconst (v := 0) hx hb dX12_catAt_26 (by decide) ?_
      refine lv_istore (lv' := [(5, .int 0), (4, .int (-1)), (3, .int 0), (0, .ref (ad_m 0)), (1, .int kx), (2, .int wx)]) hx hb dX12_catAt_27 hl (by decide) rfl (fun ls hl => ?_)
      have loop_29 : ∀ (n : Nat) (cc : Nat) (v4_29 : Int32) (v3_29 : Int32) (x_row_29 : Nat → Int32) (x_isLoaded_29 : Nat → Int32) (x_variables_29 : Nat → Int32) (x_pile_29 : Nat → Int32) (x_isBroken_29 : Int32) (x_lots_29 : Int32) (x_farNow_29 : Nat → Int32), kq - cc < n → (cc ≤ kq) → (caTo cn lw t σ kq cc = (v3_29, v4_29)) → ∀ (H : Heap) (locs : List Loc), zW D A s.heap H locs (wj [(mw Y ad_m (sA 64 (fun _ => nI un) (sA 63 x_isLoaded_29 (sA 62 x_farNow_29 (sA 61 (fun _ => x_lots_29) (sA 60 x_row_29 (sA 58 (fun _ => x_isBroken_29) (sA 57 x_pile_29 (sA 56 x_variables_29 (sA 18 (fun _ => nI lv) g_m))))))))) w_m)]) → ∀ (ls : Array Slot), lv_has ls 7 [(5, .int (nI cc)), (4, .int v4_29), (3, .int v3_29), (0, .ref (ad_m 0)), (1, .int kx), (2, .int wx)] → W p l e (headSpec (ws_ yX12_catAt cX12_catAt 7 (some .int)) ({ frames := 6, cells := 0, slots := 0, locals := 141 })).room s m ([.ref (ad_m 0), .int kx, .int wx] : List Value).toArray below meth c H locs 0 0 (MQ below (va_Qi (fun (r : Int32) (u : (Nat → Int32) × (Nat → Int32) × (Nat → Int32) × (Nat → Int32) × (Int32) × (Int32) × (Nat → Int32)) => r = catAtO cn lw t σ kx wx) (zB D (fun (u : (Nat → Int32) × (Nat → Int32) × (Nat → Int32) × (Nat → Int32) × (Int32) × (Int32) × (Nat → Int32)) => (wj [(mw Y ad_m (sA 64 (fun _ => nI un) (sA 63 u.2.1 (sA 62 u.2.2.2.2.2.2 (sA 61 (fun _ => u.2.2.2.2.2.1) (sA 60 u.1 (sA 58 (fun _ => u.2.2.2.2.1) (sA 57 u.2.2.2.1 (sA 56 u.2.2.1 (sA 18 (fun _ => nI lv) g_m))))))))) w_m)])) A) A) ([.ref (ad_m 0), .int kx, .int wx] : List Value).toArray s 0 0 A) (F0 m 29 ls []) := by
        intro n
        induction n with
        | zero =>
          intro cc v4_29 v3_29 x_row_29 x_isLoaded_29 x_variables_29 x_pile_29 x_isBroken_29 x_lots_29 x_farNow_29 hmz
          exact absurd hmz (Nat.not_lt_zero _)
        | succ n ih =>
          intro cc v4_29 v3_29 x_row_29 x_isLoaded_29 x_variables_29 x_pile_29 x_isBroken_29 x_lots_29 x_farNow_29 hm_29 hi hs H locs hW ls hl
          have ih_29 := ih
          clear ih
          refine lv_iload hx hb dX12_catAt_29 (lv_at hl 0 rfl) ?_
          refine lv_iload_n hx hb dX12_catAt_31 rfl (lv_at hl 4 rfl) ?_
          refine lv_topi (nm_r (e' := nI kq) ekq ?_)
          refine lv_icmp_ge (tgt := 97) hx hb dX12_catAt_32 (by decide) (fun c_7 => ?_) (fun c_7 => ?_)
          · have c_7 : kq ≤ cc := (nI_leI (a := kq) (b := cc) (by omega) (by omega)).mp c_7
            refine lv_iload_n hx hb dX12_catAt_97 rfl (lv_at hl 5 rfl) ?_
            refine lv_if_ne (tgt := 105) hx hb dX12_catAt_98 (by decide) (fun c_8 => ?_) (fun c_8 => ?_)
            · have hw := c_8
              refine lv_iload hx hb dX12_catAt_105 (lv_at hl 1 rfl) ?_
              refine z_ireti ((x_row_29, x_isLoaded_29, x_variables_29, x_pile_29, x_isBroken_29, x_lots_29, x_farNow_29) : (Nat → Int32) × (Nat → Int32) × (Nat → Int32) × (Nat → Int32) × (Int32) × (Int32) × (Nat → Int32)) hx hb hr hlocks rfl hW rfl dX12_catAt_107 ?_
              show v4_29 = catAtO cn lw t σ kx wx
              have er : cc = kq := by omega
              unfold catAtO
              refine Eq.trans ?_ (Eq.symm (zi_t ⟨c_3, (show inP wx 0 1 from c_6)⟩ _ _))
              rw [ckq]
              rw [er] at hs
              rw [hs]
              first | rw [if_pos hw] | rw [if_neg hw]
            · have hw := c_8
              refine lv_iload_n hx hb dX12_catAt_101 rfl (lv_at hl 2 rfl) ?_
              refine lv_goto (tgt := 107) hx hb dX12_catAt_102 (by decide) ?_
              refine z_ireti ((x_row_29, x_isLoaded_29, x_variables_29, x_pile_29, x_isBroken_29, x_lots_29, x_farNow_29) : (Nat → Int32) × (Nat → Int32) × (Nat → Int32) × (Nat → Int32) × (Int32) × (Int32) × (Nat → Int32)) hx hb hr hlocks rfl hW rfl dX12_catAt_107 ?_
              show v3_29 = catAtO cn lw t σ kx wx
              have er : cc = kq := by omega
              unfold catAtO
              refine Eq.trans ?_ (Eq.symm (zi_t ⟨c_3, (show inP wx 0 1 from c_6)⟩ _ _))
              rw [ckq]
              rw [er] at hs
              rw [hs]
              first | rw [if_pos hw] | rw [if_neg hw]
          · have c_7 : ¬ (kq ≤ cc) := fun hz_ => c_7 ((nI_leI (a := kq) (b := cc) (by omega) (by omega)).mpr hz_)
            refine lv_aload_n hx hb dX12_catAt_35 rfl (lv_at hl 3 rfl) ?_
            refine z_callv (wc := wj [(mw Y ad_m (sA 64 (fun _ => nI un) (sA 63 x_isLoaded_29 (sA 62 x_farNow_29 (sA 61 (fun _ => x_lots_29) (sA 60 x_row_29 (sA 58 (fun _ => x_isBroken_29) (sA 57 x_pile_29 (sA 56 x_variables_29 (sA 18 (fun _ => nI lv) g_m))))))))) w_m)]) (wr := wj []) (va_runV (As := []) (rest := []) ⟨hx, hb, hml, hown, hts⟩ (m_X12_copies l D Y ad_m (sA 64 (fun _ => nI un) (sA 63 x_isLoaded_29 (sA 62 x_farNow_29 (sA 61 (fun _ => x_lots_29) (sA 60 x_row_29 (sA 58 (fun _ => x_isBroken_29) (sA 57 x_pile_29 (sA 56 x_variables_29 (sA 18 (fun _ => nI lv) g_m))))))))) w_m lv cn t lw σ H.size (show lv < 2 from by exact hlv) (show TW cn t lw from by exact hTW) (show TM lv cn t lw (sA 64 (fun _ => nI un) (sA 63 x_isLoaded_29 (sA 62 x_farNow_29 (sA 61 (fun _ => x_lots_29) (sA 60 x_row_29 (sA 58 (fun _ => x_isBroken_29) (sA 57 x_pile_29 (sA 56 x_variables_29 (sA 18 (fun _ => nI lv) g_m))))))))) from by exact hTM) (show MR (cn 2) σ (g_m 59) from by exact hKN.mr) (show ∀ h, h < cn 1 → σ 1 h = t 2 h from by exact hF1) (show σ 18 0 = t 12 2 from by exact hF2)) (cwV 0 hts (lw_V q2020 q2022 qs86 q133 q2023) rfl rfl rfl (by decide +kernel) ⟨Nat.le_of_ble_eq_true rfl, Nat.le_of_ble_eq_true rfl⟩) (zPreV hK hW hR (wj_split3 (B := [(mw Y ad_m (sA 64 (fun _ => nI un) (sA 63 x_isLoaded_29 (sA 62 x_farNow_29 (sA 61 (fun _ => x_lots_29) (sA 60 x_row_29 (sA 58 (fun _ => x_isBroken_29) (sA 57 x_pile_29 (sA 56 x_variables_29 (sA 18 (fun _ => nI lv) g_m))))))))) w_m)]) (R := []) (C := [(mw Y ad_m (sA 64 (fun _ => nI un) (sA 63 x_isLoaded_29 (sA 62 x_farNow_29 (sA 61 (fun _ => x_lots_29) (sA 60 x_row_29 (sA 58 (fun _ => x_isBroken_29) (sA 57 x_pile_29 (sA 56 x_variables_29 (sA 18 (fun _ => nI lv) g_m))))))))) w_m)]) (O := []) (X := []) (List.Perm.refl _)) (va_recv hK.1 hW.1 (ci := 11) (q0 := 0) rfl rfl)) rfl rfl hl.1 rfl (lv_room (Nat.le_of_ble_eq_true rfl)) dX12_catAt_36 ⟨Nat.le_refl _, Nat.le_refl _⟩) hW hA (wj_split (B := [(mw Y ad_m (sA 64 (fun _ => nI un) (sA 63 x_isLoaded_29 (sA 62 x_farNow_29 (sA 61 (fun _ => x_lots_29) (sA 60 x_row_29 (sA 58 (fun _ => x_isBroken_29) (sA 57 x_pile_29 (sA 56 x_variables_29 (sA 18 (fun _ => nI lv) g_m))))))))) w_m)]) (C := [(mw Y ad_m (sA 64 (fun _ => nI un) (sA 63 x_isLoaded_29 (sA 62 x_farNow_29 (sA 61 (fun _ => x_lots_29) (sA 60 x_row_29 (sA 58 (fun _ => x_isBroken_29) (sA 57 x_pile_29 (sA 56 x_variables_29 (sA 18 (fun _ => nI lv) g_m))))))))) w_m)]) (R := []) (List.Perm.refl _)) (fun  u H locs hp_10 hW => ?_)
            obtain ⟨urow_11, ulots_12, ufarNow_13⟩ := u
            have hp_10 : RS cn σ urow_11 ufarNow_13 ulots_12 := hp_10
            have hW : zW D A s.heap H locs (wj [(mw Y ad_m (sA 64 (fun _ => nI un) (sA 63 x_isLoaded_29 (sA 62 ufarNow_13 (sA 61 (fun _ => ulots_12) (sA 60 urow_11 (sA 58 (fun _ => x_isBroken_29) (sA 57 x_pile_29 (sA 56 x_variables_29 (sA 18 (fun _ => nI lv) g_m))))))))) w_m)]) := hW.join
            refine lv_aload_n hx hb dX12_catAt_39 rfl (lv_at hl 3 rfl) ?_
            refine lv_iload hx hb dX12_catAt_40 (lv_at hl 0 rfl) ?_
            refine z_callv (wc := wj [(mw Y ad_m (sA 64 (fun _ => nI un) (sA 63 x_isLoaded_29 (sA 62 ufarNow_13 (sA 61 (fun _ => ulots_12) (sA 60 urow_11 (sA 58 (fun _ => x_isBroken_29) (sA 57 x_pile_29 (sA 56 x_variables_29 (sA 18 (fun _ => nI lv) g_m))))))))) w_m)]) (wr := wj []) (va_runV (As := [.int (nI cc)]) (rest := []) ⟨hx, hb, hml, hown, hts⟩ (m_X12_goes l D Y ad_m (sA 64 (fun _ => nI un) (sA 63 x_isLoaded_29 (sA 62 ufarNow_13 (sA 61 (fun _ => ulots_12) (sA 60 urow_11 (sA 58 (fun _ => x_isBroken_29) (sA 57 x_pile_29 (sA 56 x_variables_29 (sA 18 (fun _ => nI lv) g_m))))))))) w_m lv cn t lw σ B_ cc H.size (show lv < 2 from by exact hlv) (show TW cn t lw from by exact hTW) (show TM lv cn t lw (sA 64 (fun _ => nI un) (sA 63 x_isLoaded_29 (sA 62 ufarNow_13 (sA 61 (fun _ => ulots_12) (sA 60 urow_11 (sA 58 (fun _ => x_isBroken_29) (sA 57 x_pile_29 (sA 56 x_variables_29 (sA 18 (fun _ => nI lv) g_m))))))))) from by exact hTM) (show RS cn σ urow_11 ufarNow_13 ulots_12 from by exact hp_10) (show WF cn B_ σ from by exact hWF) (show cc < 2000 from by first | assumption | omega | grind)) (cwV 1 hts (lw_V q2039 q2041 qs88 q133 q2042) rfl rfl rfl (by decide +kernel) ⟨Nat.le_of_ble_eq_true rfl, Nat.le_of_ble_eq_true rfl⟩) (zPreV hK hW hR (wj_split3 (B := [(mw Y ad_m (sA 64 (fun _ => nI un) (sA 63 x_isLoaded_29 (sA 62 ufarNow_13 (sA 61 (fun _ => ulots_12) (sA 60 urow_11 (sA 58 (fun _ => x_isBroken_29) (sA 57 x_pile_29 (sA 56 x_variables_29 (sA 18 (fun _ => nI lv) g_m))))))))) w_m)]) (R := []) (C := [(mw Y ad_m (sA 64 (fun _ => nI un) (sA 63 x_isLoaded_29 (sA 62 ufarNow_13 (sA 61 (fun _ => ulots_12) (sA 60 urow_11 (sA 58 (fun _ => x_isBroken_29) (sA 57 x_pile_29 (sA 56 x_variables_29 (sA 18 (fun _ => nI lv) g_m))))))))) w_m)]) (O := []) (X := []) (List.Perm.refl _)) (va_recv hK.1 hW.1 (ci := 11) (q0 := 0) rfl rfl)) rfl rfl hl.1 rfl (lv_room (Nat.le_of_ble_eq_true rfl)) dX12_catAt_42 ⟨Nat.le_refl _, Nat.le_refl _⟩) hW hA (wj_split (B := [(mw Y ad_m (sA 64 (fun _ => nI un) (sA 63 x_isLoaded_29 (sA 62 ufarNow_13 (sA 61 (fun _ => ulots_12) (sA 60 urow_11 (sA 58 (fun _ => x_isBroken_29) (sA 57 x_pile_29 (sA 56 x_variables_29 (sA 18 (fun _ => nI lv) g_m))))))))) w_m)]) (C := [(mw Y ad_m (sA 64 (fun _ => nI un) (sA 63 x_isLoaded_29 (sA 62 ufarNow_13 (sA 61 (fun _ => ulots_12) (sA 60 urow_11 (sA 58 (fun _ => x_isBroken_29) (sA 57 x_pile_29 (sA 56 x_variables_29 (sA 18 (fun _ => nI lv) g_m))))))))) w_m)]) (R := []) (List.Perm.refl _)) (fun  u H locs hp_15 hW => ?_)
            obtain ⟨urow_16, uisLoaded_17, uvariables_18, upile_19, uisBroken_20⟩ := u
            have hp_15 : RS cn (runsP cn lw t σ cc) urow_16 ufarNow_13 ulots_12 := hp_15
            have hW : zW D A s.heap H locs (wj [(mw Y ad_m (sA 64 (fun _ => nI un) (sA 63 uisLoaded_17 (sA 62 ufarNow_13 (sA 61 (fun _ => ulots_12) (sA 60 urow_16 (sA 58 (fun _ => uisBroken_20) (sA 57 upile_19 (sA 56 uvariables_18 (sA 18 (fun _ => nI lv) g_m))))))))) w_m)]) := hW.join
            refine lv_aload_n hx hb dX12_catAt_45 rfl (lv_at hl 3 rfl) ?_
            refine va_get (v := .ref (ad_m 60)) (C := RX12) (T := TX12) (N := 75) (ci := 11) hx hb hts in_X12 hown hK.1 hW.1 0 rfl rfl 60 (by decide) (hts _ q1696) (fun _ h9 => h9) rfl dX12_catAt_46 ?_
            refine lv_bipush (v := 118) hx hb dX12_catAt_49 (by decide) ?_
            refine lv_dup2_11 hx hb dX12_catAt_51 rfl rfl ?_
            refine z_iald (v := (runsP cn lw t σ cc) 12 0) (f := urow_16) (j := 118) hx hb hK.1 hW.1 43 0 rfl rfl (vp_in_nI (n := 118) (by omega) (by decide)) (by decide) (MR.s12 hp_15.1) dX12_catAt_52 ?_
            refine lv_bipush (v := 10) hx hb dX12_catAt_53 (by decide) ?_
            refine lv_iadd hx hb dX12_catAt_55 ?_
            refine z_iast (x := ((runsP cn lw t σ cc) 12 0) + 10) (f := urow_16) (j := 118) (wn := (wj [(mw Y ad_m (sA 64 (fun _ => nI un) (sA 63 uisLoaded_17 (sA 62 ufarNow_13 (sA 61 (fun _ => ulots_12) (sA 60 (upd urow_16 118 (((runsP cn lw t σ cc) 12 0) + 10)) (sA 58 (fun _ => uisBroken_20) (sA 57 upile_19 (sA 56 uvariables_18 (sA 18 (fun _ => nI lv) g_m))))))))) w_m)])) hx hb hK.1 hW 43 0 rfl rfl (vp_in_nI (n := 118) (by omega) (by decide)) (by decide) dX12_catAt_56 rfl (fun H locs hW => ?_)
            refine lv_aload_n hx hb dX12_catAt_57 rfl (lv_at hl 3 rfl) ?_
            refine lv_iload_n hx hb dX12_catAt_58 rfl (lv_at hl 4 rfl) ?_
            refine lv_topi (nm_r (e' := nI kq) ekq ?_)
            refine lv_bipush (v := 10) hx hb dX12_catAt_59 (by decide) ?_
            refine lv_iadd hx hb dX12_catAt_61 ?_
            refine lv_topi (nm_r (e' := nI (kq + 10)) (nI_add kq 10) ?_)
            refine lv_iload hx hb dX12_catAt_62 (lv_at hl 0 rfl) ?_
            refine lv_isub hx hb dX12_catAt_64 ?_
            refine lv_topi (nm_r (e' := nI (kq + 10 - cc)) (pk_sub (a := kq + 10) (b := cc) (by omega)) ?_)
            refine z_callv (wc := wj [(mw Y ad_m (sA 64 (fun _ => nI un) (sA 63 uisLoaded_17 (sA 62 ufarNow_13 (sA 61 (fun _ => ulots_12) (sA 60 (upd urow_16 118 (((runsP cn lw t σ cc) 12 0) + 10)) (sA 58 (fun _ => uisBroken_20) (sA 57 upile_19 (sA 56 uvariables_18 (sA 18 (fun _ => nI lv) g_m))))))))) w_m)]) (wr := wj []) (va_runV (As := [.int (nI (kq + 10 - cc))]) (rest := []) ⟨hx, hb, hml, hown, hts⟩ (m_X12_goes l D Y ad_m (sA 64 (fun _ => nI un) (sA 63 uisLoaded_17 (sA 62 ufarNow_13 (sA 61 (fun _ => ulots_12) (sA 60 (upd urow_16 118 (((runsP cn lw t σ cc) 12 0) + 10)) (sA 58 (fun _ => uisBroken_20) (sA 57 upile_19 (sA 56 uvariables_18 (sA 18 (fun _ => nI lv) g_m))))))))) w_m lv cn t lw (sS 12 (((runsP cn lw t σ cc) 12 0) + 10) (runsP cn lw t σ cc)) B_ (kq + 10 - cc) H.size (show lv < 2 from by exact hlv) (show TW cn t lw from by exact hTW) (show TM lv cn t lw (sA 64 (fun _ => nI un) (sA 63 uisLoaded_17 (sA 62 ufarNow_13 (sA 61 (fun _ => ulots_12) (sA 60 (upd urow_16 118 (((runsP cn lw t σ cc) 12 0) + 10)) (sA 58 (fun _ => uisBroken_20) (sA 57 upile_19 (sA 56 uvariables_18 (sA 18 (fun _ => nI lv) g_m))))))))) from by exact hTM) (show RS cn (sS 12 (((runsP cn lw t σ cc) 12 0) + 10) (runsP cn lw t σ cc)) (upd urow_16 118 (((runsP cn lw t σ cc) 12 0) + 10)) ufarNow_13 ulots_12 from by exact (RS.mk' hp_15 (MR.v12 hk8 hp_15.1 (((runsP cn lw t σ cc) 12 0) + 10)) (by rw [sS_ne (by omega)]) (by rw [sS_ne (by omega)]))) (show WF cn B_ (sS 12 (((runsP cn lw t σ cc) 12 0) + 10) (runsP cn lw t σ cc)) from by exact (WF.runs hTW hWF _).cat10 (cat_ok hWF hTW hc10 _)) (show (kq + 10 - cc) < 2000 from by first | assumption | omega | grind)) (cwV 1 hts (lw_V q2039 q2041 qs88 q133 q2042) rfl rfl rfl (by decide +kernel) ⟨Nat.le_of_ble_eq_true rfl, Nat.le_of_ble_eq_true rfl⟩) (zPreV hK hW hR (wj_split3 (B := [(mw Y ad_m (sA 64 (fun _ => nI un) (sA 63 uisLoaded_17 (sA 62 ufarNow_13 (sA 61 (fun _ => ulots_12) (sA 60 (upd urow_16 118 (((runsP cn lw t σ cc) 12 0) + 10)) (sA 58 (fun _ => uisBroken_20) (sA 57 upile_19 (sA 56 uvariables_18 (sA 18 (fun _ => nI lv) g_m))))))))) w_m)]) (R := []) (C := [(mw Y ad_m (sA 64 (fun _ => nI un) (sA 63 uisLoaded_17 (sA 62 ufarNow_13 (sA 61 (fun _ => ulots_12) (sA 60 (upd urow_16 118 (((runsP cn lw t σ cc) 12 0) + 10)) (sA 58 (fun _ => uisBroken_20) (sA 57 upile_19 (sA 56 uvariables_18 (sA 18 (fun _ => nI lv) g_m))))))))) w_m)]) (O := []) (X := []) (List.Perm.refl _)) (va_recv hK.1 hW.1 (ci := 11) (q0 := 0) rfl rfl)) rfl rfl hl.1 rfl (lv_room (Nat.le_of_ble_eq_true rfl)) dX12_catAt_65 ⟨Nat.le_refl _, Nat.le_refl _⟩) hW hA (wj_split (B := [(mw Y ad_m (sA 64 (fun _ => nI un) (sA 63 uisLoaded_17 (sA 62 ufarNow_13 (sA 61 (fun _ => ulots_12) (sA 60 (upd urow_16 118 (((runsP cn lw t σ cc) 12 0) + 10)) (sA 58 (fun _ => uisBroken_20) (sA 57 upile_19 (sA 56 uvariables_18 (sA 18 (fun _ => nI lv) g_m))))))))) w_m)]) (C := [(mw Y ad_m (sA 64 (fun _ => nI un) (sA 63 uisLoaded_17 (sA 62 ufarNow_13 (sA 61 (fun _ => ulots_12) (sA 60 (upd urow_16 118 (((runsP cn lw t σ cc) 12 0) + 10)) (sA 58 (fun _ => uisBroken_20) (sA 57 upile_19 (sA 56 uvariables_18 (sA 18 (fun _ => nI lv) g_m))))))))) w_m)]) (R := []) (List.Perm.refl _)) (fun  u H locs hp_22 hW => ?_)
            obtain ⟨urow_23, uisLoaded_24, uvariables_25, upile_26, uisBroken_27⟩ := u
            have hp_22 : RS cn (runsP cn lw t (sS 12 (((runsP cn lw t σ cc) 12 0) + 10) (runsP cn lw t σ cc)) (kq + 10 - cc)) urow_23 ufarNow_13 ulots_12 := hp_22
            have hW : zW D A s.heap H locs (wj [(mw Y ad_m (sA 64 (fun _ => nI un) (sA 63 uisLoaded_24 (sA 62 ufarNow_13 (sA 61 (fun _ => ulots_12) (sA 60 urow_23 (sA 58 (fun _ => uisBroken_27) (sA 57 upile_26 (sA 56 uvariables_25 (sA 18 (fun _ => nI lv) g_m))))))))) w_m)]) := hW.join
            refine lv_aload_n hx hb dX12_catAt_68 rfl (lv_at hl 3 rfl) ?_
            refine z_calli (wc := wj [(mw Y ad_m (sA 64 (fun _ => nI un) (sA 63 uisLoaded_24 (sA 62 ufarNow_13 (sA 61 (fun _ => ulots_12) (sA 60 urow_23 (sA 58 (fun _ => uisBroken_27) (sA 57 upile_26 (sA 56 uvariables_25 (sA 18 (fun _ => nI lv) g_m))))))))) w_m)]) (wr := wj []) (va_runV (As := []) (rest := []) ⟨hx, hb, hml, hown, hts⟩ (m_X12_worthAll l D Y ad_m (sA 64 (fun _ => nI un) (sA 63 uisLoaded_24 (sA 62 ufarNow_13 (sA 61 (fun _ => ulots_12) (sA 60 urow_23 (sA 58 (fun _ => uisBroken_27) (sA 57 upile_26 (sA 56 uvariables_25 (sA 18 (fun _ => nI lv) g_m))))))))) w_m lv cn t lw (runsP cn lw t (sS 12 (((runsP cn lw t σ cc) 12 0) + 10) (runsP cn lw t σ cc)) (kq + 10 - cc)) H.size (show lv < 2 from by exact hlv) (show TW cn t lw from by exact hTW) (show TM lv cn t lw (sA 64 (fun _ => nI un) (sA 63 uisLoaded_24 (sA 62 ufarNow_13 (sA 61 (fun _ => ulots_12) (sA 60 urow_23 (sA 58 (fun _ => uisBroken_27) (sA 57 upile_26 (sA 56 uvariables_25 (sA 18 (fun _ => nI lv) g_m))))))))) from by exact hTM) (show RS cn (runsP cn lw t (sS 12 (((runsP cn lw t σ cc) 12 0) + 10) (runsP cn lw t σ cc)) (kq + 10 - cc)) urow_23 ufarNow_13 ulots_12 from by exact hp_22)) (cwV 0 hts (lw_V q2161 q2163 qs104 q133 q2164) rfl rfl rfl (by decide +kernel) ⟨Nat.le_of_ble_eq_true rfl, Nat.le_of_ble_eq_true rfl⟩) (zPreV hK hW hR (wj_split3 (B := [(mw Y ad_m (sA 64 (fun _ => nI un) (sA 63 uisLoaded_24 (sA 62 ufarNow_13 (sA 61 (fun _ => ulots_12) (sA 60 urow_23 (sA 58 (fun _ => uisBroken_27) (sA 57 upile_26 (sA 56 uvariables_25 (sA 18 (fun _ => nI lv) g_m))))))))) w_m)]) (R := []) (C := [(mw Y ad_m (sA 64 (fun _ => nI un) (sA 63 uisLoaded_24 (sA 62 ufarNow_13 (sA 61 (fun _ => ulots_12) (sA 60 urow_23 (sA 58 (fun _ => uisBroken_27) (sA 57 upile_26 (sA 56 uvariables_25 (sA 18 (fun _ => nI lv) g_m))))))))) w_m)]) (O := []) (X := []) (List.Perm.refl _)) (va_recv hK.1 hW.1 (ci := 11) (q0 := 0) rfl rfl)) rfl rfl hl.1 rfl (lv_room (Nat.le_of_ble_eq_true rfl)) dX12_catAt_69 ⟨Nat.le_refl _, Nat.le_refl _⟩) hW hA (wj_split (B := [(mw Y ad_m (sA 64 (fun _ => nI un) (sA 63 uisLoaded_24 (sA 62 ufarNow_13 (sA 61 (fun _ => ulots_12) (sA 60 urow_23 (sA 58 (fun _ => uisBroken_27) (sA 57 upile_26 (sA 56 uvariables_25 (sA 18 (fun _ => nI lv) g_m))))))))) w_m)]) (C := [(mw Y ad_m (sA 64 (fun _ => nI un) (sA 63 uisLoaded_24 (sA 62 ufarNow_13 (sA 61 (fun _ => ulots_12) (sA 60 urow_23 (sA 58 (fun _ => uisBroken_27) (sA 57 upile_26 (sA 56 uvariables_25 (sA 18 (fun _ => nI lv) g_m))))))))) w_m)]) (R := []) (List.Perm.refl _)) (fun r_28 u H locs hp_29 hW => ?_)
            have hp_29 : r_28 = worthTo t (runsP cn lw t (sS 12 (((runsP cn lw t σ cc) 12 0) + 10) (runsP cn lw t σ cc)) (kq + 10 - cc)) (cn 1) := hp_29
            have hW : zW D A s.heap H locs (wj [(mw Y ad_m (sA 64 (fun _ => nI un) (sA 63 uisLoaded_24 (sA 62 ufarNow_13 (sA 61 (fun _ => ulots_12) (sA 60 urow_23 (sA 58 (fun _ => uisBroken_27) (sA 57 upile_26 (sA 56 uvariables_25 (sA 18 (fun _ => nI lv) g_m))))))))) w_m)]) := hW.join
            refine lv_istore (lv' := [(6, .int r_28), (5, .int (nI cc)), (4, .int v4_29), (3, .int v3_29), (0, .ref (ad_m 0)), (1, .int kx), (2, .int wx)]) hx hb dX12_catAt_72 hl (by decide) rfl (fun ls hl => ?_)
            refine lv_iload hx hb dX12_catAt_74 (lv_at hl 0 rfl) ?_
            refine lv_iload hx hb dX12_catAt_76 (lv_at hl 2 rfl) ?_
            refine lv_icmp_gt (tgt := 84) hx hb dX12_catAt_78 (by decide) (fun c_30 => ?_) (fun c_30 => ?_)
            · have hv := c_30
              refine lv_iload hx hb dX12_catAt_84 (lv_at hl 1 rfl) ?_
              refine lv_istore_n (lv' := [(3, .int (nI cc)), (6, .int r_28), (5, .int (nI cc)), (4, .int v4_29), (0, .ref (ad_m 0)), (1, .int kx), (2, .int wx)]) hx hb dX12_catAt_86 rfl hl (by decide) rfl (fun ls hl => ?_)
              refine lv_iload hx hb dX12_catAt_87 (lv_at hl 1 rfl) ?_
              refine lv_istore (lv' := [(4, .int r_28), (3, .int (nI cc)), (6, .int r_28), (5, .int (nI cc)), (0, .ref (ad_m 0)), (1, .int kx), (2, .int wx)]) hx hb dX12_catAt_89 hl (by decide) rfl (fun ls hl => ?_)
              refine lv_iinc (v := nI (cc + 1)) (lv' := [(5, .int (nI (cc + 1))), (4, .int r_28), (3, .int (nI cc)), (6, .int r_28), (0, .ref (ad_m 0)), (1, .int kx), (2, .int wx)]) hx hb dX12_catAt_91 hl (k := 3) rfl (nI_add cc 1) (by decide) rfl (fun ls hl => ?_)
              refine lv_goto (tgt := 29) hx hb dX12_catAt_94 (by decide) ?_
              exact ih_29 (cc + 1) r_28 (nI cc) urow_23 uisLoaded_24 uvariables_25 upile_26 uisBroken_27 ulots_12 ufarNow_13 (by omega) (by omega) (by
                  have hcv : catV cn lw t σ kq cc = _ := hp_29.symm
                  simp only [caTo]
                  rw [hs, hcv]
                  first | exact zi_t (by first | assumption | exact Int32.not_lt.mp hv) _ _ | exact zi_f (by first | assumption | exact Int32.not_le.mpr hv) _ _) _ _ hW _ (lv_sub hl [0, 1, 2, 4, 5, 6] rfl)
            · have hv := c_30
              refine lv_goto (tgt := 91) hx hb dX12_catAt_81 (by decide) ?_
              refine lv_iinc (v := nI (cc + 1)) (lv' := [(5, .int (nI (cc + 1))), (6, .int r_28), (4, .int v4_29), (3, .int v3_29), (0, .ref (ad_m 0)), (1, .int kx), (2, .int wx)]) hx hb dX12_catAt_91 hl (k := 1) rfl (nI_add cc 1) (by decide) rfl (fun ls hl => ?_)
              refine lv_goto (tgt := 29) hx hb dX12_catAt_94 (by decide) ?_
              exact ih_29 (cc + 1) v4_29 v3_29 urow_23 uisLoaded_24 uvariables_25 upile_26 uisBroken_27 ulots_12 ufarNow_13 (by omega) (by omega) (by
                  have hcv : catV cn lw t σ kq cc = _ := hp_29.symm
                  simp only [caTo]
                  rw [hs, hcv]
                  first | exact zi_t (by first | assumption | exact Int32.not_lt.mp hv) _ _ | exact zi_f (by first | assumption | exact Int32.not_le.mpr hv) _ _) _ _ hW _ (lv_sub hl [0, 2, 3, 4, 5, 6] rfl)
      exact loop_29 _ 0 (-1) 0 (g_m 60) (g_m 63) (g_m 56) (g_m 57) (g_m 58 0) (g_m 61 0) (g_m 62) (Nat.lt_succ_self _) (by omega) (by rfl) _ _ hW _ (lv_sub hl [0, 1, 2, 3, 4, 5] rfl)
    · have c_6 : ¬ (¬ wx < 0 ∧ ¬ 1 < wx) := zb_eq hp_5 c_6
      refine lv_iconst (v := (-1)) hx hb dX12_catAt_19 (by decide) ?_
      refine z_ireti ((g_m 60, g_m 63, g_m 56, g_m 57, g_m 58 0, g_m 61 0, g_m 62) : (Nat → Int32) × (Nat → Int32) × (Nat → Int32) × (Nat → Int32) × (Int32) × (Int32) × (Nat → Int32)) hx hb hr hlocks rfl hW rfl dX12_catAt_20 ?_
      show (-1) = catAtO cn lw t σ kx wx
      unfold catAtO
      exact Eq.symm (zi_f (by first | (intro hq; exact absurd hq.1 (by assumption)) | (intro hq; exact absurd hq.2 (by assumption))) _ _)
set_option maxHeartbeats 4000000 in
set_option maxRecDepth 100000 in
theorem m_X12_starves (l : Launch) (D : va_G) (Y : Nat → ClassId) (ad_m : Nat → Nat) (g_m : Nat → Nat → Int32) (w_m : Nat → Nat → Int64) (lv : Nat) (cn : Nat → Nat) (t : tab) (lw : Nat → Option LAW) (σ : tab) (U : List tab) (un : Nat) (B_ : Int) (rx : Int32) (sz : Nat) (hlv : lv < 2) (hTW : TW cn t lw) (hTM : TM lv cn t lw g_m) (hKN : KN (cn 2) σ U (g_m 59) (g_m 65) un) (hF1 : ∀ h, h < cn 1 → σ 1 h = t 2 h) (hF2 : σ 18 0 = t 12 2) (hWF : WF cn B_ σ) : Met l yX12_starves (ws_ yX12_starves cX12_starves 3 (some .int)) ({ frames := 5, cells := 0, slots := 0, locals := 119 }) (zPc D Y [.ref (ad_m 0), .int rx] sz (wj []) (wj [(mw Y ad_m (sA 64 (fun _ => nI un) (sA 18 (fun _ => nI lv) g_m)) w_m)])) (va_Qi (fun (r : Int32) (u : (Nat → Int32) × (Nat → Int32) × (Nat → Int32) × (Nat → Int32) × (Int32) × (Int32) × (Nat → Int32)) => r = starvesO cn lw t σ rx) (zB D (fun (u : (Nat → Int32) × (Nat → Int32) × (Nat → Int32) × (Nat → Int32) × (Int32) × (Int32) × (Nat → Int32)) => (wj [(mw Y ad_m (sA 64 (fun _ => nI un) (sA 63 u.2.1 (sA 62 u.2.2.2.2.2.2 (sA 61 (fun _ => u.2.2.2.2.2.1) (sA 60 u.1 (sA 58 (fun _ => u.2.2.2.2.1) (sA 57 u.2.2.2.1 (sA 56 u.2.2.1 (sA 18 (fun _ => nI lv) g_m))))))))) w_m)])) (va_A (wj [(mw Y ad_m (sA 64 (fun _ => nI un) (sA 18 (fun _ => nI lv) g_m)) w_m)]) sz)) (va_A (wj [(mw Y ad_m (sA 64 (fun _ => nI un) (sA 18 (fun _ => nI lv) g_m)) w_m)]) sz)) 0 0 (va_A (wj [(mw Y ad_m (sA 64 (fun _ => nI un) (sA 18 (fun _ => nI lv) g_m)) w_m)]) sz) := by
  refine Met.ofW (cc := cX12_starves) (maxL := 3) (ret := (some .int)) (by decide) rfl ?_
  intro p e s m args below meth c s₁ B hml hv
  obtain ⟨rfl, hsz, hW, hR, hK, hA⟩ := zEntry hv
  subst hsz
  have hx := B.exec
  have hb := B.bytes
  have hr := B.returns
  have hlocks := B.notSynchronized
  have hts : ∀ w ∈ lw_all, w.before _ s = true := fun w h => atoms_spec (ws := (ws_ yX12_starves cX12_starves 3 (some .int))) B.pre w (List.mem_cons_of_mem _ h)
  have hown : s.vm.findClass RX12 = some m.cls := findClass_of_methodNamed B.named
  generalize hAe : va_A (wj [(mw Y ad_m (sA 64 (fun _ => nI un) (sA 18 (fun _ => nI lv) g_m)) w_m)]) s.heap.size = A at hW hR hA ⊢
  have hl := lv_entry ([.ref (ad_m 0), .int rx]) (n := 3) (Nat.le_of_ble_eq_true rfl)
  rw [lg_entry_eq]
  generalize (lg_sl ([.ref (ad_m 0), .int rx]) ++ List.replicate (3 - (lg_sl ([.ref (ad_m 0), .int rx])).length) Slot.unset).toArray = ls at hl ⊢
  have hl : lv_has ls 3 [(0, .ref (ad_m 0)), (1, .int rx)] := hl
  have hk8 := hTW.n2
  have hk6 := hTW.n1
  have hk60 := hTW.n0
  have hk5 := hTW.n3
  refine lv_aload_n hx hb dX12_starves_0 rfl (lv_at hl 0 rfl) ?_
  refine lv_iload_n hx hb dX12_starves_1 rfl (lv_at hl 1 rfl) ?_
  refine z_calli (wc := wj [(mw Y ad_m (sA 64 (fun _ => nI un) (sA 18 (fun _ => nI lv) g_m)) w_m)]) (wr := wj []) (va_runV (As := [.int rx]) (rest := []) ⟨hx, hb, hml, hown, hts⟩ (m_X12_isRat l D Y ad_m (sA 64 (fun _ => nI un) (sA 18 (fun _ => nI lv) g_m)) w_m lv cn t lw rx s.heap.size (show lv < 2 from by exact hlv) (show TW cn t lw from by exact hTW) (show TM lv cn t lw (sA 64 (fun _ => nI un) (sA 18 (fun _ => nI lv) g_m)) from by exact hTM)) (cwV 1 hts (lw_V q2012 q2014 qs85 q133 q2015) rfl rfl rfl (by decide +kernel) ⟨Nat.le_of_ble_eq_true rfl, Nat.le_of_ble_eq_true rfl⟩) (zPreV hK hW hR (wj_split3 (B := [(mw Y ad_m (sA 64 (fun _ => nI un) (sA 18 (fun _ => nI lv) g_m)) w_m)]) (R := []) (C := [(mw Y ad_m (sA 64 (fun _ => nI un) (sA 18 (fun _ => nI lv) g_m)) w_m)]) (O := []) (X := []) (List.Perm.refl _)) (va_recv hK.1 hW.1 (ci := 11) (q0 := 0) rfl rfl)) rfl rfl hl.1 rfl (lv_room (Nat.le_of_ble_eq_true rfl)) dX12_starves_2 ⟨Nat.le_refl _, Nat.le_refl _⟩) hW hA (wj_split (B := [(mw Y ad_m (sA 64 (fun _ => nI un) (sA 18 (fun _ => nI lv) g_m)) w_m)]) (C := [(mw Y ad_m (sA 64 (fun _ => nI un) (sA 18 (fun _ => nI lv) g_m)) w_m)]) (R := []) (List.Perm.refl _)) (fun r_1 u H locs hp_2 hW => ?_)
  have hp_2 : r_1 = zb (vp_in rx (cn 2)) := hp_2
  have hW : zW D A s.heap H locs (wj [(mw Y ad_m (sA 64 (fun _ => nI un) (sA 18 (fun _ => nI lv) g_m)) w_m)]) := hW.join
  refine lv_if_ne (tgt := 10) hx hb dX12_starves_5 (by decide) (fun c_3 => ?_) (fun c_3 => ?_)
  · have c_3 : vp_in rx (cn 2) := zb_ne hp_2 c_3
    obtain ⟨rn, hrn, ern⟩ := vp_in_of c_3 (by omega)
    have crn : rx.toNatClampNeg = rn := by rw [ern]; exact nI_clamp (by omega)
    refine lv_aload_n hx hb dX12_starves_10 rfl (lv_at hl 0 rfl) ?_
    refine z_callv (wc := wj [(mw Y ad_m (sA 64 (fun _ => nI un) (sA 18 (fun _ => nI lv) g_m)) w_m)]) (wr := wj []) (va_runV (As := []) (rest := []) ⟨hx, hb, hml, hown, hts⟩ (m_X12_copies l D Y ad_m (sA 64 (fun _ => nI un) (sA 18 (fun _ => nI lv) g_m)) w_m lv cn t lw σ H.size (show lv < 2 from by exact hlv) (show TW cn t lw from by exact hTW) (show TM lv cn t lw (sA 64 (fun _ => nI un) (sA 18 (fun _ => nI lv) g_m)) from by exact hTM) (show MR (cn 2) σ (g_m 59) from by exact hKN.mr) (show ∀ h, h < cn 1 → σ 1 h = t 2 h from by exact hF1) (show σ 18 0 = t 12 2 from by exact hF2)) (cwV 0 hts (lw_V q2020 q2022 qs86 q133 q2023) rfl rfl rfl (by decide +kernel) ⟨Nat.le_of_ble_eq_true rfl, Nat.le_of_ble_eq_true rfl⟩) (zPreV hK hW hR (wj_split3 (B := [(mw Y ad_m (sA 64 (fun _ => nI un) (sA 18 (fun _ => nI lv) g_m)) w_m)]) (R := []) (C := [(mw Y ad_m (sA 64 (fun _ => nI un) (sA 18 (fun _ => nI lv) g_m)) w_m)]) (O := []) (X := []) (List.Perm.refl _)) (va_recv hK.1 hW.1 (ci := 11) (q0 := 0) rfl rfl)) rfl rfl hl.1 rfl (lv_room (Nat.le_of_ble_eq_true rfl)) dX12_starves_11 ⟨Nat.le_refl _, Nat.le_refl _⟩) hW hA (wj_split (B := [(mw Y ad_m (sA 64 (fun _ => nI un) (sA 18 (fun _ => nI lv) g_m)) w_m)]) (C := [(mw Y ad_m (sA 64 (fun _ => nI un) (sA 18 (fun _ => nI lv) g_m)) w_m)]) (R := []) (List.Perm.refl _)) (fun  u H locs hp_5 hW => ?_)
    obtain ⟨urow_6, ulots_7, ufarNow_8⟩ := u
    have hp_5 : RS cn σ urow_6 ufarNow_8 ulots_7 := hp_5
    have hW : zW D A s.heap H locs (wj [(mw Y ad_m (sA 64 (fun _ => nI un) (sA 62 ufarNow_8 (sA 61 (fun _ => ulots_7) (sA 60 urow_6 (sA 18 (fun _ => nI lv) g_m))))) w_m)]) := hW.join
    refine lv_iconst (v := 0) hx hb dX12_starves_14 (by decide) ?_
    refine lv_istore_n (lv' := [(2, .int 0), (0, .ref (ad_m 0)), (1, .int rx)]) hx hb dX12_starves_15 rfl hl (by decide) rfl (fun ls hl => ?_)
    have loop_16 : ∀ (n : Nat) (k : Nat) (x_row_16 : Nat → Int32) (x_isLoaded_16 : Nat → Int32) (x_variables_16 : Nat → Int32) (x_pile_16 : Nat → Int32) (x_isBroken_16 : Int32) (τ : tab), 601 - k < n → (k ≤ 601) → (stFrom cn lw t rn (601 - k) k τ = stFrom cn lw t rn 601 0 σ) → (RS cn τ x_row_16 ufarNow_8 ulots_7) → (WF cn B_ τ) → ∀ (H : Heap) (locs : List Loc), zW D A s.heap H locs (wj [(mw Y ad_m (sA 64 (fun _ => nI un) (sA 63 x_isLoaded_16 (sA 62 ufarNow_8 (sA 61 (fun _ => ulots_7) (sA 60 x_row_16 (sA 58 (fun _ => x_isBroken_16) (sA 57 x_pile_16 (sA 56 x_variables_16 (sA 18 (fun _ => nI lv) g_m))))))))) w_m)]) → ∀ (ls : Array Slot), lv_has ls 3 [(2, .int (nI k)), (0, .ref (ad_m 0)), (1, .int rx)] → W p l e (headSpec (ws_ yX12_starves cX12_starves 3 (some .int)) ({ frames := 5, cells := 0, slots := 0, locals := 119 })).room s m ([.ref (ad_m 0), .int rx] : List Value).toArray below meth c H locs 0 0 (MQ below (va_Qi (fun (r : Int32) (u : (Nat → Int32) × (Nat → Int32) × (Nat → Int32) × (Nat → Int32) × (Int32) × (Int32) × (Nat → Int32)) => r = starvesO cn lw t σ rx) (zB D (fun (u : (Nat → Int32) × (Nat → Int32) × (Nat → Int32) × (Nat → Int32) × (Int32) × (Int32) × (Nat → Int32)) => (wj [(mw Y ad_m (sA 64 (fun _ => nI un) (sA 63 u.2.1 (sA 62 u.2.2.2.2.2.2 (sA 61 (fun _ => u.2.2.2.2.2.1) (sA 60 u.1 (sA 58 (fun _ => u.2.2.2.2.1) (sA 57 u.2.2.2.1 (sA 56 u.2.2.1 (sA 18 (fun _ => nI lv) g_m))))))))) w_m)])) A) A) ([.ref (ad_m 0), .int rx] : List Value).toArray s 0 0 A) (F0 m 16 ls []) := by
      intro n
      induction n with
      | zero =>
        intro k x_row_16 x_isLoaded_16 x_variables_16 x_pile_16 x_isBroken_16 τ hmz
        exact absurd hmz (Nat.not_lt_zero _)
      | succ n ih =>
        intro k x_row_16 x_isLoaded_16 x_variables_16 x_pile_16 x_isBroken_16 τ hm_16 hi hτ hRSr hWr H locs hW ls hl
        have ih_16 := ih
        clear ih
        refine lv_iload_n hx hb dX12_starves_16 rfl (lv_at hl 0 rfl) ?_
        refine lv_sipush (v := 600) hx hb dX12_starves_17 (by decide) ?_
        refine lv_icmp_gt (tgt := 49) hx hb dX12_starves_20 (by decide) (fun c_9 => ?_) (fun c_9 => ?_)
        · have c_9 : 600 < k := (nI_ltI (a := 600) (b := k) (by omega) (by omega)).mp c_9
          refine lv_bipush (v := (-2)) hx hb dX12_starves_49 (by decide) ?_
          refine z_ireti ((x_row_16, x_isLoaded_16, x_variables_16, x_pile_16, x_isBroken_16, ulots_7, ufarNow_8) : (Nat → Int32) × (Nat → Int32) × (Nat → Int32) × (Nat → Int32) × (Int32) × (Int32) × (Nat → Int32)) hx hb hr hlocks rfl hW rfl dX12_starves_51 ?_
          show (-2) = starvesO cn lw t σ rx
          unfold starvesO
          refine Eq.trans ?_ (Eq.symm (zi_t c_3 _ _))
          rw [crn, ← hτ]
          first | (rw [show 601 - k = (600 - k) + 1 by omega]; exact (zi_t hy9 _ _).symm) | (rw [show 601 - k = 0 by omega]; rfl)
        · have c_9 : ¬ (600 < k) := fun hz_ => c_9 ((nI_ltI (a := 600) (b := k) (by omega) (by omega)).mpr hz_)
          refine lv_aload_n hx hb dX12_starves_23 rfl (lv_at hl 1 rfl) ?_
          refine va_get (v := .ref (ad_m 60)) (C := RX12) (T := TX12) (N := 75) (ci := 11) hx hb hts in_X12 hown hK.1 hW.1 0 rfl rfl 60 (by decide) (hts _ q1696) (fun _ h9 => h9) rfl dX12_starves_24 ?_
          refine lv_bipush (v := 74) hx hb dX12_starves_27 (by decide) ?_
          refine lv_iload_n hx hb dX12_starves_29 rfl (lv_at hl 2 rfl) ?_
          refine lv_topi (nm_r (e' := nI rn) ern ?_)
          refine lv_iadd hx hb dX12_starves_30 ?_
          refine lv_topi (nm_r (e' := nI (74 + rn)) (nI_add 74 rn) ?_)
          refine z_iald (v := τ 8 rn) (f := x_row_16) (j := 74 + rn) hx hb hK.1 hW.1 43 0 rfl rfl (vp_in_nI (n := 74 + rn) (by omega) (by decide)) (nI_clamp (n := 74 + rn) (by omega)) (MR.r8 hRSr.1 (r := rn) (by omega)) dX12_starves_31 ?_
          refine lv_bipush (v := 99) hx hb dX12_starves_32 (by decide) ?_
          refine lv_icmp_ne (tgt := 39) hx hb dX12_starves_34 (by decide) (fun c_10 => ?_) (fun c_10 => ?_)
          · have hn9 := c_10
            refine lv_aload_n hx hb dX12_starves_39 rfl (lv_at hl 1 rfl) ?_
            refine z_callv (wc := wj [(mw Y ad_m (sA 64 (fun _ => nI un) (sA 63 x_isLoaded_16 (sA 62 ufarNow_8 (sA 61 (fun _ => ulots_7) (sA 60 x_row_16 (sA 58 (fun _ => x_isBroken_16) (sA 57 x_pile_16 (sA 56 x_variables_16 (sA 18 (fun _ => nI lv) g_m))))))))) w_m)]) (wr := wj []) (va_runV (As := []) (rest := []) ⟨hx, hb, hml, hown, hts⟩ (m_X12_minuteGoes l D Y ad_m (sA 64 (fun _ => nI un) (sA 63 x_isLoaded_16 (sA 62 ufarNow_8 (sA 61 (fun _ => ulots_7) (sA 60 x_row_16 (sA 58 (fun _ => x_isBroken_16) (sA 57 x_pile_16 (sA 56 x_variables_16 (sA 18 (fun _ => nI lv) g_m))))))))) w_m lv cn t lw τ B_ H.size (show lv < 2 from by exact hlv) (show TW cn t lw from by exact hTW) (show TM lv cn t lw (sA 64 (fun _ => nI un) (sA 63 x_isLoaded_16 (sA 62 ufarNow_8 (sA 61 (fun _ => ulots_7) (sA 60 x_row_16 (sA 58 (fun _ => x_isBroken_16) (sA 57 x_pile_16 (sA 56 x_variables_16 (sA 18 (fun _ => nI lv) g_m))))))))) from by exact hTM) (show RS cn τ x_row_16 ufarNow_8 ulots_7 from by exact hRSr) (show WF cn B_ τ from by exact hWr)) (cwV 0 hts (lw_V q2043 q2045 qs89 q133 q2046) rfl rfl rfl (by decide +kernel) ⟨Nat.le_of_ble_eq_true rfl, Nat.le_of_ble_eq_true rfl⟩) (zPreV hK hW hR (wj_split3 (B := [(mw Y ad_m (sA 64 (fun _ => nI un) (sA 63 x_isLoaded_16 (sA 62 ufarNow_8 (sA 61 (fun _ => ulots_7) (sA 60 x_row_16 (sA 58 (fun _ => x_isBroken_16) (sA 57 x_pile_16 (sA 56 x_variables_16 (sA 18 (fun _ => nI lv) g_m))))))))) w_m)]) (R := []) (C := [(mw Y ad_m (sA 64 (fun _ => nI un) (sA 63 x_isLoaded_16 (sA 62 ufarNow_8 (sA 61 (fun _ => ulots_7) (sA 60 x_row_16 (sA 58 (fun _ => x_isBroken_16) (sA 57 x_pile_16 (sA 56 x_variables_16 (sA 18 (fun _ => nI lv) g_m))))))))) w_m)]) (O := []) (X := []) (List.Perm.refl _)) (va_recv hK.1 hW.1 (ci := 11) (q0 := 0) rfl rfl)) rfl rfl hl.1 rfl (lv_room (Nat.le_of_ble_eq_true rfl)) dX12_starves_40 ⟨Nat.le_refl _, Nat.le_refl _⟩) hW hA (wj_split (B := [(mw Y ad_m (sA 64 (fun _ => nI un) (sA 63 x_isLoaded_16 (sA 62 ufarNow_8 (sA 61 (fun _ => ulots_7) (sA 60 x_row_16 (sA 58 (fun _ => x_isBroken_16) (sA 57 x_pile_16 (sA 56 x_variables_16 (sA 18 (fun _ => nI lv) g_m))))))))) w_m)]) (C := [(mw Y ad_m (sA 64 (fun _ => nI un) (sA 63 x_isLoaded_16 (sA 62 ufarNow_8 (sA 61 (fun _ => ulots_7) (sA 60 x_row_16 (sA 58 (fun _ => x_isBroken_16) (sA 57 x_pile_16 (sA 56 x_variables_16 (sA 18 (fun _ => nI lv) g_m))))))))) w_m)]) (R := []) (List.Perm.refl _)) (fun  u H locs hp_12 hW => ?_)
            obtain ⟨urow_13, uisLoaded_14, uvariables_15, upile_16, uisBroken_17⟩ := u
            have hp_12 : RS cn (minuteP cn lw t τ) urow_13 ufarNow_8 ulots_7 := hp_12
            have hW : zW D A s.heap H locs (wj [(mw Y ad_m (sA 64 (fun _ => nI un) (sA 63 uisLoaded_14 (sA 62 ufarNow_8 (sA 61 (fun _ => ulots_7) (sA 60 urow_13 (sA 58 (fun _ => uisBroken_17) (sA 57 upile_16 (sA 56 uvariables_15 (sA 18 (fun _ => nI lv) g_m))))))))) w_m)]) := hW.join
            refine lv_iinc (v := nI (k + 1)) (lv' := [(2, .int (nI (k + 1))), (0, .ref (ad_m 0)), (1, .int rx)]) hx hb dX12_starves_43 hl (k := 0) rfl (nI_add k 1) (by decide) rfl (fun ls hl => ?_)
            refine lv_goto (tgt := 16) hx hb dX12_starves_46 (by decide) ?_
            exact ih_16 (k + 1) urow_13 uisLoaded_14 uvariables_15 upile_16 uisBroken_17 (minuteP cn lw t τ) (by omega) (by omega) (by rw [← hτ, show 601 - k = (601 - (k + 1)) + 1 by omega]; exact (zi_f hn9 _ _).symm) (by exact hp_12) (by exact WF.minute hTW hWr) _ _ hW _ (lv_sub hl [0, 1, 2] rfl)
          · have hy9 := c_10
            refine lv_iload_n hx hb dX12_starves_37 rfl (lv_at hl 0 rfl) ?_
            refine z_ireti ((x_row_16, x_isLoaded_16, x_variables_16, x_pile_16, x_isBroken_16, ulots_7, ufarNow_8) : (Nat → Int32) × (Nat → Int32) × (Nat → Int32) × (Nat → Int32) × (Int32) × (Int32) × (Nat → Int32)) hx hb hr hlocks rfl hW rfl dX12_starves_38 ?_
            show (nI k) = starvesO cn lw t σ rx
            unfold starvesO
            refine Eq.trans ?_ (Eq.symm (zi_t c_3 _ _))
            rw [crn, ← hτ]
            first | (rw [show 601 - k = (600 - k) + 1 by omega]; exact (zi_t hy9 _ _).symm) | (rw [show 601 - k = 0 by omega]; rfl)
    exact loop_16 _ 0 urow_6 (g_m 63) (g_m 56) (g_m 57) (g_m 58 0) σ (Nat.lt_succ_self _) (by omega) (by rfl) (by exact hp_5) (by exact hWF) _ _ hW _ (lv_sub hl [0, 1, 2] rfl)
  · have c_3 : ¬ (vp_in rx (cn 2)) := zb_eq hp_2 c_3
    refine lv_iconst (v := (-1)) hx hb dX12_starves_8 (by decide) ?_
    refine z_ireti ((g_m 60, g_m 63, g_m 56, g_m 57, g_m 58 0, g_m 61 0, g_m 62) : (Nat → Int32) × (Nat → Int32) × (Nat → Int32) × (Nat → Int32) × (Int32) × (Int32) × (Nat → Int32)) hx hb hr hlocks rfl hW rfl dX12_starves_9 ?_
    show (-1) = starvesO cn lw t σ rx
    unfold starvesO
    exact Eq.symm (zi_f (by assumption) _ _)
set_option maxHeartbeats 4000000 in
set_option maxRecDepth 100000 in
theorem m_X12_mean (l : Launch) (D : va_G) (Y : Nat → ClassId) (ad_m : Nat → Nat) (g_m : Nat → Nat → Int32) (w_m : Nat → Nat → Int64) (lv : Nat) (cn : Nat → Nat) (t : tab) (lw : Nat → Option LAW) (σ : tab) (U : List tab) (un : Nat) (B_ : Int) (sx : Int32) (kx : Int32) (sz : Nat) (hlv : lv < 2) (hTW : TW cn t lw) (hTM : TM lv cn t lw g_m) (hKN : KN (cn 2) σ U (g_m 59) (g_m 65) un) (hF1 : ∀ h, h < cn 1 → σ 1 h = t 2 h) (hF2 : σ 18 0 = t 12 2) (hWF : WF cn B_ σ) : Met l yX12_mean (ws_ yX12_mean cX12_mean 5 (some .int)) ({ frames := 6, cells := 0, slots := 0, locals := 141 }) (zPc D Y [.ref (ad_m 0), .int sx, .int kx] sz (wj []) (wj [(mw Y ad_m (sA 64 (fun _ => nI un) (sA 18 (fun _ => nI lv) g_m)) w_m)])) (va_Qi (fun (r : Int32) (u : (Nat → Int32) × (Nat → Int32) × (Nat → Int32) × (Nat → Int32) × (Int32) × (Int32) × (Nat → Int32)) => r = meanO cn lw t σ sx kx) (zB D (fun (u : (Nat → Int32) × (Nat → Int32) × (Nat → Int32) × (Nat → Int32) × (Int32) × (Int32) × (Nat → Int32)) => (wj [(mw Y ad_m (sA 64 (fun _ => nI un) (sA 63 u.2.1 (sA 62 u.2.2.2.2.2.2 (sA 61 (fun _ => u.2.2.2.2.2.1) (sA 60 u.1 (sA 58 (fun _ => u.2.2.2.2.1) (sA 57 u.2.2.2.1 (sA 56 u.2.2.1 (sA 18 (fun _ => nI lv) g_m))))))))) w_m)])) (va_A (wj [(mw Y ad_m (sA 64 (fun _ => nI un) (sA 18 (fun _ => nI lv) g_m)) w_m)]) sz)) (va_A (wj [(mw Y ad_m (sA 64 (fun _ => nI un) (sA 18 (fun _ => nI lv) g_m)) w_m)]) sz)) 0 0 (va_A (wj [(mw Y ad_m (sA 64 (fun _ => nI un) (sA 18 (fun _ => nI lv) g_m)) w_m)]) sz) := by
  refine Met.ofW (cc := cX12_mean) (maxL := 5) (ret := (some .int)) (by decide) rfl ?_
  intro p e s m args below meth c s₁ B hml hv
  obtain ⟨rfl, hsz, hW, hR, hK, hA⟩ := zEntry hv
  subst hsz
  have hx := B.exec
  have hb := B.bytes
  have hr := B.returns
  have hlocks := B.notSynchronized
  have hts : ∀ w ∈ lw_all, w.before _ s = true := fun w h => atoms_spec (ws := (ws_ yX12_mean cX12_mean 5 (some .int))) B.pre w (List.mem_cons_of_mem _ h)
  have hown : s.vm.findClass RX12 = some m.cls := findClass_of_methodNamed B.named
  generalize hAe : va_A (wj [(mw Y ad_m (sA 64 (fun _ => nI un) (sA 18 (fun _ => nI lv) g_m)) w_m)]) s.heap.size = A at hW hR hA ⊢
  have hl := lv_entry ([.ref (ad_m 0), .int sx, .int kx]) (n := 5) (Nat.le_of_ble_eq_true rfl)
  rw [lg_entry_eq]
  generalize (lg_sl ([.ref (ad_m 0), .int sx, .int kx]) ++ List.replicate (5 - (lg_sl ([.ref (ad_m 0), .int sx, .int kx])).length) Slot.unset).toArray = ls at hl ⊢
  have hl : lv_has ls 5 [(0, .ref (ad_m 0)), (1, .int sx), (2, .int kx)] := hl
  have hk8 := hTW.n2
  have hk6 := hTW.n1
  have hk60 := hTW.n0
  have hk5 := hTW.n3
  refine lv_iload_n hx hb dX12_mean_0 rfl (lv_at hl 1 rfl) ?_
  refine lv_iconst (v := 1) hx hb dX12_mean_1 (by decide) ?_
  refine lv_bipush (v := 20) hx hb dX12_mean_2 (by decide) ?_
  refine z_calli (wc := wj []) (wr := wj [(mw Y ad_m (sA 64 (fun _ => nI un) (sA 18 (fun _ => nI lv) g_m)) w_m)]) (va_runS (As := [.int sx, .int 1, .int 20]) (rest := []) ⟨hx, hb, hml, hown, hts⟩ (m_X12_in l D Y sx 1 20 s.heap.size) (va_cwS 3 hts (lw_S q1997 q1998 q133 q1999) rfl rfl rfl (by decide +kernel) ⟨Nat.le_of_ble_eq_true rfl, Nat.le_of_ble_eq_true rfl⟩) (zPre hK hW hR (wj_split3 (B := [(mw Y ad_m (sA 64 (fun _ => nI un) (sA 18 (fun _ => nI lv) g_m)) w_m)]) (R := []) (C := []) (O := []) (X := [(mw Y ad_m (sA 64 (fun _ => nI un) (sA 18 (fun _ => nI lv) g_m)) w_m)]) (List.Perm.refl _))) rfl rfl hl.1 rfl (lv_room (Nat.le_of_ble_eq_true rfl)) dX12_mean_4 ⟨Nat.le_refl _, Nat.le_refl _⟩) hW hA (wj_split (B := [(mw Y ad_m (sA 64 (fun _ => nI un) (sA 18 (fun _ => nI lv) g_m)) w_m)]) (C := []) (R := [(mw Y ad_m (sA 64 (fun _ => nI un) (sA 18 (fun _ => nI lv) g_m)) w_m)]) (List.Perm.refl _)) (fun r_1 u H locs hp_2 hW => ?_)
  have hp_2 : r_1 = zb (¬ sx < 1 ∧ ¬ 20 < sx) := hp_2
  have hW : zW D A s.heap H locs (wj [(mw Y ad_m (sA 64 (fun _ => nI un) (sA 18 (fun _ => nI lv) g_m)) w_m)]) := hW.join
  refine lv_if_eq (tgt := 17) hx hb dX12_mean_7 (by decide) (fun c_3 => ?_) (fun c_3 => ?_)
  · have c_3 : ¬ (¬ sx < 1 ∧ ¬ 20 < sx) := zb_eq hp_2 c_3
    refine lv_iconst (v := (-1)) hx hb dX12_mean_17 (by decide) ?_
    refine z_ireti ((g_m 60, g_m 63, g_m 56, g_m 57, g_m 58 0, g_m 61 0, g_m 62) : (Nat → Int32) × (Nat → Int32) × (Nat → Int32) × (Nat → Int32) × (Int32) × (Int32) × (Nat → Int32)) hx hb hr hlocks rfl hW rfl dX12_mean_18 ?_
    show (-1) = meanO cn lw t σ sx kx
    unfold meanO
    exact Eq.symm (zi_f (by first | (intro hq; exact absurd hq.1 (by assumption)) | (intro hq; exact absurd hq.2 (by assumption))) _ _)
  · have c_3 : ¬ sx < 1 ∧ ¬ 20 < sx := zb_ne hp_2 c_3
    obtain ⟨sq, lsq, hsq, esq⟩ := inP_nat (x := sx) (a := 1) (b := 20) c_3 (by omega) (by omega)
    have csq : sx.toNatClampNeg = sq := by rw [esq]; exact nI_clamp (by omega)
    refine lv_iload_n hx hb dX12_mean_10 rfl (lv_at hl 2 rfl) ?_
    refine z_calli (wc := wj []) (wr := wj [(mw Y ad_m (sA 64 (fun _ => nI un) (sA 18 (fun _ => nI lv) g_m)) w_m)]) (va_runS (As := [.int kx]) (rest := []) ⟨hx, hb, hml, hown, hts⟩ (m_X12_isLong l D Y kx H.size) (va_cwS 1 hts (lw_S q2158 q2159 q133 q2160) rfl rfl rfl (by decide +kernel) ⟨Nat.le_of_ble_eq_true rfl, Nat.le_of_ble_eq_true rfl⟩) (zPre hK hW hR (wj_split3 (B := [(mw Y ad_m (sA 64 (fun _ => nI un) (sA 18 (fun _ => nI lv) g_m)) w_m)]) (R := []) (C := []) (O := []) (X := [(mw Y ad_m (sA 64 (fun _ => nI un) (sA 18 (fun _ => nI lv) g_m)) w_m)]) (List.Perm.refl _))) rfl rfl hl.1 rfl (lv_room (Nat.le_of_ble_eq_true rfl)) dX12_mean_11 ⟨Nat.le_refl _, Nat.le_refl _⟩) hW hA (wj_split (B := [(mw Y ad_m (sA 64 (fun _ => nI un) (sA 18 (fun _ => nI lv) g_m)) w_m)]) (C := []) (R := [(mw Y ad_m (sA 64 (fun _ => nI un) (sA 18 (fun _ => nI lv) g_m)) w_m)]) (List.Perm.refl _)) (fun r_4 u H locs hp_5 hW => ?_)
    have hp_5 : r_4 = zb (inP kx 0 600) := hp_5
    have hW : zW D A s.heap H locs (wj [(mw Y ad_m (sA 64 (fun _ => nI un) (sA 18 (fun _ => nI lv) g_m)) w_m)]) := hW.join
    refine lv_if_ne (tgt := 19) hx hb dX12_mean_14 (by decide) (fun c_6 => ?_) (fun c_6 => ?_)
    · have c_6 : inP kx 0 600 := zb_ne hp_5 c_6
      obtain ⟨kq, lkq, hkq, ekq⟩ := inP_nat (x := kx) (a := 0) (b := 600) c_6 (by omega) (by omega)
      have ckq : kx.toNatClampNeg = kq := by rw [ekq]; exact nI_clamp (by omega)
      refine lv_iconst (v := 0) hx hb dX12_mean_19 (by decide) ?_
      refine lv_istore_n (lv' := [(3, .int 0), (0, .ref (ad_m 0)), (1, .int sx), (2, .int kx)]) hx hb dX12_mean_20 rfl hl (by decide) rfl (fun ls hl => ?_)
      refine lv_iconst (v := 0) hx hb dX12_mean_21 (by decide) ?_
      refine lv_istore (lv' := [(4, .int 0), (3, .int 0), (0, .ref (ad_m 0)), (1, .int sx), (2, .int kx)]) hx hb dX12_mean_22 hl (by decide) rfl (fun ls hl => ?_)
      have loop_24 : ∀ (n : Nat) (j : Nat) (v3_24 : Int32) (x_row_24 : Nat → Int32) (x_isLoaded_24 : Nat → Int32) (x_variables_24 : Nat → Int32) (x_pile_24 : Nat → Int32) (x_isBroken_24 : Int32) (x_lots_24 : Int32) (x_farNow_24 : Nat → Int32), sq - j < n → (j ≤ sq) → (v3_24 = meanTo cn lw t σ kq j) → ∀ (H : Heap) (locs : List Loc), zW D A s.heap H locs (wj [(mw Y ad_m (sA 64 (fun _ => nI un) (sA 63 x_isLoaded_24 (sA 62 x_farNow_24 (sA 61 (fun _ => x_lots_24) (sA 60 x_row_24 (sA 58 (fun _ => x_isBroken_24) (sA 57 x_pile_24 (sA 56 x_variables_24 (sA 18 (fun _ => nI lv) g_m))))))))) w_m)]) → ∀ (ls : Array Slot), lv_has ls 5 [(4, .int (nI j)), (3, .int v3_24), (0, .ref (ad_m 0)), (1, .int sx), (2, .int kx)] → W p l e (headSpec (ws_ yX12_mean cX12_mean 5 (some .int)) ({ frames := 6, cells := 0, slots := 0, locals := 141 })).room s m ([.ref (ad_m 0), .int sx, .int kx] : List Value).toArray below meth c H locs 0 0 (MQ below (va_Qi (fun (r : Int32) (u : (Nat → Int32) × (Nat → Int32) × (Nat → Int32) × (Nat → Int32) × (Int32) × (Int32) × (Nat → Int32)) => r = meanO cn lw t σ sx kx) (zB D (fun (u : (Nat → Int32) × (Nat → Int32) × (Nat → Int32) × (Nat → Int32) × (Int32) × (Int32) × (Nat → Int32)) => (wj [(mw Y ad_m (sA 64 (fun _ => nI un) (sA 63 u.2.1 (sA 62 u.2.2.2.2.2.2 (sA 61 (fun _ => u.2.2.2.2.2.1) (sA 60 u.1 (sA 58 (fun _ => u.2.2.2.2.1) (sA 57 u.2.2.2.1 (sA 56 u.2.2.1 (sA 18 (fun _ => nI lv) g_m))))))))) w_m)])) A) A) ([.ref (ad_m 0), .int sx, .int kx] : List Value).toArray s 0 0 A) (F0 m 24 ls []) := by
        intro n
        induction n with
        | zero =>
          intro j v3_24 x_row_24 x_isLoaded_24 x_variables_24 x_pile_24 x_isBroken_24 x_lots_24 x_farNow_24 hmz
          exact absurd hmz (Nat.not_lt_zero _)
        | succ n ih =>
          intro j v3_24 x_row_24 x_isLoaded_24 x_variables_24 x_pile_24 x_isBroken_24 x_lots_24 x_farNow_24 hm_24 hi hv3 H locs hW ls hl
          have ih_24 := ih
          clear ih
          refine lv_iload hx hb dX12_mean_24 (lv_at hl 0 rfl) ?_
          refine lv_iload_n hx hb dX12_mean_26 rfl (lv_at hl 3 rfl) ?_
          refine lv_topi (nm_r (e' := nI sq) esq ?_)
          refine lv_icmp_ge (tgt := 64) hx hb dX12_mean_27 (by decide) (fun c_7 => ?_) (fun c_7 => ?_)
          · have c_7 : sq ≤ j := (nI_leI (a := sq) (b := j) (by omega) (by omega)).mp c_7
            refine lv_iload_n hx hb dX12_mean_64 rfl (lv_at hl 1 rfl) ?_
            refine z_ireti ((x_row_24, x_isLoaded_24, x_variables_24, x_pile_24, x_isBroken_24, x_lots_24, x_farNow_24) : (Nat → Int32) × (Nat → Int32) × (Nat → Int32) × (Nat → Int32) × (Int32) × (Int32) × (Nat → Int32)) hx hb hr hlocks rfl hW rfl dX12_mean_65 ?_
            show v3_24 = meanO cn lw t σ sx kx
            have er : j = sq := by omega
            unfold meanO
            refine Eq.trans ?_ (Eq.symm (zi_t ⟨c_3, c_6⟩ _ _))
            rw [csq, ckq, hv3, er]
          · have c_7 : ¬ (sq ≤ j) := fun hz_ => c_7 ((nI_leI (a := sq) (b := j) (by omega) (by omega)).mpr hz_)
            refine lv_aload_n hx hb dX12_mean_30 rfl (lv_at hl 2 rfl) ?_
            refine z_callv (wc := wj [(mw Y ad_m (sA 64 (fun _ => nI un) (sA 63 x_isLoaded_24 (sA 62 x_farNow_24 (sA 61 (fun _ => x_lots_24) (sA 60 x_row_24 (sA 58 (fun _ => x_isBroken_24) (sA 57 x_pile_24 (sA 56 x_variables_24 (sA 18 (fun _ => nI lv) g_m))))))))) w_m)]) (wr := wj []) (va_runV (As := []) (rest := []) ⟨hx, hb, hml, hown, hts⟩ (m_X12_copies l D Y ad_m (sA 64 (fun _ => nI un) (sA 63 x_isLoaded_24 (sA 62 x_farNow_24 (sA 61 (fun _ => x_lots_24) (sA 60 x_row_24 (sA 58 (fun _ => x_isBroken_24) (sA 57 x_pile_24 (sA 56 x_variables_24 (sA 18 (fun _ => nI lv) g_m))))))))) w_m lv cn t lw σ H.size (show lv < 2 from by exact hlv) (show TW cn t lw from by exact hTW) (show TM lv cn t lw (sA 64 (fun _ => nI un) (sA 63 x_isLoaded_24 (sA 62 x_farNow_24 (sA 61 (fun _ => x_lots_24) (sA 60 x_row_24 (sA 58 (fun _ => x_isBroken_24) (sA 57 x_pile_24 (sA 56 x_variables_24 (sA 18 (fun _ => nI lv) g_m))))))))) from by exact hTM) (show MR (cn 2) σ (g_m 59) from by exact hKN.mr) (show ∀ h, h < cn 1 → σ 1 h = t 2 h from by exact hF1) (show σ 18 0 = t 12 2 from by exact hF2)) (cwV 0 hts (lw_V q2020 q2022 qs86 q133 q2023) rfl rfl rfl (by decide +kernel) ⟨Nat.le_of_ble_eq_true rfl, Nat.le_of_ble_eq_true rfl⟩) (zPreV hK hW hR (wj_split3 (B := [(mw Y ad_m (sA 64 (fun _ => nI un) (sA 63 x_isLoaded_24 (sA 62 x_farNow_24 (sA 61 (fun _ => x_lots_24) (sA 60 x_row_24 (sA 58 (fun _ => x_isBroken_24) (sA 57 x_pile_24 (sA 56 x_variables_24 (sA 18 (fun _ => nI lv) g_m))))))))) w_m)]) (R := []) (C := [(mw Y ad_m (sA 64 (fun _ => nI un) (sA 63 x_isLoaded_24 (sA 62 x_farNow_24 (sA 61 (fun _ => x_lots_24) (sA 60 x_row_24 (sA 58 (fun _ => x_isBroken_24) (sA 57 x_pile_24 (sA 56 x_variables_24 (sA 18 (fun _ => nI lv) g_m))))))))) w_m)]) (O := []) (X := []) (List.Perm.refl _)) (va_recv hK.1 hW.1 (ci := 11) (q0 := 0) rfl rfl)) rfl rfl hl.1 rfl (lv_room (Nat.le_of_ble_eq_true rfl)) dX12_mean_31 ⟨Nat.le_refl _, Nat.le_refl _⟩) hW hA (wj_split (B := [(mw Y ad_m (sA 64 (fun _ => nI un) (sA 63 x_isLoaded_24 (sA 62 x_farNow_24 (sA 61 (fun _ => x_lots_24) (sA 60 x_row_24 (sA 58 (fun _ => x_isBroken_24) (sA 57 x_pile_24 (sA 56 x_variables_24 (sA 18 (fun _ => nI lv) g_m))))))))) w_m)]) (C := [(mw Y ad_m (sA 64 (fun _ => nI un) (sA 63 x_isLoaded_24 (sA 62 x_farNow_24 (sA 61 (fun _ => x_lots_24) (sA 60 x_row_24 (sA 58 (fun _ => x_isBroken_24) (sA 57 x_pile_24 (sA 56 x_variables_24 (sA 18 (fun _ => nI lv) g_m))))))))) w_m)]) (R := []) (List.Perm.refl _)) (fun  u H locs hp_9 hW => ?_)
            obtain ⟨urow_10, ulots_11, ufarNow_12⟩ := u
            have hp_9 : RS cn σ urow_10 ufarNow_12 ulots_11 := hp_9
            have hW : zW D A s.heap H locs (wj [(mw Y ad_m (sA 64 (fun _ => nI un) (sA 63 x_isLoaded_24 (sA 62 ufarNow_12 (sA 61 (fun _ => ulots_11) (sA 60 urow_10 (sA 58 (fun _ => x_isBroken_24) (sA 57 x_pile_24 (sA 56 x_variables_24 (sA 18 (fun _ => nI lv) g_m))))))))) w_m)]) := hW.join
            refine lv_aload_n hx hb dX12_mean_34 rfl (lv_at hl 2 rfl) ?_
            refine lv_dup hx hb dX12_mean_35 rfl ?_
            refine va_get (v := .int ulots_11) (C := RX12) (T := TX12) (N := 75) (ci := 11) hx hb hts in_X12 hown hK.1 hW.1 0 rfl rfl 61 (by decide) (hts _ q1697) (fun _ h9 => h9) rfl dX12_mean_36 ?_
            refine lv_iload hx hb dX12_mean_39 (lv_at hl 0 rfl) ?_
            refine lv_iadd hx hb dX12_mean_41 ?_
            refine z_put (v := .int (ulots_11 + (nI j))) (C := RX12) (T := TX12) (N := 75) (ci := 11) (wn := (wj [(mw Y ad_m (sA 64 (fun _ => nI un) (sA 63 x_isLoaded_24 (sA 62 ufarNow_12 (sA 61 (fun _ => ulots_11 + (nI j)) (sA 60 urow_10 (sA 58 (fun _ => x_isBroken_24) (sA 57 x_pile_24 (sA 56 x_variables_24 (sA 18 (fun _ => nI lv) g_m))))))))) w_m)])) hx hb hts in_X12 tyX12 tyX12_ok nmX12 hown hK.1 hW 0 rfl rfl 61 (by decide) (hts _ q1697) (fun _ h9 => h9) rfl rfl rfl (Nat.le_of_ble_eq_true rfl) dX12_mean_42 rfl (fun H locs hW => ?_)
            have hRSl : RS cn (sS 18 (t 12 2 + nI j) σ) urow_10 ufarNow_12 (ulots_11 + (nI j)) := by
              have el : (ulots_11 + (nI j)) = t 12 2 + nI j := by rw [hp_9.2.2, hF2]
              rw [el]; exact RS.lots hp_9
            refine lv_aload_n hx hb dX12_mean_45 rfl (lv_at hl 2 rfl) ?_
            refine lv_iload_n hx hb dX12_mean_46 rfl (lv_at hl 4 rfl) ?_
            refine lv_topi (nm_r (e' := nI kq) ekq ?_)
            refine z_callv (wc := wj [(mw Y ad_m (sA 64 (fun _ => nI un) (sA 63 x_isLoaded_24 (sA 62 ufarNow_12 (sA 61 (fun _ => ulots_11 + (nI j)) (sA 60 urow_10 (sA 58 (fun _ => x_isBroken_24) (sA 57 x_pile_24 (sA 56 x_variables_24 (sA 18 (fun _ => nI lv) g_m))))))))) w_m)]) (wr := wj []) (va_runV (As := [.int (nI kq)]) (rest := []) ⟨hx, hb, hml, hown, hts⟩ (m_X12_goes l D Y ad_m (sA 64 (fun _ => nI un) (sA 63 x_isLoaded_24 (sA 62 ufarNow_12 (sA 61 (fun _ => ulots_11 + (nI j)) (sA 60 urow_10 (sA 58 (fun _ => x_isBroken_24) (sA 57 x_pile_24 (sA 56 x_variables_24 (sA 18 (fun _ => nI lv) g_m))))))))) w_m lv cn t lw (sS 18 (t 12 2 + nI j) σ) B_ kq H.size (show lv < 2 from by exact hlv) (show TW cn t lw from by exact hTW) (show TM lv cn t lw (sA 64 (fun _ => nI un) (sA 63 x_isLoaded_24 (sA 62 ufarNow_12 (sA 61 (fun _ => ulots_11 + (nI j)) (sA 60 urow_10 (sA 58 (fun _ => x_isBroken_24) (sA 57 x_pile_24 (sA 56 x_variables_24 (sA 18 (fun _ => nI lv) g_m))))))))) from by exact hTM) (show RS cn (sS 18 (t 12 2 + nI j) σ) urow_10 ufarNow_12 (ulots_11 + (nI j)) from by exact hRSl) (show WF cn B_ (sS 18 (t 12 2 + nI j) σ) from by exact hWF.s18 _) (show kq < 2000 from by first | assumption | omega | grind)) (cwV 1 hts (lw_V q2039 q2041 qs88 q133 q2042) rfl rfl rfl (by decide +kernel) ⟨Nat.le_of_ble_eq_true rfl, Nat.le_of_ble_eq_true rfl⟩) (zPreV hK hW hR (wj_split3 (B := [(mw Y ad_m (sA 64 (fun _ => nI un) (sA 63 x_isLoaded_24 (sA 62 ufarNow_12 (sA 61 (fun _ => ulots_11 + (nI j)) (sA 60 urow_10 (sA 58 (fun _ => x_isBroken_24) (sA 57 x_pile_24 (sA 56 x_variables_24 (sA 18 (fun _ => nI lv) g_m))))))))) w_m)]) (R := []) (C := [(mw Y ad_m (sA 64 (fun _ => nI un) (sA 63 x_isLoaded_24 (sA 62 ufarNow_12 (sA 61 (fun _ => ulots_11 + (nI j)) (sA 60 urow_10 (sA 58 (fun _ => x_isBroken_24) (sA 57 x_pile_24 (sA 56 x_variables_24 (sA 18 (fun _ => nI lv) g_m))))))))) w_m)]) (O := []) (X := []) (List.Perm.refl _)) (va_recv hK.1 hW.1 (ci := 11) (q0 := 0) rfl rfl)) rfl rfl hl.1 rfl (lv_room (Nat.le_of_ble_eq_true rfl)) dX12_mean_47 ⟨Nat.le_refl _, Nat.le_refl _⟩) hW hA (wj_split (B := [(mw Y ad_m (sA 64 (fun _ => nI un) (sA 63 x_isLoaded_24 (sA 62 ufarNow_12 (sA 61 (fun _ => ulots_11 + (nI j)) (sA 60 urow_10 (sA 58 (fun _ => x_isBroken_24) (sA 57 x_pile_24 (sA 56 x_variables_24 (sA 18 (fun _ => nI lv) g_m))))))))) w_m)]) (C := [(mw Y ad_m (sA 64 (fun _ => nI un) (sA 63 x_isLoaded_24 (sA 62 ufarNow_12 (sA 61 (fun _ => ulots_11 + (nI j)) (sA 60 urow_10 (sA 58 (fun _ => x_isBroken_24) (sA 57 x_pile_24 (sA 56 x_variables_24 (sA 18 (fun _ => nI lv) g_m))))))))) w_m)]) (R := []) (List.Perm.refl _)) (fun  u H locs hp_14 hW => ?_)
            obtain ⟨urow_15, uisLoaded_16, uvariables_17, upile_18, uisBroken_19⟩ := u
            have hp_14 : RS cn (runsP cn lw t (sS 18 (t 12 2 + nI j) σ) kq) urow_15 ufarNow_12 (ulots_11 + (nI j)) := hp_14
            have hW : zW D A s.heap H locs (wj [(mw Y ad_m (sA 64 (fun _ => nI un) (sA 63 uisLoaded_16 (sA 62 ufarNow_12 (sA 61 (fun _ => ulots_11 + (nI j)) (sA 60 urow_15 (sA 58 (fun _ => uisBroken_19) (sA 57 upile_18 (sA 56 uvariables_17 (sA 18 (fun _ => nI lv) g_m))))))))) w_m)]) := hW.join
            refine lv_iload_n hx hb dX12_mean_50 rfl (lv_at hl 1 rfl) ?_
            refine lv_aload_n hx hb dX12_mean_51 rfl (lv_at hl 2 rfl) ?_
            refine lv_iconst (v := 0) hx hb dX12_mean_52 (by decide) ?_
            refine z_calli (wc := wj [(mw Y ad_m (sA 64 (fun _ => nI un) (sA 63 uisLoaded_16 (sA 62 ufarNow_12 (sA 61 (fun _ => ulots_11 + (nI j)) (sA 60 urow_15 (sA 58 (fun _ => uisBroken_19) (sA 57 upile_18 (sA 56 uvariables_17 (sA 18 (fun _ => nI lv) g_m))))))))) w_m)]) (wr := wj []) (va_runV (As := [.int 0]) (rest := [.int v3_24]) ⟨hx, hb, hml, hown, hts⟩ (m_X12_inHoles_0 l D Y ad_m (sA 64 (fun _ => nI un) (sA 63 uisLoaded_16 (sA 62 ufarNow_12 (sA 61 (fun _ => ulots_11 + (nI j)) (sA 60 urow_15 (sA 58 (fun _ => uisBroken_19) (sA 57 upile_18 (sA 56 uvariables_17 (sA 18 (fun _ => nI lv) g_m))))))))) w_m lv cn t lw (runsP cn lw t (sS 18 (t 12 2 + nI j) σ) kq) H.size (show lv < 2 from by exact hlv) (show TW cn t lw from by exact hTW) (show TM lv cn t lw (sA 64 (fun _ => nI un) (sA 63 uisLoaded_16 (sA 62 ufarNow_12 (sA 61 (fun _ => ulots_11 + (nI j)) (sA 60 urow_15 (sA 58 (fun _ => uisBroken_19) (sA 57 upile_18 (sA 56 uvariables_17 (sA 18 (fun _ => nI lv) g_m))))))))) from by exact hTM) (show RS cn (runsP cn lw t (sS 18 (t 12 2 + nI j) σ) kq) urow_15 ufarNow_12 (ulots_11 + (nI j)) from by exact hp_14)) (cwV 1 hts (lw_V q2169 q2171 qs106 q133 q2172) rfl rfl rfl (by decide +kernel) ⟨Nat.le_of_ble_eq_true rfl, Nat.le_of_ble_eq_true rfl⟩) (zPreV hK hW hR (wj_split3 (B := [(mw Y ad_m (sA 64 (fun _ => nI un) (sA 63 uisLoaded_16 (sA 62 ufarNow_12 (sA 61 (fun _ => ulots_11 + (nI j)) (sA 60 urow_15 (sA 58 (fun _ => uisBroken_19) (sA 57 upile_18 (sA 56 uvariables_17 (sA 18 (fun _ => nI lv) g_m))))))))) w_m)]) (R := []) (C := [(mw Y ad_m (sA 64 (fun _ => nI un) (sA 63 uisLoaded_16 (sA 62 ufarNow_12 (sA 61 (fun _ => ulots_11 + (nI j)) (sA 60 urow_15 (sA 58 (fun _ => uisBroken_19) (sA 57 upile_18 (sA 56 uvariables_17 (sA 18 (fun _ => nI lv) g_m))))))))) w_m)]) (O := []) (X := []) (List.Perm.refl _)) (va_recv hK.1 hW.1 (ci := 11) (q0 := 0) rfl rfl)) rfl rfl hl.1 rfl (lv_room (Nat.le_of_ble_eq_true rfl)) dX12_mean_53 ⟨Nat.le_refl _, Nat.le_refl _⟩) hW hA (wj_split (B := [(mw Y ad_m (sA 64 (fun _ => nI un) (sA 63 uisLoaded_16 (sA 62 ufarNow_12 (sA 61 (fun _ => ulots_11 + (nI j)) (sA 60 urow_15 (sA 58 (fun _ => uisBroken_19) (sA 57 upile_18 (sA 56 uvariables_17 (sA 18 (fun _ => nI lv) g_m))))))))) w_m)]) (C := [(mw Y ad_m (sA 64 (fun _ => nI un) (sA 63 uisLoaded_16 (sA 62 ufarNow_12 (sA 61 (fun _ => ulots_11 + (nI j)) (sA 60 urow_15 (sA 58 (fun _ => uisBroken_19) (sA 57 upile_18 (sA 56 uvariables_17 (sA 18 (fun _ => nI lv) g_m))))))))) w_m)]) (R := []) (List.Perm.refl _)) (fun r_20 u H locs hp_21 hW => ?_)
            have hp_21 : r_20 = sortedTo t (runsP cn lw t (sS 18 (t 12 2 + nI j) σ) kq) false (cn 1) := hp_21
            have hW : zW D A s.heap H locs (wj [(mw Y ad_m (sA 64 (fun _ => nI un) (sA 63 uisLoaded_16 (sA 62 ufarNow_12 (sA 61 (fun _ => ulots_11 + (nI j)) (sA 60 urow_15 (sA 58 (fun _ => uisBroken_19) (sA 57 upile_18 (sA 56 uvariables_17 (sA 18 (fun _ => nI lv) g_m))))))))) w_m)]) := hW.join
            refine lv_iadd hx hb dX12_mean_56 ?_
            refine lv_istore_n (lv' := [(3, .int (v3_24 + r_20)), (4, .int (nI j)), (0, .ref (ad_m 0)), (1, .int sx), (2, .int kx)]) hx hb dX12_mean_57 rfl hl (by decide) rfl (fun ls hl => ?_)
            refine lv_iinc (v := nI (j + 1)) (lv' := [(4, .int (nI (j + 1))), (3, .int (v3_24 + r_20)), (0, .ref (ad_m 0)), (1, .int sx), (2, .int kx)]) hx hb dX12_mean_58 hl (k := 1) rfl (nI_add j 1) (by decide) rfl (fun ls hl => ?_)
            refine lv_goto (tgt := 24) hx hb dX12_mean_61 (by decide) ?_
            exact ih_24 (j + 1) (v3_24 + r_20) urow_15 uisLoaded_16 uvariables_17 upile_18 uisBroken_19 (ulots_11 + (nI j)) ufarNow_12 (by omega) (by omega) (by simp only [meanTo]; rw [hv3, hp_21]) _ _ hW _ (lv_sub hl [0, 1, 2, 3, 4] rfl)
      exact loop_24 _ 0 0 (g_m 60) (g_m 63) (g_m 56) (g_m 57) (g_m 58 0) (g_m 61 0) (g_m 62) (Nat.lt_succ_self _) (by omega) (by rfl) _ _ hW _ (lv_sub hl [0, 1, 2, 3, 4] rfl)
    · have c_6 : ¬ (inP kx 0 600) := zb_eq hp_5 c_6
      refine lv_iconst (v := (-1)) hx hb dX12_mean_17 (by decide) ?_
      refine z_ireti ((g_m 60, g_m 63, g_m 56, g_m 57, g_m 58 0, g_m 61 0, g_m 62) : (Nat → Int32) × (Nat → Int32) × (Nat → Int32) × (Nat → Int32) × (Int32) × (Int32) × (Nat → Int32)) hx hb hr hlocks rfl hW rfl dX12_mean_18 ?_
      show (-1) = meanO cn lw t σ sx kx
      unfold meanO
      exact Eq.symm (zi_f (by first | (intro hq; exact absurd hq.1 (by assumption)) | (intro hq; exact absurd hq.2 (by assumption))) _ _)
set_option maxHeartbeats 4000000 in
set_option maxRecDepth 100000 in
theorem m_X12_isSet (l : Launch) (D : va_G) (Y : Nat → ClassId) (ad_m : Nat → Nat) (g_m : Nat → Nat → Int32) (w_m : Nat → Nat → Int64) (lv : Nat) (cn : Nat → Nat) (t : tab) (lw : Nat → Option LAW) (sx : Int32) (kx : Int32) (sz : Nat) (hlv : lv < 2) (hTW : TW cn t lw) (hTM : TM lv cn t lw g_m) : Met l yX12_isSet (ws_ yX12_isSet cX12_isSet 3 (some .boolean)) ({ frames := 2, cells := 0, slots := 0, locals := 34 }) (zPc D Y [.ref (ad_m 0), .int sx, .int kx] sz (wj []) (wj [(mw Y ad_m (sA 18 (fun _ => nI lv) g_m) w_m)])) (va_Qi (fun (r : Int32) (u : Unit) => r = zb (isSetP cn sx kx)) (zB D (fun (u : Unit) => (wj [(mw Y ad_m (sA 18 (fun _ => nI lv) g_m) w_m)])) (va_A (wj [(mw Y ad_m (sA 18 (fun _ => nI lv) g_m) w_m)]) sz)) (va_A (wj [(mw Y ad_m (sA 18 (fun _ => nI lv) g_m) w_m)]) sz)) 0 0 (va_A (wj [(mw Y ad_m (sA 18 (fun _ => nI lv) g_m) w_m)]) sz) := by
  refine Met.ofW (cc := cX12_isSet) (maxL := 3) (ret := (some .boolean)) (by decide) rfl ?_
  intro p e s m args below meth c s₁ B hml hv
  obtain ⟨rfl, hsz, hW, hR, hK, hA⟩ := zEntry hv
  subst hsz
  have hx := B.exec
  have hb := B.bytes
  have hr := B.returns
  have hlocks := B.notSynchronized
  have hts : ∀ w ∈ lw_all, w.before _ s = true := fun w h => atoms_spec (ws := (ws_ yX12_isSet cX12_isSet 3 (some .boolean))) B.pre w (List.mem_cons_of_mem _ h)
  have hown : s.vm.findClass RX12 = some m.cls := findClass_of_methodNamed B.named
  generalize hAe : va_A (wj [(mw Y ad_m (sA 18 (fun _ => nI lv) g_m) w_m)]) s.heap.size = A at hW hR hA ⊢
  have hl := lv_entry ([.ref (ad_m 0), .int sx, .int kx]) (n := 3) (Nat.le_of_ble_eq_true rfl)
  rw [lg_entry_eq]
  generalize (lg_sl ([.ref (ad_m 0), .int sx, .int kx]) ++ List.replicate (3 - (lg_sl ([.ref (ad_m 0), .int sx, .int kx])).length) Slot.unset).toArray = ls at hl ⊢
  have hl : lv_has ls 3 [(0, .ref (ad_m 0)), (1, .int sx), (2, .int kx)] := hl
  have hk8 := hTW.n2
  have hk6 := hTW.n1
  have hk60 := hTW.n0
  have hk5 := hTW.n3
  have hsh2 := shl1 (k := cn 2) (by omega)
  have h2n : 2 ^ cn 2 ≤ 256 := (Nat.pow_le_pow_right (by omega) hk8 : 2 ^ cn 2 ≤ 2 ^ 8)
  have h2p : 0 < 2 ^ cn 2 := Nat.pow_pos (by omega)
  refine lv_iload_n hx hb dX12_isSet_0 rfl (lv_at hl 1 rfl) ?_
  refine lv_iconst (v := 1) hx hb dX12_isSet_1 (by decide) ?_
  refine lv_iconst (v := 1) hx hb dX12_isSet_2 (by decide) ?_
  refine lv_aload_n hx hb dX12_isSet_3 rfl (lv_at hl 0 rfl) ?_
  refine va_get (v := .ref (ad_m 30)) (C := RX12) (T := TX12) (N := 75) (ci := 11) hx hb hts in_X12 hown hK.1 hW.1 0 rfl rfl 30 (by decide) (hts _ q1666) (fun _ h9 => h9) rfl dX12_isSet_4 ?_
  refine lv_aload_n hx hb dX12_isSet_7 rfl (lv_at hl 0 rfl) ?_
  refine va_get (v := .int (nI lv)) (C := RX12) (T := TX12) (N := 75) (ci := 11) hx hb hts in_X12 hown hK.1 hW.1 0 rfl rfl 18 (by decide) (hts _ q1654) (fun _ h9 => h9) rfl dX12_isSet_8 ?_
  refine z_iald (v := nI (cn 2)) (f := g_m 30) (j := lv) hx hb hK.1 hW.1 17 0 rfl rfl (vp_in_nI (n := lv) (by omega) (by decide)) (nI_clamp (n := lv) (by omega)) (TM.c30 hTM) dX12_isSet_11 ?_
  refine lv_ishl hx hb dX12_isSet_12 ?_
  refine lv_topi (nm_r (e' := nI (2 ^ cn 2)) hsh2 ?_)
  refine lv_iconst (v := 1) hx hb dX12_isSet_13 (by decide) ?_
  refine lv_isub hx hb dX12_isSet_14 ?_
  refine z_calli (wc := wj []) (wr := wj [(mw Y ad_m (sA 18 (fun _ => nI lv) g_m) w_m)]) (va_runS (As := [.int sx, .int 1, .int ((nI (2 ^ cn 2)) - 1)]) (rest := []) ⟨hx, hb, hml, hown, hts⟩ (m_X12_in l D Y sx 1 ((nI (2 ^ cn 2)) - 1) s.heap.size) (va_cwS 3 hts (lw_S q1997 q1998 q133 q1999) rfl rfl rfl (by decide +kernel) ⟨Nat.le_of_ble_eq_true rfl, Nat.le_of_ble_eq_true rfl⟩) (zPre hK hW hR (wj_split3 (B := [(mw Y ad_m (sA 18 (fun _ => nI lv) g_m) w_m)]) (R := []) (C := []) (O := []) (X := [(mw Y ad_m (sA 18 (fun _ => nI lv) g_m) w_m)]) (List.Perm.refl _))) rfl rfl hl.1 rfl (lv_room (Nat.le_of_ble_eq_true rfl)) dX12_isSet_15 ⟨Nat.le_refl _, Nat.le_refl _⟩) hW hA (wj_split (B := [(mw Y ad_m (sA 18 (fun _ => nI lv) g_m) w_m)]) (C := []) (R := [(mw Y ad_m (sA 18 (fun _ => nI lv) g_m) w_m)]) (List.Perm.refl _)) (fun r_1 u H locs hp_2 hW => ?_)
  have hp_2 : r_1 = zb (¬ sx < 1 ∧ ¬ ((nI (2 ^ cn 2)) - 1) < sx) := hp_2
  have hW : zW D A s.heap H locs (wj [(mw Y ad_m (sA 18 (fun _ => nI lv) g_m) w_m)]) := hW.join
  refine lv_if_eq (tgt := 56) hx hb dX12_isSet_18 (by decide) (fun c_3 => ?_) (fun c_3 => ?_)
  · have c_3 : ¬ (¬ sx < 1 ∧ ¬ ((nI (2 ^ cn 2)) - 1) < sx) := zb_eq hp_2 c_3
    have h1 := c_3
    refine lv_iconst (v := 0) hx hb dX12_isSet_56 (by decide) ?_
    refine z_ireti (() : Unit) hx hb hr hlocks rfl hW rfl dX12_isSet_57 ?_
    show 0 = zb (isSetP cn sx kx)
    first | exact zb_1 ⟨h1, by rw [None] at h2; grind, h3⟩ | exact zb_0 (fun q => absurd q.1 h1) | exact zb_0 (fun q => by have q2 := q.2.1; rw [None] at h2; grind) | exact zb_0 (fun q => absurd q.2.2 h3) | exact zb_0 (fun q => set_no hTW q.1 h4)
  · have c_3 : ¬ sx < 1 ∧ ¬ ((nI (2 ^ cn 2)) - 1) < sx := zb_ne hp_2 c_3
    have h1 := c_3
    refine lv_iload_n hx hb dX12_isSet_21 rfl (lv_at hl 1 rfl) ?_
    refine z_calli (wc := wj []) (wr := wj [(mw Y ad_m (sA 18 (fun _ => nI lv) g_m) w_m)]) (va_runS (As := [.int sx]) (rest := []) ⟨hx, hb, hml, hown, hts⟩ (m_X12_bits l D Y sx H.size) (va_cwS 1 hts (lw_S q2185 q2186 q133 q2187) rfl rfl rfl (by decide +kernel) ⟨Nat.le_of_ble_eq_true rfl, Nat.le_of_ble_eq_true rfl⟩) (zPre hK hW hR (wj_split3 (B := [(mw Y ad_m (sA 18 (fun _ => nI lv) g_m) w_m)]) (R := []) (C := []) (O := []) (X := [(mw Y ad_m (sA 18 (fun _ => nI lv) g_m) w_m)]) (List.Perm.refl _))) rfl rfl hl.1 rfl (lv_room (Nat.le_of_ble_eq_true rfl)) dX12_isSet_22 ⟨Nat.le_refl _, Nat.le_refl _⟩) hW hA (wj_split (B := [(mw Y ad_m (sA 18 (fun _ => nI lv) g_m) w_m)]) (C := []) (R := [(mw Y ad_m (sA 18 (fun _ => nI lv) g_m) w_m)]) (List.Perm.refl _)) (fun r_4 u H locs hp_5 hW => ?_)
    have hp_5 : r_4 = bitsTo sx 8 := hp_5
    have hW : zW D A s.heap H locs (wj [(mw Y ad_m (sA 18 (fun _ => nI lv) g_m) w_m)]) := hW.join
    refine lv_iconst (v := 5) hx hb dX12_isSet_25 (by decide) ?_
    refine lv_icmp_ge (tgt := 56) hx hb dX12_isSet_26 (by decide) (fun c_6 => ?_) (fun c_6 => ?_)
    · have h2 := c_6
      refine lv_iconst (v := 0) hx hb dX12_isSet_56 (by decide) ?_
      refine z_ireti (() : Unit) hx hb hr hlocks rfl hW rfl dX12_isSet_57 ?_
      show 0 = zb (isSetP cn sx kx)
      first | exact zb_1 ⟨h1, by rw [hp_5] at h2; grind, h3⟩ | exact zb_0 (fun q => absurd q.1 h1) | exact zb_0 (fun q => by have q2 := q.2.1; rw [hp_5] at h2; grind) | exact zb_0 (fun q => absurd q.2.2 h3) | exact zb_0 (fun q => set_no hTW q.1 h4)
    · have h2 := c_6
      refine lv_iload_n hx hb dX12_isSet_29 rfl (lv_at hl 2 rfl) ?_
      refine lv_iconst (v := 1) hx hb dX12_isSet_30 (by decide) ?_
      refine lv_sipush (v := 300) hx hb dX12_isSet_31 (by decide) ?_
      refine z_calli (wc := wj []) (wr := wj [(mw Y ad_m (sA 18 (fun _ => nI lv) g_m) w_m)]) (va_runS (As := [.int kx, .int 1, .int 300]) (rest := []) ⟨hx, hb, hml, hown, hts⟩ (m_X12_in l D Y kx 1 300 H.size) (va_cwS 3 hts (lw_S q1997 q1998 q133 q1999) rfl rfl rfl (by decide +kernel) ⟨Nat.le_of_ble_eq_true rfl, Nat.le_of_ble_eq_true rfl⟩) (zPre hK hW hR (wj_split3 (B := [(mw Y ad_m (sA 18 (fun _ => nI lv) g_m) w_m)]) (R := []) (C := []) (O := []) (X := [(mw Y ad_m (sA 18 (fun _ => nI lv) g_m) w_m)]) (List.Perm.refl _))) rfl rfl hl.1 rfl (lv_room (Nat.le_of_ble_eq_true rfl)) dX12_isSet_34 ⟨Nat.le_refl _, Nat.le_refl _⟩) hW hA (wj_split (B := [(mw Y ad_m (sA 18 (fun _ => nI lv) g_m) w_m)]) (C := []) (R := [(mw Y ad_m (sA 18 (fun _ => nI lv) g_m) w_m)]) (List.Perm.refl _)) (fun r_7 u H locs hp_8 hW => ?_)
      have hp_8 : r_7 = zb (¬ kx < 1 ∧ ¬ 300 < kx) := hp_8
      have hW : zW D A s.heap H locs (wj [(mw Y ad_m (sA 18 (fun _ => nI lv) g_m) w_m)]) := hW.join
      refine lv_if_eq (tgt := 56) hx hb dX12_isSet_37 (by decide) (fun c_9 => ?_) (fun c_9 => ?_)
      · have c_9 : ¬ (¬ kx < 1 ∧ ¬ 300 < kx) := zb_eq hp_8 c_9
        have h3 := c_9
        refine lv_iconst (v := 0) hx hb dX12_isSet_56 (by decide) ?_
        refine z_ireti (() : Unit) hx hb hr hlocks rfl hW rfl dX12_isSet_57 ?_
        show 0 = zb (isSetP cn sx kx)
        first | exact zb_1 ⟨h1, by rw [hp_5] at h2; grind, h3⟩ | exact zb_0 (fun q => absurd q.1 h1) | exact zb_0 (fun q => by have q2 := q.2.1; rw [hp_5] at h2; grind) | exact zb_0 (fun q => absurd q.2.2 h3) | exact zb_0 (fun q => set_no hTW q.1 h4)
      · have c_9 : ¬ kx < 1 ∧ ¬ 300 < kx := zb_ne hp_8 c_9
        have h3 := c_9
        refine lv_aload_n hx hb dX12_isSet_40 rfl (lv_at hl 0 rfl) ?_
        refine va_get (v := .ref (ad_m 24)) (C := RX12) (T := TX12) (N := 75) (ci := 11) hx hb hts in_X12 hown hK.1 hW.1 0 rfl rfl 24 (by decide) (hts _ q1660) (fun _ h9 => h9) rfl dX12_isSet_41 ?_
        refine lv_aload_n hx hb dX12_isSet_44 rfl (lv_at hl 0 rfl) ?_
        refine va_get (v := .int (nI lv)) (C := RX12) (T := TX12) (N := 75) (ci := 11) hx hb hts in_X12 hown hK.1 hW.1 0 rfl rfl 18 (by decide) (hts _ q1654) (fun _ h9 => h9) rfl dX12_isSet_45 ?_
        refine z_iald (v := nI (cn 0)) (f := g_m 24) (j := lv) hx hb hK.1 hW.1 11 0 rfl rfl (vp_in_nI (n := lv) (by omega) (by decide)) (nI_clamp (n := lv) (by omega)) (TM.c24 hTM) dX12_isSet_48 ?_
        refine lv_if_le (tgt := 56) hx hb dX12_isSet_49 (by decide) (fun c_10 => ?_) (fun c_10 => ?_)
        · have c_10 : cn 0 ≤ 0 := (nI_leI (a := cn 0) (b := 0) (by omega) (by omega)).mp c_10
          have h4 := c_10
          refine lv_iconst (v := 0) hx hb dX12_isSet_56 (by decide) ?_
          refine z_ireti (() : Unit) hx hb hr hlocks rfl hW rfl dX12_isSet_57 ?_
          show 0 = zb (isSetP cn sx kx)
          first | exact zb_1 ⟨h1, by rw [hp_5] at h2; grind, h3⟩ | exact zb_0 (fun q => absurd q.1 h1) | exact zb_0 (fun q => by have q2 := q.2.1; rw [hp_5] at h2; grind) | exact zb_0 (fun q => absurd q.2.2 h3) | exact zb_0 (fun q => set_no hTW q.1 h4)
        · have c_10 : ¬ (cn 0 ≤ 0) := fun hz_ => c_10 ((nI_leI (a := cn 0) (b := 0) (by omega) (by omega)).mpr hz_)
          have h4 := c_10
          refine lv_iconst (v := 1) hx hb dX12_isSet_52 (by decide) ?_
          refine lv_goto (tgt := 57) hx hb dX12_isSet_53 (by decide) ?_
          refine z_ireti (() : Unit) hx hb hr hlocks rfl hW rfl dX12_isSet_57 ?_
          show 1 = zb (isSetP cn sx kx)
          first | exact zb_1 ⟨h1, by rw [hp_5] at h2; grind, h3⟩ | exact zb_0 (fun q => absurd q.1 h1) | exact zb_0 (fun q => by have q2 := q.2.1; rw [hp_5] at h2; grind) | exact zb_0 (fun q => absurd q.2.2 h3) | exact zb_0 (fun q => set_no hTW q.1 h4)
set_option maxHeartbeats 4000000 in
set_option maxRecDepth 100000 in
theorem m_X12_teaches (l : Launch) (D : va_G) (Y : Nat → ClassId) (ad_m : Nat → Nat) (g_m : Nat → Nat → Int32) (w_m : Nat → Nat → Int64) (lv : Nat) (cn : Nat → Nat) (t : tab) (lw : Nat → Option LAW) (σ : tab) (U : List tab) (un : Nat) (B_ : Int) (se : Int32) (kq : Nat) (L : Nat) (sz : Nat) (hlv : lv < 2) (hTW : TW cn t lw) (hTM : TM lv cn t lw g_m) (hKN : KN (cn 2) σ U (g_m 59) (g_m 65) un) (hF1 : ∀ h, h < cn 1 → σ 1 h = t 2 h) (hF2 : σ 18 0 = t 12 2) (hWF : WF cn B_ σ) (hB : B_ ≤ 5000000) (hL : bitsTo se 8 = nI L) (hL2 : L = ranksTo se (cn 2)) (hL4 : L ≤ 4) (h0 : 0 < cn 0) (hkq : kq ≤ 300) : Met l yX12_teaches (ws_ yX12_teaches cX12_teaches 7 none) ({ frames := 6, cells := 0, slots := 0, locals := 141 }) (zPc D Y [.ref (ad_m 0), .int se, .int (nI kq)] sz (wj []) (wj [(mw Y ad_m (sA 64 (fun _ => nI un) (sA 18 (fun _ => nI lv) g_m)) w_m)])) (va_Qv (fun (u : (Nat → Int32) × (Nat → Int32) × (Nat → Int32) × (Nat → Int32) × (Int32) × (Int32) × (Nat → Int32) × (Int32) × (Int32)) => (u.2.2.2.2.2.2.2.1, u.2.2.2.2.2.2.2.2) = wayTo cn lw t σ se kq (cn 0 ^ L)) (zB D (fun (u : (Nat → Int32) × (Nat → Int32) × (Nat → Int32) × (Nat → Int32) × (Int32) × (Int32) × (Nat → Int32) × (Int32) × (Int32)) => (wj [(mw Y ad_m (sA 67 (fun _ => u.2.2.2.2.2.2.2.2) (sA 66 (fun _ => u.2.2.2.2.2.2.2.1) (sA 64 (fun _ => nI un) (sA 63 u.2.1 (sA 62 u.2.2.2.2.2.2.1 (sA 61 (fun _ => u.2.2.2.2.2.1) (sA 60 u.1 (sA 58 (fun _ => u.2.2.2.2.1) (sA 57 u.2.2.2.1 (sA 56 u.2.2.1 (sA 18 (fun _ => nI lv) g_m))))))))))) w_m)])) (va_A (wj [(mw Y ad_m (sA 64 (fun _ => nI un) (sA 18 (fun _ => nI lv) g_m)) w_m)]) sz)) (va_A (wj [(mw Y ad_m (sA 64 (fun _ => nI un) (sA 18 (fun _ => nI lv) g_m)) w_m)]) sz)) 0 0 (va_A (wj [(mw Y ad_m (sA 64 (fun _ => nI un) (sA 18 (fun _ => nI lv) g_m)) w_m)]) sz) := by
  refine Met.ofW (cc := cX12_teaches) (maxL := 7) (ret := none) (by decide) rfl ?_
  intro p e s m args below meth c s₁ B hml hv
  obtain ⟨rfl, hsz, hW, hR, hK, hA⟩ := zEntry hv
  subst hsz
  have hx := B.exec
  have hb := B.bytes
  have hr := B.returns
  have hlocks := B.notSynchronized
  have hts : ∀ w ∈ lw_all, w.before _ s = true := fun w h => atoms_spec (ws := (ws_ yX12_teaches cX12_teaches 7 none)) B.pre w (List.mem_cons_of_mem _ h)
  have hown : s.vm.findClass RX12 = some m.cls := findClass_of_methodNamed B.named
  generalize hAe : va_A (wj [(mw Y ad_m (sA 64 (fun _ => nI un) (sA 18 (fun _ => nI lv) g_m)) w_m)]) s.heap.size = A at hW hR hA ⊢
  have hl := lv_entry ([.ref (ad_m 0), .int se, .int (nI kq)]) (n := 7) (Nat.le_of_ble_eq_true rfl)
  rw [lg_entry_eq]
  generalize (lg_sl ([.ref (ad_m 0), .int se, .int (nI kq)]) ++ List.replicate (7 - (lg_sl ([.ref (ad_m 0), .int se, .int (nI kq)])).length) Slot.unset).toArray = ls at hl ⊢
  have hl : lv_has ls 7 [(0, .ref (ad_m 0)), (1, .int se), (2, .int (nI kq))] := hl
  have hk8 := hTW.n2
  have hk6 := hTW.n1
  have hk60 := hTW.n0
  have hk5 := hTW.n3
  have hlim := pow_lim (G := cn 0) (L := L) hk60 hL4
  have hpp : 0 < cn 0 ^ L := Nat.pow_pos h0
  refine lv_iconst (v := 1) hx hb dX12_teaches_0 (by decide) ?_
  refine lv_istore_n (lv' := [(3, .int 1), (0, .ref (ad_m 0)), (1, .int se), (2, .int (nI kq))]) hx hb dX12_teaches_1 rfl hl (by decide) rfl (fun ls hl => ?_)
  refine lv_iconst (v := 0) hx hb dX12_teaches_2 (by decide) ?_
  refine lv_istore (lv' := [(4, .int 0), (3, .int 1), (0, .ref (ad_m 0)), (1, .int se), (2, .int (nI kq))]) hx hb dX12_teaches_3 hl (by decide) rfl (fun ls hl => ?_)
  have loop_5 : ∀ (n : Nat) (kb : Nat) (wy : Nat), L - kb < n → (kb ≤ L) → (wy = cn 0 ^ kb) → (wy ≤ 1296) → ∀ (H : Heap) (locs : List Loc), zW D A s.heap H locs (wj [(mw Y ad_m (sA 64 (fun _ => nI un) (sA 18 (fun _ => nI lv) g_m)) w_m)]) → ∀ (ls : Array Slot), lv_has ls 7 [(4, .int (nI kb)), (3, .int (nI wy)), (0, .ref (ad_m 0)), (1, .int se), (2, .int (nI kq))] → W p l e (headSpec (ws_ yX12_teaches cX12_teaches 7 none) ({ frames := 6, cells := 0, slots := 0, locals := 141 })).room s m ([.ref (ad_m 0), .int se, .int (nI kq)] : List Value).toArray below meth c H locs 0 0 (MQ below (va_Qv (fun (u : (Nat → Int32) × (Nat → Int32) × (Nat → Int32) × (Nat → Int32) × (Int32) × (Int32) × (Nat → Int32) × (Int32) × (Int32)) => (u.2.2.2.2.2.2.2.1, u.2.2.2.2.2.2.2.2) = wayTo cn lw t σ se kq (cn 0 ^ L)) (zB D (fun (u : (Nat → Int32) × (Nat → Int32) × (Nat → Int32) × (Nat → Int32) × (Int32) × (Int32) × (Nat → Int32) × (Int32) × (Int32)) => (wj [(mw Y ad_m (sA 67 (fun _ => u.2.2.2.2.2.2.2.2) (sA 66 (fun _ => u.2.2.2.2.2.2.2.1) (sA 64 (fun _ => nI un) (sA 63 u.2.1 (sA 62 u.2.2.2.2.2.2.1 (sA 61 (fun _ => u.2.2.2.2.2.1) (sA 60 u.1 (sA 58 (fun _ => u.2.2.2.2.1) (sA 57 u.2.2.2.1 (sA 56 u.2.2.1 (sA 18 (fun _ => nI lv) g_m))))))))))) w_m)])) A) A) ([.ref (ad_m 0), .int se, .int (nI kq)] : List Value).toArray s 0 0 A) (F0 m 5 ls []) := by
    intro n
    induction n with
    | zero =>
      intro kb wy hmz
      exact absurd hmz (Nat.not_lt_zero _)
    | succ n ih =>
      intro kb wy hm_5 hi hw hwl H locs hW ls hl
      have ih_5 := ih
      clear ih
      refine lv_iload hx hb dX12_teaches_5 (lv_at hl 0 rfl) ?_
      refine lv_iload_n hx hb dX12_teaches_7 rfl (lv_at hl 3 rfl) ?_
      refine z_calli (wc := wj []) (wr := wj [(mw Y ad_m (sA 64 (fun _ => nI un) (sA 18 (fun _ => nI lv) g_m)) w_m)]) (va_runS (As := [.int se]) (rest := [.int (nI kb)]) ⟨hx, hb, hml, hown, hts⟩ (m_X12_bits l D Y se H.size) (va_cwS 1 hts (lw_S q2185 q2186 q133 q2187) rfl rfl rfl (by decide +kernel) ⟨Nat.le_of_ble_eq_true rfl, Nat.le_of_ble_eq_true rfl⟩) (zPre hK hW hR (wj_split3 (B := [(mw Y ad_m (sA 64 (fun _ => nI un) (sA 18 (fun _ => nI lv) g_m)) w_m)]) (R := []) (C := []) (O := []) (X := [(mw Y ad_m (sA 64 (fun _ => nI un) (sA 18 (fun _ => nI lv) g_m)) w_m)]) (List.Perm.refl _))) rfl rfl hl.1 rfl (lv_room (Nat.le_of_ble_eq_true rfl)) dX12_teaches_8 ⟨Nat.le_refl _, Nat.le_refl _⟩) hW hA (wj_split (B := [(mw Y ad_m (sA 64 (fun _ => nI un) (sA 18 (fun _ => nI lv) g_m)) w_m)]) (C := []) (R := [(mw Y ad_m (sA 64 (fun _ => nI un) (sA 18 (fun _ => nI lv) g_m)) w_m)]) (List.Perm.refl _)) (fun r_1 u H locs hp_2 hW => ?_)
      have hp_2 : r_1 = bitsTo se 8 := hp_2
      have hW : zW D A s.heap H locs (wj [(mw Y ad_m (sA 64 (fun _ => nI un) (sA 18 (fun _ => nI lv) g_m)) w_m)]) := hW.join
      have eL : r_1 = nI L := by rw [hp_2, hL]
      refine lv_topi (nm_r (e' := nI L) eL ?_)
      refine lv_icmp_ge (tgt := 32) hx hb dX12_teaches_11 (by decide) (fun c_3 => ?_) (fun c_3 => ?_)
      · have c_3 : L ≤ kb := (nI_leI (a := L) (b := kb) (by omega) (by omega)).mp c_3
        refine lv_aload_n hx hb dX12_teaches_32 rfl (lv_at hl 2 rfl) ?_
        refine lv_iconst (v := (-1)) hx hb dX12_teaches_33 (by decide) ?_
        refine z_put (v := .int (-1)) (C := RX12) (T := TX12) (N := 75) (ci := 11) (wn := (wj [(mw Y ad_m (sA 66 (fun _ => (-1)) (sA 64 (fun _ => nI un) (sA 18 (fun _ => nI lv) g_m))) w_m)])) hx hb hts in_X12 tyX12 tyX12_ok nmX12 hown hK.1 hW 0 rfl rfl 66 (by decide) (hts _ q1702) (fun _ h9 => h9) rfl rfl rfl (Nat.le_of_ble_eq_true rfl) dX12_teaches_34 rfl (fun H locs hW => ?_)
        refine lv_aload_n hx hb dX12_teaches_37 rfl (lv_at hl 2 rfl) ?_
        refine lv_iconst (v := (-1)) hx hb dX12_teaches_38 (by decide) ?_
        refine z_put (v := .int (-1)) (C := RX12) (T := TX12) (N := 75) (ci := 11) (wn := (wj [(mw Y ad_m (sA 67 (fun _ => (-1)) (sA 66 (fun _ => (-1)) (sA 64 (fun _ => nI un) (sA 18 (fun _ => nI lv) g_m)))) w_m)])) hx hb hts in_X12 tyX12 tyX12_ok nmX12 hown hK.1 hW 0 rfl rfl 67 (by decide) (hts _ q1703) (fun _ h9 => h9) rfl rfl rfl (Nat.le_of_ble_eq_true rfl) dX12_teaches_39 rfl (fun H locs hW => ?_)
        have ek : kb = L := by omega
        have ewy : wy = cn 0 ^ L := by rw [hw, ek]
        refine lv_iconst (v := 0) hx hb dX12_teaches_42 (by decide) ?_
        refine lv_istore (lv' := [(4, .int 0), (3, .int (nI wy)), (0, .ref (ad_m 0)), (1, .int se), (2, .int (nI kq))]) hx hb dX12_teaches_43 hl (by decide) rfl (fun ls hl => ?_)
        have loop_45 : ∀ (n : Nat) (w : Nat) (x_row_45 : Nat → Int32) (x_isLoaded_45 : Nat → Int32) (x_variables_45 : Nat → Int32) (x_pile_45 : Nat → Int32) (x_isBroken_45 : Int32) (x_lots_45 : Int32) (x_farNow_45 : Nat → Int32) (x_taughtWay_45 : Int32) (x_taughtWorth_45 : Int32), cn 0 ^ L - w < n → (w ≤ cn 0 ^ L) → (wayTo cn lw t σ se kq w = (x_taughtWay_45, x_taughtWorth_45)) → ∀ (H : Heap) (locs : List Loc), zW D A s.heap H locs (wj [(mw Y ad_m (sA 67 (fun _ => x_taughtWorth_45) (sA 66 (fun _ => x_taughtWay_45) (sA 64 (fun _ => nI un) (sA 63 x_isLoaded_45 (sA 62 x_farNow_45 (sA 61 (fun _ => x_lots_45) (sA 60 x_row_45 (sA 58 (fun _ => x_isBroken_45) (sA 57 x_pile_45 (sA 56 x_variables_45 (sA 18 (fun _ => nI lv) g_m))))))))))) w_m)]) → ∀ (ls : Array Slot), lv_has ls 7 [(4, .int (nI w)), (3, .int (nI wy)), (0, .ref (ad_m 0)), (1, .int se), (2, .int (nI kq))] → W p l e (headSpec (ws_ yX12_teaches cX12_teaches 7 none) ({ frames := 6, cells := 0, slots := 0, locals := 141 })).room s m ([.ref (ad_m 0), .int se, .int (nI kq)] : List Value).toArray below meth c H locs 0 0 (MQ below (va_Qv (fun (u : (Nat → Int32) × (Nat → Int32) × (Nat → Int32) × (Nat → Int32) × (Int32) × (Int32) × (Nat → Int32) × (Int32) × (Int32)) => (u.2.2.2.2.2.2.2.1, u.2.2.2.2.2.2.2.2) = wayTo cn lw t σ se kq (cn 0 ^ L)) (zB D (fun (u : (Nat → Int32) × (Nat → Int32) × (Nat → Int32) × (Nat → Int32) × (Int32) × (Int32) × (Nat → Int32) × (Int32) × (Int32)) => (wj [(mw Y ad_m (sA 67 (fun _ => u.2.2.2.2.2.2.2.2) (sA 66 (fun _ => u.2.2.2.2.2.2.2.1) (sA 64 (fun _ => nI un) (sA 63 u.2.1 (sA 62 u.2.2.2.2.2.2.1 (sA 61 (fun _ => u.2.2.2.2.2.1) (sA 60 u.1 (sA 58 (fun _ => u.2.2.2.2.1) (sA 57 u.2.2.2.1 (sA 56 u.2.2.1 (sA 18 (fun _ => nI lv) g_m))))))))))) w_m)])) A) A) ([.ref (ad_m 0), .int se, .int (nI kq)] : List Value).toArray s 0 0 A) (F0 m 45 ls []) := by
          intro n
          induction n with
          | zero =>
            intro w x_row_45 x_isLoaded_45 x_variables_45 x_pile_45 x_isBroken_45 x_lots_45 x_farNow_45 x_taughtWay_45 x_taughtWorth_45 hmz
            exact absurd hmz (Nat.not_lt_zero _)
          | succ n ih =>
            intro w x_row_45 x_isLoaded_45 x_variables_45 x_pile_45 x_isBroken_45 x_lots_45 x_farNow_45 x_taughtWay_45 x_taughtWorth_45 hm_45 hiw hs H locs hW ls hl
            have ih_45 := ih
            clear ih
            refine lv_iload hx hb dX12_teaches_45 (lv_at hl 0 rfl) ?_
            refine lv_iload_n hx hb dX12_teaches_47 rfl (lv_at hl 1 rfl) ?_
            refine lv_icmp_ge (tgt := 171) hx hb dX12_teaches_48 (by decide) (fun c_4 => ?_) (fun c_4 => ?_)
            · have c_4 : wy ≤ w := (nI_leI (a := wy) (b := w) (by omega) (by omega)).mp c_4
              refine z_vret ((x_row_45, x_isLoaded_45, x_variables_45, x_pile_45, x_isBroken_45, x_lots_45, x_farNow_45, x_taughtWay_45, x_taughtWorth_45) : (Nat → Int32) × (Nat → Int32) × (Nat → Int32) × (Nat → Int32) × (Int32) × (Int32) × (Nat → Int32) × (Int32) × (Int32)) hx hb hr hlocks hW rfl dX12_teaches_171 ?_
              show (x_taughtWay_45, x_taughtWorth_45) = wayTo cn lw t σ se kq (cn 0 ^ L)
              have ew : w = cn 0 ^ L := by omega
              rw [← ew, hs]
            · have c_4 : ¬ (wy ≤ w) := fun hz_ => c_4 ((nI_leI (a := wy) (b := w) (by omega) (by omega)).mpr hz_)
              refine lv_aload_n hx hb dX12_teaches_51 rfl (lv_at hl 2 rfl) ?_
              refine z_callv (wc := wj [(mw Y ad_m (sA 67 (fun _ => x_taughtWorth_45) (sA 66 (fun _ => x_taughtWay_45) (sA 64 (fun _ => nI un) (sA 63 x_isLoaded_45 (sA 62 x_farNow_45 (sA 61 (fun _ => x_lots_45) (sA 60 x_row_45 (sA 58 (fun _ => x_isBroken_45) (sA 57 x_pile_45 (sA 56 x_variables_45 (sA 18 (fun _ => nI lv) g_m))))))))))) w_m)]) (wr := wj []) (va_runV (As := []) (rest := []) ⟨hx, hb, hml, hown, hts⟩ (m_X12_copies l D Y ad_m (sA 67 (fun _ => x_taughtWorth_45) (sA 66 (fun _ => x_taughtWay_45) (sA 64 (fun _ => nI un) (sA 63 x_isLoaded_45 (sA 62 x_farNow_45 (sA 61 (fun _ => x_lots_45) (sA 60 x_row_45 (sA 58 (fun _ => x_isBroken_45) (sA 57 x_pile_45 (sA 56 x_variables_45 (sA 18 (fun _ => nI lv) g_m))))))))))) w_m lv cn t lw σ H.size (show lv < 2 from by exact hlv) (show TW cn t lw from by exact hTW) (show TM lv cn t lw (sA 67 (fun _ => x_taughtWorth_45) (sA 66 (fun _ => x_taughtWay_45) (sA 64 (fun _ => nI un) (sA 63 x_isLoaded_45 (sA 62 x_farNow_45 (sA 61 (fun _ => x_lots_45) (sA 60 x_row_45 (sA 58 (fun _ => x_isBroken_45) (sA 57 x_pile_45 (sA 56 x_variables_45 (sA 18 (fun _ => nI lv) g_m))))))))))) from by exact hTM) (show MR (cn 2) σ (g_m 59) from by exact hKN.mr) (show ∀ h, h < cn 1 → σ 1 h = t 2 h from by exact hF1) (show σ 18 0 = t 12 2 from by exact hF2)) (cwV 0 hts (lw_V q2020 q2022 qs86 q133 q2023) rfl rfl rfl (by decide +kernel) ⟨Nat.le_of_ble_eq_true rfl, Nat.le_of_ble_eq_true rfl⟩) (zPreV hK hW hR (wj_split3 (B := [(mw Y ad_m (sA 67 (fun _ => x_taughtWorth_45) (sA 66 (fun _ => x_taughtWay_45) (sA 64 (fun _ => nI un) (sA 63 x_isLoaded_45 (sA 62 x_farNow_45 (sA 61 (fun _ => x_lots_45) (sA 60 x_row_45 (sA 58 (fun _ => x_isBroken_45) (sA 57 x_pile_45 (sA 56 x_variables_45 (sA 18 (fun _ => nI lv) g_m))))))))))) w_m)]) (R := []) (C := [(mw Y ad_m (sA 67 (fun _ => x_taughtWorth_45) (sA 66 (fun _ => x_taughtWay_45) (sA 64 (fun _ => nI un) (sA 63 x_isLoaded_45 (sA 62 x_farNow_45 (sA 61 (fun _ => x_lots_45) (sA 60 x_row_45 (sA 58 (fun _ => x_isBroken_45) (sA 57 x_pile_45 (sA 56 x_variables_45 (sA 18 (fun _ => nI lv) g_m))))))))))) w_m)]) (O := []) (X := []) (List.Perm.refl _)) (va_recv hK.1 hW.1 (ci := 11) (q0 := 0) rfl rfl)) rfl rfl hl.1 rfl (lv_room (Nat.le_of_ble_eq_true rfl)) dX12_teaches_52 ⟨Nat.le_refl _, Nat.le_refl _⟩) hW hA (wj_split (B := [(mw Y ad_m (sA 67 (fun _ => x_taughtWorth_45) (sA 66 (fun _ => x_taughtWay_45) (sA 64 (fun _ => nI un) (sA 63 x_isLoaded_45 (sA 62 x_farNow_45 (sA 61 (fun _ => x_lots_45) (sA 60 x_row_45 (sA 58 (fun _ => x_isBroken_45) (sA 57 x_pile_45 (sA 56 x_variables_45 (sA 18 (fun _ => nI lv) g_m))))))))))) w_m)]) (C := [(mw Y ad_m (sA 67 (fun _ => x_taughtWorth_45) (sA 66 (fun _ => x_taughtWay_45) (sA 64 (fun _ => nI un) (sA 63 x_isLoaded_45 (sA 62 x_farNow_45 (sA 61 (fun _ => x_lots_45) (sA 60 x_row_45 (sA 58 (fun _ => x_isBroken_45) (sA 57 x_pile_45 (sA 56 x_variables_45 (sA 18 (fun _ => nI lv) g_m))))))))))) w_m)]) (R := []) (List.Perm.refl _)) (fun  u H locs hp_6 hW => ?_)
              obtain ⟨urow_7, ulots_8, ufarNow_9⟩ := u
              have hp_6 : RS cn σ urow_7 ufarNow_9 ulots_8 := hp_6
              have hW : zW D A s.heap H locs (wj [(mw Y ad_m (sA 67 (fun _ => x_taughtWorth_45) (sA 66 (fun _ => x_taughtWay_45) (sA 64 (fun _ => nI un) (sA 63 x_isLoaded_45 (sA 62 ufarNow_9 (sA 61 (fun _ => ulots_8) (sA 60 urow_7 (sA 58 (fun _ => x_isBroken_45) (sA 57 x_pile_45 (sA 56 x_variables_45 (sA 18 (fun _ => nI lv) g_m))))))))))) w_m)]) := hW.join
              refine lv_iload_n hx hb dX12_teaches_55 rfl (lv_at hl 1 rfl) ?_
              refine lv_istore (lv' := [(5, .int (nI wy)), (4, .int (nI w)), (3, .int (nI wy)), (0, .ref (ad_m 0)), (1, .int se), (2, .int (nI kq))]) hx hb dX12_teaches_56 hl (by decide) rfl (fun ls hl => ?_)
              refine lv_iconst (v := 0) hx hb dX12_teaches_58 (by decide) ?_
              refine lv_istore (lv' := [(6, .int 0), (5, .int (nI wy)), (4, .int (nI w)), (3, .int (nI wy)), (0, .ref (ad_m 0)), (1, .int se), (2, .int (nI kq))]) hx hb dX12_teaches_59 hl (by decide) rfl (fun ls hl => ?_)
              have loop_61 : ∀ (n : Nat) (rr : Nat) (rest : Nat) (x_row_61 : Nat → Int32) (τ : tab), cn 2 - rr < n → (rr ≤ cn 2) → (rest = cn 0 ^ (L - ranksTo se rr)) → (teachTo (cn 0) L w se σ rr = τ) → (RS cn τ x_row_61 ufarNow_9 ulots_8) → ∀ (H : Heap) (locs : List Loc), zW D A s.heap H locs (wj [(mw Y ad_m (sA 67 (fun _ => x_taughtWorth_45) (sA 66 (fun _ => x_taughtWay_45) (sA 64 (fun _ => nI un) (sA 63 x_isLoaded_45 (sA 62 ufarNow_9 (sA 61 (fun _ => ulots_8) (sA 60 x_row_61 (sA 58 (fun _ => x_isBroken_45) (sA 57 x_pile_45 (sA 56 x_variables_45 (sA 18 (fun _ => nI lv) g_m))))))))))) w_m)]) → ∀ (ls : Array Slot), lv_has ls 7 [(6, .int (nI rr)), (5, .int (nI rest)), (4, .int (nI w)), (3, .int (nI wy)), (0, .ref (ad_m 0)), (1, .int se), (2, .int (nI kq))] → W p l e (headSpec (ws_ yX12_teaches cX12_teaches 7 none) ({ frames := 6, cells := 0, slots := 0, locals := 141 })).room s m ([.ref (ad_m 0), .int se, .int (nI kq)] : List Value).toArray below meth c H locs 0 0 (MQ below (va_Qv (fun (u : (Nat → Int32) × (Nat → Int32) × (Nat → Int32) × (Nat → Int32) × (Int32) × (Int32) × (Nat → Int32) × (Int32) × (Int32)) => (u.2.2.2.2.2.2.2.1, u.2.2.2.2.2.2.2.2) = wayTo cn lw t σ se kq (cn 0 ^ L)) (zB D (fun (u : (Nat → Int32) × (Nat → Int32) × (Nat → Int32) × (Nat → Int32) × (Int32) × (Int32) × (Nat → Int32) × (Int32) × (Int32)) => (wj [(mw Y ad_m (sA 67 (fun _ => u.2.2.2.2.2.2.2.2) (sA 66 (fun _ => u.2.2.2.2.2.2.2.1) (sA 64 (fun _ => nI un) (sA 63 u.2.1 (sA 62 u.2.2.2.2.2.2.1 (sA 61 (fun _ => u.2.2.2.2.2.1) (sA 60 u.1 (sA 58 (fun _ => u.2.2.2.2.1) (sA 57 u.2.2.2.1 (sA 56 u.2.2.1 (sA 18 (fun _ => nI lv) g_m))))))))))) w_m)])) A) A) ([.ref (ad_m 0), .int se, .int (nI kq)] : List Value).toArray s 0 0 A) (F0 m 61 ls []) := by
                intro n
                induction n with
                | zero =>
                  intro rr rest x_row_61 τ hmz
                  exact absurd hmz (Nat.not_lt_zero _)
                | succ n ih =>
                  intro rr rest x_row_61 τ hm_61 hir hre hτ hRSr H locs hW ls hl
                  have ih_61 := ih
                  clear ih
                  refine lv_iload hx hb dX12_teaches_61 (lv_at hl 0 rfl) ?_
                  refine lv_aload_n hx hb dX12_teaches_63 rfl (lv_at hl 4 rfl) ?_
                  refine va_get (v := .ref (ad_m 30)) (C := RX12) (T := TX12) (N := 75) (ci := 11) hx hb hts in_X12 hown hK.1 hW.1 0 rfl rfl 30 (by decide) (hts _ q1666) (fun _ h9 => h9) rfl dX12_teaches_64 ?_
                  refine lv_aload_n hx hb dX12_teaches_67 rfl (lv_at hl 4 rfl) ?_
                  refine va_get (v := .int (nI lv)) (C := RX12) (T := TX12) (N := 75) (ci := 11) hx hb hts in_X12 hown hK.1 hW.1 0 rfl rfl 18 (by decide) (hts _ q1654) (fun _ h9 => h9) rfl dX12_teaches_68 ?_
                  refine z_iald (v := nI (cn 2)) (f := g_m 30) (j := lv) hx hb hK.1 hW.1 17 0 rfl rfl (vp_in_nI (n := lv) (by omega) (by decide)) (nI_clamp (n := lv) (by omega)) (TM.c30 hTM) dX12_teaches_71 ?_
                  refine lv_icmp_ge (tgt := 132) hx hb dX12_teaches_72 (by decide) (fun c_10 => ?_) (fun c_10 => ?_)
                  · have c_10 : cn 2 ≤ rr := (nI_leI (a := cn 2) (b := rr) (by omega) (by omega)).mp c_10
                    refine lv_aload_n hx hb dX12_teaches_132 rfl (lv_at hl 4 rfl) ?_
                    refine lv_iload_n hx hb dX12_teaches_133 rfl (lv_at hl 6 rfl) ?_
                    refine z_callv (wc := wj [(mw Y ad_m (sA 67 (fun _ => x_taughtWorth_45) (sA 66 (fun _ => x_taughtWay_45) (sA 64 (fun _ => nI un) (sA 63 x_isLoaded_45 (sA 62 ufarNow_9 (sA 61 (fun _ => ulots_8) (sA 60 x_row_61 (sA 58 (fun _ => x_isBroken_45) (sA 57 x_pile_45 (sA 56 x_variables_45 (sA 18 (fun _ => nI lv) g_m))))))))))) w_m)]) (wr := wj []) (va_runV (As := [.int (nI kq)]) (rest := []) ⟨hx, hb, hml, hown, hts⟩ (m_X12_goes l D Y ad_m (sA 67 (fun _ => x_taughtWorth_45) (sA 66 (fun _ => x_taughtWay_45) (sA 64 (fun _ => nI un) (sA 63 x_isLoaded_45 (sA 62 ufarNow_9 (sA 61 (fun _ => ulots_8) (sA 60 x_row_61 (sA 58 (fun _ => x_isBroken_45) (sA 57 x_pile_45 (sA 56 x_variables_45 (sA 18 (fun _ => nI lv) g_m))))))))))) w_m lv cn t lw τ B_ kq H.size (show lv < 2 from by exact hlv) (show TW cn t lw from by exact hTW) (show TM lv cn t lw (sA 67 (fun _ => x_taughtWorth_45) (sA 66 (fun _ => x_taughtWay_45) (sA 64 (fun _ => nI un) (sA 63 x_isLoaded_45 (sA 62 ufarNow_9 (sA 61 (fun _ => ulots_8) (sA 60 x_row_61 (sA 58 (fun _ => x_isBroken_45) (sA 57 x_pile_45 (sA 56 x_variables_45 (sA 18 (fun _ => nI lv) g_m))))))))))) from by exact hTM) (show RS cn τ x_row_61 ufarNow_9 ulots_8 from by exact hRSr) (show WF cn B_ τ from by
have er : rr = cn 2 := by omega
rw [← hτ]; exact hWF.teach h0 hk60 _) (show kq < 2000 from by omega)) (cwV 1 hts (lw_V q2039 q2041 qs88 q133 q2042) rfl rfl rfl (by decide +kernel) ⟨Nat.le_of_ble_eq_true rfl, Nat.le_of_ble_eq_true rfl⟩) (zPreV hK hW hR (wj_split3 (B := [(mw Y ad_m (sA 67 (fun _ => x_taughtWorth_45) (sA 66 (fun _ => x_taughtWay_45) (sA 64 (fun _ => nI un) (sA 63 x_isLoaded_45 (sA 62 ufarNow_9 (sA 61 (fun _ => ulots_8) (sA 60 x_row_61 (sA 58 (fun _ => x_isBroken_45) (sA 57 x_pile_45 (sA 56 x_variables_45 (sA 18 (fun _ => nI lv) g_m))))))))))) w_m)]) (R := []) (C := [(mw Y ad_m (sA 67 (fun _ => x_taughtWorth_45) (sA 66 (fun _ => x_taughtWay_45) (sA 64 (fun _ => nI un) (sA 63 x_isLoaded_45 (sA 62 ufarNow_9 (sA 61 (fun _ => ulots_8) (sA 60 x_row_61 (sA 58 (fun _ => x_isBroken_45) (sA 57 x_pile_45 (sA 56 x_variables_45 (sA 18 (fun _ => nI lv) g_m))))))))))) w_m)]) (O := []) (X := []) (List.Perm.refl _)) (va_recv hK.1 hW.1 (ci := 11) (q0 := 0) rfl rfl)) rfl rfl hl.1 rfl (lv_room (Nat.le_of_ble_eq_true rfl)) dX12_teaches_134 ⟨Nat.le_refl _, Nat.le_refl _⟩) hW hA (wj_split (B := [(mw Y ad_m (sA 67 (fun _ => x_taughtWorth_45) (sA 66 (fun _ => x_taughtWay_45) (sA 64 (fun _ => nI un) (sA 63 x_isLoaded_45 (sA 62 ufarNow_9 (sA 61 (fun _ => ulots_8) (sA 60 x_row_61 (sA 58 (fun _ => x_isBroken_45) (sA 57 x_pile_45 (sA 56 x_variables_45 (sA 18 (fun _ => nI lv) g_m))))))))))) w_m)]) (C := [(mw Y ad_m (sA 67 (fun _ => x_taughtWorth_45) (sA 66 (fun _ => x_taughtWay_45) (sA 64 (fun _ => nI un) (sA 63 x_isLoaded_45 (sA 62 ufarNow_9 (sA 61 (fun _ => ulots_8) (sA 60 x_row_61 (sA 58 (fun _ => x_isBroken_45) (sA 57 x_pile_45 (sA 56 x_variables_45 (sA 18 (fun _ => nI lv) g_m))))))))))) w_m)]) (R := []) (List.Perm.refl _)) (fun  u H locs hp_12 hW => ?_)
                    obtain ⟨urow_13, uisLoaded_14, uvariables_15, upile_16, uisBroken_17⟩ := u
                    have hp_12 : RS cn (runsP cn lw t τ kq) urow_13 ufarNow_9 ulots_8 := hp_12
                    have hW : zW D A s.heap H locs (wj [(mw Y ad_m (sA 67 (fun _ => x_taughtWorth_45) (sA 66 (fun _ => x_taughtWay_45) (sA 64 (fun _ => nI un) (sA 63 uisLoaded_14 (sA 62 ufarNow_9 (sA 61 (fun _ => ulots_8) (sA 60 urow_13 (sA 58 (fun _ => uisBroken_17) (sA 57 upile_16 (sA 56 uvariables_15 (sA 18 (fun _ => nI lv) g_m))))))))))) w_m)]) := hW.join
                    refine lv_aload_n hx hb dX12_teaches_137 rfl (lv_at hl 4 rfl) ?_
                    refine z_calli (wc := wj [(mw Y ad_m (sA 67 (fun _ => x_taughtWorth_45) (sA 66 (fun _ => x_taughtWay_45) (sA 64 (fun _ => nI un) (sA 63 uisLoaded_14 (sA 62 ufarNow_9 (sA 61 (fun _ => ulots_8) (sA 60 urow_13 (sA 58 (fun _ => uisBroken_17) (sA 57 upile_16 (sA 56 uvariables_15 (sA 18 (fun _ => nI lv) g_m))))))))))) w_m)]) (wr := wj []) (va_runV (As := []) (rest := []) ⟨hx, hb, hml, hown, hts⟩ (m_X12_worthAll l D Y ad_m (sA 67 (fun _ => x_taughtWorth_45) (sA 66 (fun _ => x_taughtWay_45) (sA 64 (fun _ => nI un) (sA 63 uisLoaded_14 (sA 62 ufarNow_9 (sA 61 (fun _ => ulots_8) (sA 60 urow_13 (sA 58 (fun _ => uisBroken_17) (sA 57 upile_16 (sA 56 uvariables_15 (sA 18 (fun _ => nI lv) g_m))))))))))) w_m lv cn t lw (runsP cn lw t τ kq) H.size (show lv < 2 from by exact hlv) (show TW cn t lw from by exact hTW) (show TM lv cn t lw (sA 67 (fun _ => x_taughtWorth_45) (sA 66 (fun _ => x_taughtWay_45) (sA 64 (fun _ => nI un) (sA 63 uisLoaded_14 (sA 62 ufarNow_9 (sA 61 (fun _ => ulots_8) (sA 60 urow_13 (sA 58 (fun _ => uisBroken_17) (sA 57 upile_16 (sA 56 uvariables_15 (sA 18 (fun _ => nI lv) g_m))))))))))) from by exact hTM) (show RS cn (runsP cn lw t τ kq) urow_13 ufarNow_9 ulots_8 from by exact hp_12)) (cwV 0 hts (lw_V q2161 q2163 qs104 q133 q2164) rfl rfl rfl (by decide +kernel) ⟨Nat.le_of_ble_eq_true rfl, Nat.le_of_ble_eq_true rfl⟩) (zPreV hK hW hR (wj_split3 (B := [(mw Y ad_m (sA 67 (fun _ => x_taughtWorth_45) (sA 66 (fun _ => x_taughtWay_45) (sA 64 (fun _ => nI un) (sA 63 uisLoaded_14 (sA 62 ufarNow_9 (sA 61 (fun _ => ulots_8) (sA 60 urow_13 (sA 58 (fun _ => uisBroken_17) (sA 57 upile_16 (sA 56 uvariables_15 (sA 18 (fun _ => nI lv) g_m))))))))))) w_m)]) (R := []) (C := [(mw Y ad_m (sA 67 (fun _ => x_taughtWorth_45) (sA 66 (fun _ => x_taughtWay_45) (sA 64 (fun _ => nI un) (sA 63 uisLoaded_14 (sA 62 ufarNow_9 (sA 61 (fun _ => ulots_8) (sA 60 urow_13 (sA 58 (fun _ => uisBroken_17) (sA 57 upile_16 (sA 56 uvariables_15 (sA 18 (fun _ => nI lv) g_m))))))))))) w_m)]) (O := []) (X := []) (List.Perm.refl _)) (va_recv hK.1 hW.1 (ci := 11) (q0 := 0) rfl rfl)) rfl rfl hl.1 rfl (lv_room (Nat.le_of_ble_eq_true rfl)) dX12_teaches_138 ⟨Nat.le_refl _, Nat.le_refl _⟩) hW hA (wj_split (B := [(mw Y ad_m (sA 67 (fun _ => x_taughtWorth_45) (sA 66 (fun _ => x_taughtWay_45) (sA 64 (fun _ => nI un) (sA 63 uisLoaded_14 (sA 62 ufarNow_9 (sA 61 (fun _ => ulots_8) (sA 60 urow_13 (sA 58 (fun _ => uisBroken_17) (sA 57 upile_16 (sA 56 uvariables_15 (sA 18 (fun _ => nI lv) g_m))))))))))) w_m)]) (C := [(mw Y ad_m (sA 67 (fun _ => x_taughtWorth_45) (sA 66 (fun _ => x_taughtWay_45) (sA 64 (fun _ => nI un) (sA 63 uisLoaded_14 (sA 62 ufarNow_9 (sA 61 (fun _ => ulots_8) (sA 60 urow_13 (sA 58 (fun _ => uisBroken_17) (sA 57 upile_16 (sA 56 uvariables_15 (sA 18 (fun _ => nI lv) g_m))))))))))) w_m)]) (R := []) (List.Perm.refl _)) (fun r_18 u H locs hp_19 hW => ?_)
                    have hp_19 : r_18 = worthTo t (runsP cn lw t τ kq) (cn 1) := hp_19
                    have hW : zW D A s.heap H locs (wj [(mw Y ad_m (sA 67 (fun _ => x_taughtWorth_45) (sA 66 (fun _ => x_taughtWay_45) (sA 64 (fun _ => nI un) (sA 63 uisLoaded_14 (sA 62 ufarNow_9 (sA 61 (fun _ => ulots_8) (sA 60 urow_13 (sA 58 (fun _ => uisBroken_17) (sA 57 upile_16 (sA 56 uvariables_15 (sA 18 (fun _ => nI lv) g_m))))))))))) w_m)]) := hW.join
                    refine lv_aload_n hx hb dX12_teaches_141 rfl (lv_at hl 4 rfl) ?_
                    refine va_get (v := .int x_taughtWorth_45) (C := RX12) (T := TX12) (N := 75) (ci := 11) hx hb hts in_X12 hown hK.1 hW.1 0 rfl rfl 67 (by decide) (hts _ q1703) (fun _ h9 => h9) rfl dX12_teaches_142 ?_
                    refine lv_icmp_gt (tgt := 151) hx hb dX12_teaches_145 (by decide) (fun c_20 => ?_) (fun c_20 => ?_)
                    · have hv := c_20
                      refine lv_aload_n hx hb dX12_teaches_151 rfl (lv_at hl 4 rfl) ?_
                      refine lv_iload hx hb dX12_teaches_152 (lv_at hl 2 rfl) ?_
                      refine z_put (v := .int (nI w)) (C := RX12) (T := TX12) (N := 75) (ci := 11) (wn := (wj [(mw Y ad_m (sA 67 (fun _ => x_taughtWorth_45) (sA 66 (fun _ => nI w) (sA 64 (fun _ => nI un) (sA 63 uisLoaded_14 (sA 62 ufarNow_9 (sA 61 (fun _ => ulots_8) (sA 60 urow_13 (sA 58 (fun _ => uisBroken_17) (sA 57 upile_16 (sA 56 uvariables_15 (sA 18 (fun _ => nI lv) g_m))))))))))) w_m)])) hx hb hts in_X12 tyX12 tyX12_ok nmX12 hown hK.1 hW 0 rfl rfl 66 (by decide) (hts _ q1702) (fun _ h9 => h9) rfl rfl rfl (Nat.le_of_ble_eq_true rfl) dX12_teaches_154 rfl (fun H locs hW => ?_)
                      refine lv_aload_n hx hb dX12_teaches_157 rfl (lv_at hl 4 rfl) ?_
                      refine lv_aload_n hx hb dX12_teaches_158 rfl (lv_at hl 4 rfl) ?_
                      refine z_calli (wc := wj [(mw Y ad_m (sA 67 (fun _ => x_taughtWorth_45) (sA 66 (fun _ => nI w) (sA 64 (fun _ => nI un) (sA 63 uisLoaded_14 (sA 62 ufarNow_9 (sA 61 (fun _ => ulots_8) (sA 60 urow_13 (sA 58 (fun _ => uisBroken_17) (sA 57 upile_16 (sA 56 uvariables_15 (sA 18 (fun _ => nI lv) g_m))))))))))) w_m)]) (wr := wj []) (va_runV (As := []) (rest := [.ref (ad_m 0)]) ⟨hx, hb, hml, hown, hts⟩ (m_X12_worthAll l D Y ad_m (sA 67 (fun _ => x_taughtWorth_45) (sA 66 (fun _ => nI w) (sA 64 (fun _ => nI un) (sA 63 uisLoaded_14 (sA 62 ufarNow_9 (sA 61 (fun _ => ulots_8) (sA 60 urow_13 (sA 58 (fun _ => uisBroken_17) (sA 57 upile_16 (sA 56 uvariables_15 (sA 18 (fun _ => nI lv) g_m))))))))))) w_m lv cn t lw (runsP cn lw t τ kq) H.size (show lv < 2 from by exact hlv) (show TW cn t lw from by exact hTW) (show TM lv cn t lw (sA 67 (fun _ => x_taughtWorth_45) (sA 66 (fun _ => nI w) (sA 64 (fun _ => nI un) (sA 63 uisLoaded_14 (sA 62 ufarNow_9 (sA 61 (fun _ => ulots_8) (sA 60 urow_13 (sA 58 (fun _ => uisBroken_17) (sA 57 upile_16 (sA 56 uvariables_15 (sA 18 (fun _ => nI lv) g_m))))))))))) from by exact hTM) (show RS cn (runsP cn lw t τ kq) urow_13 ufarNow_9 ulots_8 from by exact hp_12)) (cwV 0 hts (lw_V q2161 q2163 qs104 q133 q2164) rfl rfl rfl (by decide +kernel) ⟨Nat.le_of_ble_eq_true rfl, Nat.le_of_ble_eq_true rfl⟩) (zPreV hK hW hR (wj_split3 (B := [(mw Y ad_m (sA 67 (fun _ => x_taughtWorth_45) (sA 66 (fun _ => nI w) (sA 64 (fun _ => nI un) (sA 63 uisLoaded_14 (sA 62 ufarNow_9 (sA 61 (fun _ => ulots_8) (sA 60 urow_13 (sA 58 (fun _ => uisBroken_17) (sA 57 upile_16 (sA 56 uvariables_15 (sA 18 (fun _ => nI lv) g_m))))))))))) w_m)]) (R := []) (C := [(mw Y ad_m (sA 67 (fun _ => x_taughtWorth_45) (sA 66 (fun _ => nI w) (sA 64 (fun _ => nI un) (sA 63 uisLoaded_14 (sA 62 ufarNow_9 (sA 61 (fun _ => ulots_8) (sA 60 urow_13 (sA 58 (fun _ => uisBroken_17) (sA 57 upile_16 (sA 56 uvariables_15 (sA 18 (fun _ => nI lv) g_m))))))))))) w_m)]) (O := []) (X := []) (List.Perm.refl _)) (va_recv hK.1 hW.1 (ci := 11) (q0 := 0) rfl rfl)) rfl rfl hl.1 rfl (lv_room (Nat.le_of_ble_eq_true rfl)) dX12_teaches_159 ⟨Nat.le_refl _, Nat.le_refl _⟩) hW hA (wj_split (B := [(mw Y ad_m (sA 67 (fun _ => x_taughtWorth_45) (sA 66 (fun _ => nI w) (sA 64 (fun _ => nI un) (sA 63 uisLoaded_14 (sA 62 ufarNow_9 (sA 61 (fun _ => ulots_8) (sA 60 urow_13 (sA 58 (fun _ => uisBroken_17) (sA 57 upile_16 (sA 56 uvariables_15 (sA 18 (fun _ => nI lv) g_m))))))))))) w_m)]) (C := [(mw Y ad_m (sA 67 (fun _ => x_taughtWorth_45) (sA 66 (fun _ => nI w) (sA 64 (fun _ => nI un) (sA 63 uisLoaded_14 (sA 62 ufarNow_9 (sA 61 (fun _ => ulots_8) (sA 60 urow_13 (sA 58 (fun _ => uisBroken_17) (sA 57 upile_16 (sA 56 uvariables_15 (sA 18 (fun _ => nI lv) g_m))))))))))) w_m)]) (R := []) (List.Perm.refl _)) (fun r_21 u H locs hp_22 hW => ?_)
                      have hp_22 : r_21 = worthTo t (runsP cn lw t τ kq) (cn 1) := hp_22
                      have hW : zW D A s.heap H locs (wj [(mw Y ad_m (sA 67 (fun _ => x_taughtWorth_45) (sA 66 (fun _ => nI w) (sA 64 (fun _ => nI un) (sA 63 uisLoaded_14 (sA 62 ufarNow_9 (sA 61 (fun _ => ulots_8) (sA 60 urow_13 (sA 58 (fun _ => uisBroken_17) (sA 57 upile_16 (sA 56 uvariables_15 (sA 18 (fun _ => nI lv) g_m))))))))))) w_m)]) := hW.join
                      refine z_put (v := .int r_21) (C := RX12) (T := TX12) (N := 75) (ci := 11) (wn := (wj [(mw Y ad_m (sA 67 (fun _ => r_21) (sA 66 (fun _ => nI w) (sA 64 (fun _ => nI un) (sA 63 uisLoaded_14 (sA 62 ufarNow_9 (sA 61 (fun _ => ulots_8) (sA 60 urow_13 (sA 58 (fun _ => uisBroken_17) (sA 57 upile_16 (sA 56 uvariables_15 (sA 18 (fun _ => nI lv) g_m))))))))))) w_m)])) hx hb hts in_X12 tyX12 tyX12_ok nmX12 hown hK.1 hW 0 rfl rfl 67 (by decide) (hts _ q1703) (fun _ h9 => h9) rfl rfl rfl (Nat.le_of_ble_eq_true rfl) dX12_teaches_162 rfl (fun H locs hW => ?_)
                      refine lv_iinc (v := nI (w + 1)) (lv' := [(4, .int (nI (w + 1))), (6, .int (nI rr)), (5, .int (nI rest)), (3, .int (nI wy)), (0, .ref (ad_m 0)), (1, .int se), (2, .int (nI kq))]) hx hb dX12_teaches_165 hl (k := 2) rfl (nI_add w 1) (by decide) rfl (fun ls hl => ?_)
                      refine lv_goto (tgt := 45) hx hb dX12_teaches_168 (by decide) ?_
                      exact ih_45 (w + 1) urow_13 uisLoaded_14 uvariables_15 upile_16 uisBroken_17 ulots_8 ufarNow_9 (nI w) r_21 (by omega) (by omega) (by
                          have er : rr = cn 2 := by omega
                          have hwv : wayV cn lw t σ se kq w = r_18 := by
                            unfold wayV; rw [← hL2, ← er, hτ]; exact hp_19.symm
                          simp only [wayTo]
                          rw [hs, hwv]
                          first | exact zi_t (by first | assumption | exact Int32.not_lt.mp hv) _ _ | (rw [zi_f (by first | assumption | exact Int32.not_le.mpr hv)]; rw [hp_22, hp_19])) _ _ hW _ (lv_sub hl [0, 3, 4, 5, 6] rfl)
                    · have hv := c_20
                      refine lv_goto (tgt := 165) hx hb dX12_teaches_148 (by decide) ?_
                      refine lv_iinc (v := nI (w + 1)) (lv' := [(4, .int (nI (w + 1))), (6, .int (nI rr)), (5, .int (nI rest)), (3, .int (nI wy)), (0, .ref (ad_m 0)), (1, .int se), (2, .int (nI kq))]) hx hb dX12_teaches_165 hl (k := 2) rfl (nI_add w 1) (by decide) rfl (fun ls hl => ?_)
                      refine lv_goto (tgt := 45) hx hb dX12_teaches_168 (by decide) ?_
                      exact ih_45 (w + 1) urow_13 uisLoaded_14 uvariables_15 upile_16 uisBroken_17 ulots_8 ufarNow_9 x_taughtWay_45 x_taughtWorth_45 (by omega) (by omega) (by
                          have er : rr = cn 2 := by omega
                          have hwv : wayV cn lw t σ se kq w = r_18 := by
                            unfold wayV; rw [← hL2, ← er, hτ]; exact hp_19.symm
                          simp only [wayTo]
                          rw [hs, hwv]
                          first | exact zi_t (by first | assumption | exact Int32.not_lt.mp hv) _ _ | (rw [zi_f (by first | assumption | exact Int32.not_le.mpr hv)])) _ _ hW _ (lv_sub hl [0, 3, 4, 5, 6] rfl)
                  · have c_10 : ¬ (cn 2 ≤ rr) := fun hz_ => c_10 ((nI_leI (a := cn 2) (b := rr) (by omega) (by omega)).mpr hz_)
                    refine lv_iload_n hx hb dX12_teaches_75 rfl (lv_at hl 5 rfl) ?_
                    refine lv_iload hx hb dX12_teaches_76 (lv_at hl 0 rfl) ?_
                    refine lv_ishr hx hb dX12_teaches_78 ?_
                    refine lv_iconst (v := 1) hx hb dX12_teaches_79 (by decide) ?_
                    refine lv_iand hx hb dX12_teaches_80 ?_
                    refine lv_if_ne (tgt := 87) hx hb dX12_teaches_81 (by decide) (fun c_23 => ?_) (fun c_23 => ?_)
                    · have hbt : bitP se rr := by unfold bitP; exact one_of_ne0 c_23
                      have hlr : ranksTo se rr < L := by
                        have q := ranks_mono se (show rr + 1 ≤ cn 2 by omega)
                        rw [show ranksTo se (rr + 1) = ranksTo se rr + 1 from zi_t hbt _ _, ← hL2] at q; omega
                      have hre2 : rest / cn 0 = cn 0 ^ (L - 1 - ranksTo se rr) := by rw [hre, pow_dv hlr h0]; congr 1; omega
                      have hrl : rest ≤ 1296 := by rw [hre]; exact pow_lim hk60 (by omega)
                      have hrp : 0 < rest / cn 0 := by rw [hre2]; exact Nat.pow_pos h0
                      have hrq : rest / cn 0 ≤ 1296 := Nat.le_trans (Nat.div_le_self _ _) hrl
                      have hwq : w / (rest / cn 0) ≤ 1296 := Nat.le_trans (Nat.div_le_self _ _) (by omega)
                      refine lv_iload hx hb dX12_teaches_87 (lv_at hl 1 rfl) ?_
                      refine lv_aload_n hx hb dX12_teaches_89 rfl (lv_at hl 4 rfl) ?_
                      refine va_get (v := .ref (ad_m 24)) (C := RX12) (T := TX12) (N := 75) (ci := 11) hx hb hts in_X12 hown hK.1 hW.1 0 rfl rfl 24 (by decide) (hts _ q1660) (fun _ h9 => h9) rfl dX12_teaches_90 ?_
                      refine lv_aload_n hx hb dX12_teaches_93 rfl (lv_at hl 4 rfl) ?_
                      refine va_get (v := .int (nI lv)) (C := RX12) (T := TX12) (N := 75) (ci := 11) hx hb hts in_X12 hown hK.1 hW.1 0 rfl rfl 18 (by decide) (hts _ q1654) (fun _ h9 => h9) rfl dX12_teaches_94 ?_
                      refine z_iald (v := nI (cn 0)) (f := g_m 24) (j := lv) hx hb hK.1 hW.1 11 0 rfl rfl (vp_in_nI (n := lv) (by omega) (by decide)) (nI_clamp (n := lv) (by omega)) (TM.c24 hTM) dX12_teaches_97 ?_
                      refine lv_idiv hx hb dX12_teaches_98 (nI_ne0 (by omega) (by omega)) ?_
                      refine lv_topi (nm_r (e' := nI (rest / (cn 0))) (pk_div (a := rest) (d := cn 0) (by omega) (by omega) (by omega)) ?_)
                      refine lv_istore (lv' := [(5, .int (nI (rest / (cn 0)))), (6, .int (nI rr)), (4, .int (nI w)), (3, .int (nI wy)), (0, .ref (ad_m 0)), (1, .int se), (2, .int (nI kq))]) hx hb dX12_teaches_99 hl (by decide) rfl (fun ls hl => ?_)
                      refine lv_aload_n hx hb dX12_teaches_101 rfl (lv_at hl 4 rfl) ?_
                      refine va_get (v := .ref (ad_m 60)) (C := RX12) (T := TX12) (N := 75) (ci := 11) hx hb hts in_X12 hown hK.1 hW.1 0 rfl rfl 60 (by decide) (hts _ q1696) (fun _ h9 => h9) rfl dX12_teaches_102 ?_
                      refine lv_bipush (v := 90) hx hb dX12_teaches_105 (by decide) ?_
                      refine lv_iload hx hb dX12_teaches_107 (lv_at hl 1 rfl) ?_
                      refine lv_iadd hx hb dX12_teaches_109 ?_
                      refine lv_topi (nm_r (e' := nI (90 + rr)) (nI_add 90 rr) ?_)
                      refine lv_iload hx hb dX12_teaches_110 (lv_at hl 2 rfl) ?_
                      refine lv_iload hx hb dX12_teaches_112 (lv_at hl 0 rfl) ?_
                      refine lv_idiv hx hb dX12_teaches_114 (nI_ne0 (by omega) (by omega)) ?_
                      refine lv_topi (nm_r (e' := nI (w / (rest / (cn 0)))) (pk_div (a := w) (d := rest / (cn 0)) (by omega) (by omega) (by omega)) ?_)
                      refine lv_aload_n hx hb dX12_teaches_115 rfl (lv_at hl 4 rfl) ?_
                      refine va_get (v := .ref (ad_m 24)) (C := RX12) (T := TX12) (N := 75) (ci := 11) hx hb hts in_X12 hown hK.1 hW.1 0 rfl rfl 24 (by decide) (hts _ q1660) (fun _ h9 => h9) rfl dX12_teaches_116 ?_
                      refine lv_aload_n hx hb dX12_teaches_119 rfl (lv_at hl 4 rfl) ?_
                      refine va_get (v := .int (nI lv)) (C := RX12) (T := TX12) (N := 75) (ci := 11) hx hb hts in_X12 hown hK.1 hW.1 0 rfl rfl 18 (by decide) (hts _ q1654) (fun _ h9 => h9) rfl dX12_teaches_120 ?_
                      refine z_iald (v := nI (cn 0)) (f := g_m 24) (j := lv) hx hb hK.1 hW.1 11 0 rfl rfl (vp_in_nI (n := lv) (by omega) (by decide)) (nI_clamp (n := lv) (by omega)) (TM.c24 hTM) dX12_teaches_123 ?_
                      refine lv_irem hx hb dX12_teaches_124 (nI_ne0 (by omega) (by omega)) ?_
                      refine lv_topi (nm_r (e' := nI ((w / (rest / (cn 0))) % (cn 0))) (pk_rem (a := w / (rest / (cn 0))) (d := cn 0) (by omega) (by omega) (by omega)) ?_)
                      refine z_iast (x := nI ((w / (rest / (cn 0))) % (cn 0))) (f := x_row_61) (j := 90 + rr) (wn := (wj [(mw Y ad_m (sA 67 (fun _ => x_taughtWorth_45) (sA 66 (fun _ => x_taughtWay_45) (sA 64 (fun _ => nI un) (sA 63 x_isLoaded_45 (sA 62 ufarNow_9 (sA 61 (fun _ => ulots_8) (sA 60 (upd x_row_61 (90 + rr) (nI ((w / (rest / (cn 0))) % (cn 0)))) (sA 58 (fun _ => x_isBroken_45) (sA 57 x_pile_45 (sA 56 x_variables_45 (sA 18 (fun _ => nI lv) g_m))))))))))) w_m)])) hx hb hK.1 hW 43 0 rfl rfl (vp_in_nI (n := 90 + rr) (by omega) (by decide)) (nI_clamp (n := 90 + rr) (by omega)) dX12_teaches_125 rfl (fun H locs hW => ?_)
                      refine lv_iinc (v := nI (rr + 1)) (lv' := [(6, .int (nI (rr + 1))), (5, .int (nI (rest / (cn 0)))), (4, .int (nI w)), (3, .int (nI wy)), (0, .ref (ad_m 0)), (1, .int se), (2, .int (nI kq))]) hx hb dX12_teaches_126 hl (k := 1) rfl (nI_add rr 1) (by decide) rfl (fun ls hl => ?_)
                      refine lv_goto (tgt := 61) hx hb dX12_teaches_129 (by decide) ?_
                      have hRSn : RS cn (sU 10 rr (nI (w / (rest / cn 0) % cn 0)) τ) (upd x_row_61 (90 + rr) (nI ((w / (rest / (cn 0))) % (cn 0)))) ufarNow_9 ulots_8 := by
                        have e_24 : (sU 10 rr (nI (w / (rest / cn 0) % cn 0)) τ) = sU 10 rr (nI ((w / (rest / (cn 0))) % (cn 0))) τ := by
                          rfl
                        rw [e_24]; exact (RS.mk' hRSr (MR.u10 hk8 hRSr.1 (r := rr) (by omega) (nI ((w / (rest / (cn 0))) % (cn 0)))) (by rw [sU_ne (by omega)]) (by rw [sU_ne (by omega)]))
                      exact ih_61 (rr + 1) (rest / (cn 0)) (upd x_row_61 (90 + rr) (nI ((w / (rest / (cn 0))) % (cn 0)))) (sU 10 rr (nI (w / (rest / cn 0) % cn 0)) τ) (by omega) (by omega) (by first | (rw [show ranksTo se (rr + 1) = ranksTo se rr from zi_f hbt _ _]; exact hre) | (rw [show ranksTo se (rr + 1) = ranksTo se rr + 1 from zi_t hbt _ _, hre]; exact pow_dv hlr h0)) (by simp only [teachTo]; rw [hτ]; first | exact zi_f hbt _ _ | (rw [zi_t hbt]; unfold lessonP; rw [hre2])) (by first | exact hRSn | exact hRSr) _ _ hW _ (lv_sub hl [0, 1, 2, 3, 4, 5, 6] rfl)
                    · have hbt : ¬ bitP se rr := by unfold bitP; rw [c_23]; decide
                      refine lv_goto (tgt := 126) hx hb dX12_teaches_84 (by decide) ?_
                      refine lv_iinc (v := nI (rr + 1)) (lv' := [(6, .int (nI (rr + 1))), (5, .int (nI rest)), (4, .int (nI w)), (3, .int (nI wy)), (0, .ref (ad_m 0)), (1, .int se), (2, .int (nI kq))]) hx hb dX12_teaches_126 hl (k := 0) rfl (nI_add rr 1) (by decide) rfl (fun ls hl => ?_)
                      refine lv_goto (tgt := 61) hx hb dX12_teaches_129 (by decide) ?_
                      exact ih_61 (rr + 1) rest x_row_61 τ (by omega) (by omega) (by first | (rw [show ranksTo se (rr + 1) = ranksTo se rr from zi_f hbt _ _]; exact hre) | (rw [show ranksTo se (rr + 1) = ranksTo se rr + 1 from zi_t hbt _ _, hre]; exact pow_dv hlr h0)) (by simp only [teachTo]; rw [hτ]; first | exact zi_f hbt _ _ | (rw [zi_t hbt]; unfold lessonP; rw [hre2])) (by first | exact hRSn | exact hRSr) _ _ hW _ (lv_sub hl [0, 1, 2, 3, 4, 5, 6] rfl)
              exact loop_61 _ 0 wy urow_7 σ (Nat.lt_succ_self _) (by omega) (by exact ewy) (by rfl) (by exact hp_6) _ _ hW _ (lv_sub hl [0, 1, 2, 3, 4, 5, 6] rfl)
        exact loop_45 _ 0 (g_m 60) (g_m 63) (g_m 56) (g_m 57) (g_m 58 0) (g_m 61 0) (g_m 62) (-1) (-1) (Nat.lt_succ_self _) (by omega) (by rfl) _ _ hW _ (lv_sub hl [0, 1, 2, 3, 4] rfl)
      · have c_3 : ¬ (L ≤ kb) := fun hz_ => c_3 ((nI_leI (a := L) (b := kb) (by omega) (by omega)).mpr hz_)
        refine lv_iload_n hx hb dX12_teaches_14 rfl (lv_at hl 1 rfl) ?_
        refine lv_aload_n hx hb dX12_teaches_15 rfl (lv_at hl 2 rfl) ?_
        refine va_get (v := .ref (ad_m 24)) (C := RX12) (T := TX12) (N := 75) (ci := 11) hx hb hts in_X12 hown hK.1 hW.1 0 rfl rfl 24 (by decide) (hts _ q1660) (fun _ h9 => h9) rfl dX12_teaches_16 ?_
        refine lv_aload_n hx hb dX12_teaches_19 rfl (lv_at hl 2 rfl) ?_
        refine va_get (v := .int (nI lv)) (C := RX12) (T := TX12) (N := 75) (ci := 11) hx hb hts in_X12 hown hK.1 hW.1 0 rfl rfl 18 (by decide) (hts _ q1654) (fun _ h9 => h9) rfl dX12_teaches_20 ?_
        refine z_iald (v := nI (cn 0)) (f := g_m 24) (j := lv) hx hb hK.1 hW.1 11 0 rfl rfl (vp_in_nI (n := lv) (by omega) (by decide)) (nI_clamp (n := lv) (by omega)) (TM.c24 hTM) dX12_teaches_23 ?_
        refine lv_imul hx hb dX12_teaches_24 ?_
        refine lv_topi (nm_r (e' := nI (wy * (cn 0))) (pk_mul wy (cn 0)) ?_)
        refine lv_istore_n (lv' := [(3, .int (nI (wy * (cn 0)))), (4, .int (nI kb)), (0, .ref (ad_m 0)), (1, .int se), (2, .int (nI kq))]) hx hb dX12_teaches_25 rfl hl (by decide) rfl (fun ls hl => ?_)
        refine lv_iinc (v := nI (kb + 1)) (lv' := [(4, .int (nI (kb + 1))), (3, .int (nI (wy * (cn 0)))), (0, .ref (ad_m 0)), (1, .int se), (2, .int (nI kq))]) hx hb dX12_teaches_26 hl (k := 1) rfl (nI_add kb 1) (by decide) rfl (fun ls hl => ?_)
        refine lv_goto (tgt := 5) hx hb dX12_teaches_29 (by decide) ?_
        exact ih_5 (kb + 1) (wy * (cn 0)) (by omega) (by omega) (by rw [hw, Nat.pow_succ]) (by rw [hw, ← Nat.pow_succ]; exact pow_lim hk60 (by omega)) _ _ hW _ (lv_sub hl [0, 1, 2, 3, 4] rfl)
  exact loop_5 _ 0 1 (Nat.lt_succ_self _) (by omega) (by rfl) (by omega) _ _ hW _ (lv_sub hl [0, 1, 2, 3, 4] rfl)
set_option maxHeartbeats 4000000 in
set_option maxRecDepth 100000 in
theorem m_X12_taught (l : Launch) (D : va_G) (Y : Nat → ClassId) (ad_m : Nat → Nat) (g_m : Nat → Nat → Int32) (w_m : Nat → Nat → Int64) (lv : Nat) (cn : Nat → Nat) (t : tab) (lw : Nat → Option LAW) (σ : tab) (U : List tab) (un : Nat) (B_ : Int) (sx : Int32) (kx : Int32) (sz : Nat) (hlv : lv < 2) (hTW : TW cn t lw) (hTM : TM lv cn t lw g_m) (hKN : KN (cn 2) σ U (g_m 59) (g_m 65) un) (hF1 : ∀ h, h < cn 1 → σ 1 h = t 2 h) (hF2 : σ 18 0 = t 12 2) (hWF : WF cn B_ σ) (hB : B_ ≤ 5000000) : Met l yX12_taught (ws_ yX12_taught cX12_taught 3 (some .int)) ({ frames := 7, cells := 0, slots := 0, locals := 167 }) (zPc D Y [.ref (ad_m 0), .int sx, .int kx] sz (wj []) (wj [(mw Y ad_m (sA 64 (fun _ => nI un) (sA 18 (fun _ => nI lv) g_m)) w_m)])) (va_Qi (fun (r : Int32) (u : (Nat → Int32) × (Nat → Int32) × (Nat → Int32) × (Nat → Int32) × (Int32) × (Int32) × (Nat → Int32) × (Int32) × (Int32)) => r = taughtO cn lw t σ sx kx) (zB D (fun (u : (Nat → Int32) × (Nat → Int32) × (Nat → Int32) × (Nat → Int32) × (Int32) × (Int32) × (Nat → Int32) × (Int32) × (Int32)) => (wj [(mw Y ad_m (sA 67 (fun _ => u.2.2.2.2.2.2.2.2) (sA 66 (fun _ => u.2.2.2.2.2.2.2.1) (sA 64 (fun _ => nI un) (sA 63 u.2.1 (sA 62 u.2.2.2.2.2.2.1 (sA 61 (fun _ => u.2.2.2.2.2.1) (sA 60 u.1 (sA 58 (fun _ => u.2.2.2.2.1) (sA 57 u.2.2.2.1 (sA 56 u.2.2.1 (sA 18 (fun _ => nI lv) g_m))))))))))) w_m)])) (va_A (wj [(mw Y ad_m (sA 64 (fun _ => nI un) (sA 18 (fun _ => nI lv) g_m)) w_m)]) sz)) (va_A (wj [(mw Y ad_m (sA 64 (fun _ => nI un) (sA 18 (fun _ => nI lv) g_m)) w_m)]) sz)) 0 0 (va_A (wj [(mw Y ad_m (sA 64 (fun _ => nI un) (sA 18 (fun _ => nI lv) g_m)) w_m)]) sz) := by
  refine Met.ofW (cc := cX12_taught) (maxL := 3) (ret := (some .int)) (by decide) rfl ?_
  intro p e s m args below meth c s₁ B hml hv
  obtain ⟨rfl, hsz, hW, hR, hK, hA⟩ := zEntry hv
  subst hsz
  have hx := B.exec
  have hb := B.bytes
  have hr := B.returns
  have hlocks := B.notSynchronized
  have hts : ∀ w ∈ lw_all, w.before _ s = true := fun w h => atoms_spec (ws := (ws_ yX12_taught cX12_taught 3 (some .int))) B.pre w (List.mem_cons_of_mem _ h)
  have hown : s.vm.findClass RX12 = some m.cls := findClass_of_methodNamed B.named
  generalize hAe : va_A (wj [(mw Y ad_m (sA 64 (fun _ => nI un) (sA 18 (fun _ => nI lv) g_m)) w_m)]) s.heap.size = A at hW hR hA ⊢
  have hl := lv_entry ([.ref (ad_m 0), .int sx, .int kx]) (n := 3) (Nat.le_of_ble_eq_true rfl)
  rw [lg_entry_eq]
  generalize (lg_sl ([.ref (ad_m 0), .int sx, .int kx]) ++ List.replicate (3 - (lg_sl ([.ref (ad_m 0), .int sx, .int kx])).length) Slot.unset).toArray = ls at hl ⊢
  have hl : lv_has ls 3 [(0, .ref (ad_m 0)), (1, .int sx), (2, .int kx)] := hl
  have hk8 := hTW.n2
  have hk6 := hTW.n1
  have hk60 := hTW.n0
  have hk5 := hTW.n3
  refine lv_aload_n hx hb dX12_taught_0 rfl (lv_at hl 0 rfl) ?_
  refine lv_iload_n hx hb dX12_taught_1 rfl (lv_at hl 1 rfl) ?_
  refine lv_iload_n hx hb dX12_taught_2 rfl (lv_at hl 2 rfl) ?_
  refine z_calli (wc := wj [(mw Y ad_m (sA 64 (fun _ => nI un) (sA 18 (fun _ => nI lv) g_m)) w_m)]) (wr := wj []) (va_runV (As := [.int sx, .int kx]) (rest := []) ⟨hx, hb, hml, hown, hts⟩ (m_X12_isSet l D Y ad_m (sA 64 (fun _ => nI un) (sA 18 (fun _ => nI lv) g_m)) w_m lv cn t lw sx kx s.heap.size (show lv < 2 from by exact hlv) (show TW cn t lw from by exact hTW) (show TM lv cn t lw (sA 64 (fun _ => nI un) (sA 18 (fun _ => nI lv) g_m)) from by exact hTM)) (cwV 2 hts (lw_V q2196 q2198 qs109 q133 q2199) rfl rfl rfl (by decide +kernel) ⟨Nat.le_of_ble_eq_true rfl, Nat.le_of_ble_eq_true rfl⟩) (zPreV hK hW hR (wj_split3 (B := [(mw Y ad_m (sA 64 (fun _ => nI un) (sA 18 (fun _ => nI lv) g_m)) w_m)]) (R := []) (C := [(mw Y ad_m (sA 64 (fun _ => nI un) (sA 18 (fun _ => nI lv) g_m)) w_m)]) (O := []) (X := []) (List.Perm.refl _)) (va_recv hK.1 hW.1 (ci := 11) (q0 := 0) rfl rfl)) rfl rfl hl.1 rfl (lv_room (Nat.le_of_ble_eq_true rfl)) dX12_taught_3 ⟨Nat.le_refl _, Nat.le_refl _⟩) hW hA (wj_split (B := [(mw Y ad_m (sA 64 (fun _ => nI un) (sA 18 (fun _ => nI lv) g_m)) w_m)]) (C := [(mw Y ad_m (sA 64 (fun _ => nI un) (sA 18 (fun _ => nI lv) g_m)) w_m)]) (R := []) (List.Perm.refl _)) (fun r_1 u H locs hp_2 hW => ?_)
  have hp_2 : r_1 = zb (isSetP cn sx kx) := hp_2
  have hW : zW D A s.heap H locs (wj [(mw Y ad_m (sA 64 (fun _ => nI un) (sA 18 (fun _ => nI lv) g_m)) w_m)]) := hW.join
  refine lv_if_ne (tgt := 11) hx hb dX12_taught_6 (by decide) (fun c_3 => ?_) (fun c_3 => ?_)
  · have c_3 : isSetP cn sx kx := zb_ne hp_2 c_3
    obtain ⟨sq, kq, esq, hs1, hs2, ekq, hk1, hk3, hL, hL4, h0⟩ := setP_facts hTW c_3
    have ckq : kx.toNatClampNeg = kq := by rw [ekq]; exact nI_clamp (by omega)
    refine lv_aload_n hx hb dX12_taught_11 rfl (lv_at hl 0 rfl) ?_
    refine lv_iload_n hx hb dX12_taught_12 rfl (lv_at hl 1 rfl) ?_
    refine lv_iload_n hx hb dX12_taught_13 rfl (lv_at hl 2 rfl) ?_
    refine lv_topi (nm_r (e' := nI kq) ekq ?_)
    refine z_callv (wc := wj [(mw Y ad_m (sA 64 (fun _ => nI un) (sA 18 (fun _ => nI lv) g_m)) w_m)]) (wr := wj []) (va_runV (As := [.int sx, .int (nI kq)]) (rest := []) ⟨hx, hb, hml, hown, hts⟩ (m_X12_teaches l D Y ad_m (sA 64 (fun _ => nI un) (sA 18 (fun _ => nI lv) g_m)) w_m lv cn t lw σ U un B_ sx kq (ranksTo sx (cn 2)) H.size (show lv < 2 from by first | assumption | omega | grind) (show TW cn t lw from by first | assumption | omega | grind) (show TM lv cn t lw (sA 64 (fun _ => nI un) (sA 18 (fun _ => nI lv) g_m)) from by first | assumption | omega | grind) (show KN (cn 2) σ U (g_m 59) (g_m 65) un from by exact hKN) (show ∀ h, h < cn 1 → σ 1 h = t 2 h from by exact hF1) (show σ 18 0 = t 12 2 from by exact hF2) (show WF cn B_ σ from by exact hWF) (show B_ ≤ 5000000 from by exact hB) (show bitsTo sx 8 = nI (ranksTo sx (cn 2)) from by exact hL) (show (ranksTo sx (cn 2)) = ranksTo sx (cn 2) from by rfl) (show (ranksTo sx (cn 2)) ≤ 4 from by exact hL4) (show 0 < cn 0 from by exact h0) (show kq ≤ 300 from by exact hk3)) (cwV 2 hts (lw_V q2200 q2202 qs110 q133 q2203) rfl rfl rfl (by decide +kernel) ⟨Nat.le_of_ble_eq_true rfl, Nat.le_of_ble_eq_true rfl⟩) (zPreV hK hW hR (wj_split3 (B := [(mw Y ad_m (sA 64 (fun _ => nI un) (sA 18 (fun _ => nI lv) g_m)) w_m)]) (R := []) (C := [(mw Y ad_m (sA 64 (fun _ => nI un) (sA 18 (fun _ => nI lv) g_m)) w_m)]) (O := []) (X := []) (List.Perm.refl _)) (va_recv hK.1 hW.1 (ci := 11) (q0 := 0) rfl rfl)) rfl rfl hl.1 rfl (lv_room (Nat.le_of_ble_eq_true rfl)) dX12_taught_14 ⟨Nat.le_refl _, Nat.le_refl _⟩) hW hA (wj_split (B := [(mw Y ad_m (sA 64 (fun _ => nI un) (sA 18 (fun _ => nI lv) g_m)) w_m)]) (C := [(mw Y ad_m (sA 64 (fun _ => nI un) (sA 18 (fun _ => nI lv) g_m)) w_m)]) (R := []) (List.Perm.refl _)) (fun  u H locs hp_5 hW => ?_)
    obtain ⟨urow_6, uisLoaded_7, uvariables_8, upile_9, uisBroken_10, ulots_11, ufarNow_12, utaughtWay_13, utaughtWorth_14⟩ := u
    have hp_5 : (utaughtWay_13, utaughtWorth_14) = wayTo cn lw t σ sx kq (cn 0 ^ (ranksTo sx (cn 2))) := hp_5
    have hW : zW D A s.heap H locs (wj [(mw Y ad_m (sA 67 (fun _ => utaughtWorth_14) (sA 66 (fun _ => utaughtWay_13) (sA 64 (fun _ => nI un) (sA 63 uisLoaded_7 (sA 62 ufarNow_12 (sA 61 (fun _ => ulots_11) (sA 60 urow_6 (sA 58 (fun _ => uisBroken_10) (sA 57 upile_9 (sA 56 uvariables_8 (sA 18 (fun _ => nI lv) g_m))))))))))) w_m)]) := hW.join
    refine lv_aload_n hx hb dX12_taught_17 rfl (lv_at hl 0 rfl) ?_
    refine va_get (v := .int utaughtWorth_14) (C := RX12) (T := TX12) (N := 75) (ci := 11) hx hb hts in_X12 hown hK.1 hW.1 0 rfl rfl 67 (by decide) (hts _ q1703) (fun _ h9 => h9) rfl dX12_taught_18 ?_
    refine z_ireti ((urow_6, uisLoaded_7, uvariables_8, upile_9, uisBroken_10, ulots_11, ufarNow_12, utaughtWay_13, utaughtWorth_14) : (Nat → Int32) × (Nat → Int32) × (Nat → Int32) × (Nat → Int32) × (Int32) × (Int32) × (Nat → Int32) × (Int32) × (Int32)) hx hb hr hlocks rfl hW rfl dX12_taught_21 ?_
    show utaughtWorth_14 = taughtO cn lw t σ sx kx
    unfold taughtO ways
    refine Eq.trans ?_ (Eq.symm (zi_t c_3 _ _))
    rw [ckq, ← hp_5]
  · have c_3 : ¬ (isSetP cn sx kx) := zb_eq hp_2 c_3
    refine lv_iconst (v := (-1)) hx hb dX12_taught_9 (by decide) ?_
    refine z_ireti ((g_m 60, g_m 63, g_m 56, g_m 57, g_m 58 0, g_m 61 0, g_m 62, g_m 66 0, g_m 67 0) : (Nat → Int32) × (Nat → Int32) × (Nat → Int32) × (Nat → Int32) × (Int32) × (Int32) × (Nat → Int32) × (Int32) × (Int32)) hx hb hr hlocks rfl hW rfl dX12_taught_10 ?_
    show (-1) = taughtO cn lw t σ sx kx
    unfold taughtO
    exact Eq.symm (zi_f (by assumption) _ _)
set_option maxHeartbeats 4000000 in
set_option maxRecDepth 100000 in
theorem m_X12_taughtAt (l : Launch) (D : va_G) (Y : Nat → ClassId) (ad_m : Nat → Nat) (g_m : Nat → Nat → Int32) (w_m : Nat → Nat → Int64) (lv : Nat) (cn : Nat → Nat) (t : tab) (lw : Nat → Option LAW) (σ : tab) (U : List tab) (un : Nat) (B_ : Int) (sx : Int32) (kx : Int32) (ix : Int32) (sz : Nat) (hlv : lv < 2) (hTW : TW cn t lw) (hTM : TM lv cn t lw g_m) (hKN : KN (cn 2) σ U (g_m 59) (g_m 65) un) (hF1 : ∀ h, h < cn 1 → σ 1 h = t 2 h) (hF2 : σ 18 0 = t 12 2) (hWF : WF cn B_ σ) (hB : B_ ≤ 5000000) : Met l yX12_taughtAt (ws_ yX12_taughtAt cX12_taughtAt 6 (some .int)) ({ frames := 7, cells := 0, slots := 0, locals := 167 }) (zPc D Y [.ref (ad_m 0), .int sx, .int kx, .int ix] sz (wj []) (wj [(mw Y ad_m (sA 64 (fun _ => nI un) (sA 18 (fun _ => nI lv) g_m)) w_m)])) (va_Qi (fun (r : Int32) (u : (Nat → Int32) × (Nat → Int32) × (Nat → Int32) × (Nat → Int32) × (Int32) × (Int32) × (Nat → Int32) × (Int32) × (Int32)) => r = taughtAtO cn lw t σ sx kx ix) (zB D (fun (u : (Nat → Int32) × (Nat → Int32) × (Nat → Int32) × (Nat → Int32) × (Int32) × (Int32) × (Nat → Int32) × (Int32) × (Int32)) => (wj [(mw Y ad_m (sA 67 (fun _ => u.2.2.2.2.2.2.2.2) (sA 66 (fun _ => u.2.2.2.2.2.2.2.1) (sA 64 (fun _ => nI un) (sA 63 u.2.1 (sA 62 u.2.2.2.2.2.2.1 (sA 61 (fun _ => u.2.2.2.2.2.1) (sA 60 u.1 (sA 58 (fun _ => u.2.2.2.2.1) (sA 57 u.2.2.2.1 (sA 56 u.2.2.1 (sA 18 (fun _ => nI lv) g_m))))))))))) w_m)])) (va_A (wj [(mw Y ad_m (sA 64 (fun _ => nI un) (sA 18 (fun _ => nI lv) g_m)) w_m)]) sz)) (va_A (wj [(mw Y ad_m (sA 64 (fun _ => nI un) (sA 18 (fun _ => nI lv) g_m)) w_m)]) sz)) 0 0 (va_A (wj [(mw Y ad_m (sA 64 (fun _ => nI un) (sA 18 (fun _ => nI lv) g_m)) w_m)]) sz) := by
  refine Met.ofW (cc := cX12_taughtAt) (maxL := 6) (ret := (some .int)) (by decide) rfl ?_
  intro p e s m args below meth c s₁ B hml hv
  obtain ⟨rfl, hsz, hW, hR, hK, hA⟩ := zEntry hv
  subst hsz
  have hx := B.exec
  have hb := B.bytes
  have hr := B.returns
  have hlocks := B.notSynchronized
  have hts : ∀ w ∈ lw_all, w.before _ s = true := fun w h => atoms_spec (ws := (ws_ yX12_taughtAt cX12_taughtAt 6 (some .int))) B.pre w (List.mem_cons_of_mem _ h)
  have hown : s.vm.findClass RX12 = some m.cls := findClass_of_methodNamed B.named
  generalize hAe : va_A (wj [(mw Y ad_m (sA 64 (fun _ => nI un) (sA 18 (fun _ => nI lv) g_m)) w_m)]) s.heap.size = A at hW hR hA ⊢
  have hl := lv_entry ([.ref (ad_m 0), .int sx, .int kx, .int ix]) (n := 6) (Nat.le_of_ble_eq_true rfl)
  rw [lg_entry_eq]
  generalize (lg_sl ([.ref (ad_m 0), .int sx, .int kx, .int ix]) ++ List.replicate (6 - (lg_sl ([.ref (ad_m 0), .int sx, .int kx, .int ix])).length) Slot.unset).toArray = ls at hl ⊢
  have hl : lv_has ls 6 [(0, .ref (ad_m 0)), (1, .int sx), (2, .int kx), (3, .int ix)] := hl
  have hk8 := hTW.n2
  have hk6 := hTW.n1
  have hk60 := hTW.n0
  have hk5 := hTW.n3
  refine lv_aload_n hx hb dX12_taughtAt_0 rfl (lv_at hl 0 rfl) ?_
  refine lv_iload_n hx hb dX12_taughtAt_1 rfl (lv_at hl 1 rfl) ?_
  refine lv_iload_n hx hb dX12_taughtAt_2 rfl (lv_at hl 2 rfl) ?_
  refine z_calli (wc := wj [(mw Y ad_m (sA 64 (fun _ => nI un) (sA 18 (fun _ => nI lv) g_m)) w_m)]) (wr := wj []) (va_runV (As := [.int sx, .int kx]) (rest := []) ⟨hx, hb, hml, hown, hts⟩ (m_X12_isSet l D Y ad_m (sA 64 (fun _ => nI un) (sA 18 (fun _ => nI lv) g_m)) w_m lv cn t lw sx kx s.heap.size (show lv < 2 from by exact hlv) (show TW cn t lw from by exact hTW) (show TM lv cn t lw (sA 64 (fun _ => nI un) (sA 18 (fun _ => nI lv) g_m)) from by exact hTM)) (cwV 2 hts (lw_V q2196 q2198 qs109 q133 q2199) rfl rfl rfl (by decide +kernel) ⟨Nat.le_of_ble_eq_true rfl, Nat.le_of_ble_eq_true rfl⟩) (zPreV hK hW hR (wj_split3 (B := [(mw Y ad_m (sA 64 (fun _ => nI un) (sA 18 (fun _ => nI lv) g_m)) w_m)]) (R := []) (C := [(mw Y ad_m (sA 64 (fun _ => nI un) (sA 18 (fun _ => nI lv) g_m)) w_m)]) (O := []) (X := []) (List.Perm.refl _)) (va_recv hK.1 hW.1 (ci := 11) (q0 := 0) rfl rfl)) rfl rfl hl.1 rfl (lv_room (Nat.le_of_ble_eq_true rfl)) dX12_taughtAt_3 ⟨Nat.le_refl _, Nat.le_refl _⟩) hW hA (wj_split (B := [(mw Y ad_m (sA 64 (fun _ => nI un) (sA 18 (fun _ => nI lv) g_m)) w_m)]) (C := [(mw Y ad_m (sA 64 (fun _ => nI un) (sA 18 (fun _ => nI lv) g_m)) w_m)]) (R := []) (List.Perm.refl _)) (fun r_1 u H locs hp_2 hW => ?_)
  have hp_2 : r_1 = zb (isSetP cn sx kx) := hp_2
  have hW : zW D A s.heap H locs (wj [(mw Y ad_m (sA 64 (fun _ => nI un) (sA 18 (fun _ => nI lv) g_m)) w_m)]) := hW.join
  refine lv_if_eq (tgt := 23) hx hb dX12_taughtAt_6 (by decide) (fun c_3 => ?_) (fun c_3 => ?_)
  · have c_3 : ¬ (isSetP cn sx kx) := zb_eq hp_2 c_3
    refine lv_iconst (v := (-1)) hx hb dX12_taughtAt_23 (by decide) ?_
    refine z_ireti ((g_m 60, g_m 63, g_m 56, g_m 57, g_m 58 0, g_m 61 0, g_m 62, g_m 66 0, g_m 67 0) : (Nat → Int32) × (Nat → Int32) × (Nat → Int32) × (Nat → Int32) × (Int32) × (Int32) × (Nat → Int32) × (Int32) × (Int32)) hx hb hr hlocks rfl hW rfl dX12_taughtAt_24 ?_
    show (-1) = taughtAtO cn lw t σ sx kx ix
    unfold taughtAtO
    exact Eq.symm (zi_f (by first | (intro hq; exact absurd hq.1 (by assumption)) | (rw [hL]; intro hq; exact absurd hq.2 (by assumption))) _ _)
  · have c_3 : isSetP cn sx kx := zb_ne hp_2 c_3
    obtain ⟨sq, kq, esq, hs1, hs2, ekq, hk1, hk3, hL, hL4, h0⟩ := setP_facts hTW c_3
    have ckq : kx.toNatClampNeg = kq := by rw [ekq]; exact nI_clamp (by omega)
    refine lv_iload_n hx hb dX12_taughtAt_9 rfl (lv_at hl 3 rfl) ?_
    refine lv_iconst (v := 0) hx hb dX12_taughtAt_10 (by decide) ?_
    refine lv_iload_n hx hb dX12_taughtAt_11 rfl (lv_at hl 1 rfl) ?_
    refine z_calli (wc := wj []) (wr := wj [(mw Y ad_m (sA 64 (fun _ => nI un) (sA 18 (fun _ => nI lv) g_m)) w_m)]) (va_runS (As := [.int sx]) (rest := [.int 0, .int ix]) ⟨hx, hb, hml, hown, hts⟩ (m_X12_bits l D Y sx H.size) (va_cwS 1 hts (lw_S q2185 q2186 q133 q2187) rfl rfl rfl (by decide +kernel) ⟨Nat.le_of_ble_eq_true rfl, Nat.le_of_ble_eq_true rfl⟩) (zPre hK hW hR (wj_split3 (B := [(mw Y ad_m (sA 64 (fun _ => nI un) (sA 18 (fun _ => nI lv) g_m)) w_m)]) (R := []) (C := []) (O := []) (X := [(mw Y ad_m (sA 64 (fun _ => nI un) (sA 18 (fun _ => nI lv) g_m)) w_m)]) (List.Perm.refl _))) rfl rfl hl.1 rfl (lv_room (Nat.le_of_ble_eq_true rfl)) dX12_taughtAt_12 ⟨Nat.le_refl _, Nat.le_refl _⟩) hW hA (wj_split (B := [(mw Y ad_m (sA 64 (fun _ => nI un) (sA 18 (fun _ => nI lv) g_m)) w_m)]) (C := []) (R := [(mw Y ad_m (sA 64 (fun _ => nI un) (sA 18 (fun _ => nI lv) g_m)) w_m)]) (List.Perm.refl _)) (fun r_4 u H locs hp_5 hW => ?_)
    have hp_5 : r_4 = bitsTo sx 8 := hp_5
    have hW : zW D A s.heap H locs (wj [(mw Y ad_m (sA 64 (fun _ => nI un) (sA 18 (fun _ => nI lv) g_m)) w_m)]) := hW.join
    have eL15 : r_4 = nI (ranksTo sx (cn 2)) := by rw [hp_5, hL]
    refine lv_topi (nm_r (e' := nI (ranksTo sx (cn 2))) eL15 ?_)
    refine lv_iconst (v := 1) hx hb dX12_taughtAt_15 (by decide) ?_
    refine lv_isub hx hb dX12_taughtAt_16 ?_
    refine z_calli (wc := wj []) (wr := wj [(mw Y ad_m (sA 64 (fun _ => nI un) (sA 18 (fun _ => nI lv) g_m)) w_m)]) (va_runS (As := [.int ix, .int 0, .int ((nI (ranksTo sx (cn 2))) - 1)]) (rest := []) ⟨hx, hb, hml, hown, hts⟩ (m_X12_in l D Y ix 0 ((nI (ranksTo sx (cn 2))) - 1) H.size) (va_cwS 3 hts (lw_S q1997 q1998 q133 q1999) rfl rfl rfl (by decide +kernel) ⟨Nat.le_of_ble_eq_true rfl, Nat.le_of_ble_eq_true rfl⟩) (zPre hK hW hR (wj_split3 (B := [(mw Y ad_m (sA 64 (fun _ => nI un) (sA 18 (fun _ => nI lv) g_m)) w_m)]) (R := []) (C := []) (O := []) (X := [(mw Y ad_m (sA 64 (fun _ => nI un) (sA 18 (fun _ => nI lv) g_m)) w_m)]) (List.Perm.refl _))) rfl rfl hl.1 rfl (lv_room (Nat.le_of_ble_eq_true rfl)) dX12_taughtAt_17 ⟨Nat.le_refl _, Nat.le_refl _⟩) hW hA (wj_split (B := [(mw Y ad_m (sA 64 (fun _ => nI un) (sA 18 (fun _ => nI lv) g_m)) w_m)]) (C := []) (R := [(mw Y ad_m (sA 64 (fun _ => nI un) (sA 18 (fun _ => nI lv) g_m)) w_m)]) (List.Perm.refl _)) (fun r_6 u H locs hp_7 hW => ?_)
    have hp_7 : r_6 = zb (¬ ix < 0 ∧ ¬ ((nI (ranksTo sx (cn 2))) - 1) < ix) := hp_7
    have hW : zW D A s.heap H locs (wj [(mw Y ad_m (sA 64 (fun _ => nI un) (sA 18 (fun _ => nI lv) g_m)) w_m)]) := hW.join
    refine lv_if_ne (tgt := 25) hx hb dX12_taughtAt_20 (by decide) (fun c_8 => ?_) (fun c_8 => ?_)
    · have c_8 : ¬ ix < 0 ∧ ¬ ((nI (ranksTo sx (cn 2))) - 1) < ix := zb_ne hp_7 c_8
      have hvi : vp_in ix (ranksTo sx (cn 2)) := (vp_iff (by omega)).mpr c_8
      obtain ⟨iq, hiq, eiq⟩ := vp_in_of hvi (by omega)
      have ciq : ix.toNatClampNeg = iq := by rw [eiq]; exact nI_clamp (by omega)
      refine lv_aload_n hx hb dX12_taughtAt_25 rfl (lv_at hl 0 rfl) ?_
      refine lv_iload_n hx hb dX12_taughtAt_26 rfl (lv_at hl 1 rfl) ?_
      refine lv_iload_n hx hb dX12_taughtAt_27 rfl (lv_at hl 2 rfl) ?_
      refine lv_topi (nm_r (e' := nI kq) ekq ?_)
      refine z_callv (wc := wj [(mw Y ad_m (sA 64 (fun _ => nI un) (sA 18 (fun _ => nI lv) g_m)) w_m)]) (wr := wj []) (va_runV (As := [.int sx, .int (nI kq)]) (rest := []) ⟨hx, hb, hml, hown, hts⟩ (m_X12_teaches l D Y ad_m (sA 64 (fun _ => nI un) (sA 18 (fun _ => nI lv) g_m)) w_m lv cn t lw σ U un B_ sx kq (ranksTo sx (cn 2)) H.size (show lv < 2 from by first | assumption | omega | grind) (show TW cn t lw from by first | assumption | omega | grind) (show TM lv cn t lw (sA 64 (fun _ => nI un) (sA 18 (fun _ => nI lv) g_m)) from by first | assumption | omega | grind) (show KN (cn 2) σ U (g_m 59) (g_m 65) un from by exact hKN) (show ∀ h, h < cn 1 → σ 1 h = t 2 h from by exact hF1) (show σ 18 0 = t 12 2 from by exact hF2) (show WF cn B_ σ from by exact hWF) (show B_ ≤ 5000000 from by exact hB) (show bitsTo sx 8 = nI (ranksTo sx (cn 2)) from by exact hL) (show (ranksTo sx (cn 2)) = ranksTo sx (cn 2) from by rfl) (show (ranksTo sx (cn 2)) ≤ 4 from by exact hL4) (show 0 < cn 0 from by exact h0) (show kq ≤ 300 from by exact hk3)) (cwV 2 hts (lw_V q2200 q2202 qs110 q133 q2203) rfl rfl rfl (by decide +kernel) ⟨Nat.le_of_ble_eq_true rfl, Nat.le_of_ble_eq_true rfl⟩) (zPreV hK hW hR (wj_split3 (B := [(mw Y ad_m (sA 64 (fun _ => nI un) (sA 18 (fun _ => nI lv) g_m)) w_m)]) (R := []) (C := [(mw Y ad_m (sA 64 (fun _ => nI un) (sA 18 (fun _ => nI lv) g_m)) w_m)]) (O := []) (X := []) (List.Perm.refl _)) (va_recv hK.1 hW.1 (ci := 11) (q0 := 0) rfl rfl)) rfl rfl hl.1 rfl (lv_room (Nat.le_of_ble_eq_true rfl)) dX12_taughtAt_28 ⟨Nat.le_refl _, Nat.le_refl _⟩) hW hA (wj_split (B := [(mw Y ad_m (sA 64 (fun _ => nI un) (sA 18 (fun _ => nI lv) g_m)) w_m)]) (C := [(mw Y ad_m (sA 64 (fun _ => nI un) (sA 18 (fun _ => nI lv) g_m)) w_m)]) (R := []) (List.Perm.refl _)) (fun  u H locs hp_10 hW => ?_)
      obtain ⟨urow_11, uisLoaded_12, uvariables_13, upile_14, uisBroken_15, ulots_16, ufarNow_17, utaughtWay_18, utaughtWorth_19⟩ := u
      have hp_10 : (utaughtWay_18, utaughtWorth_19) = wayTo cn lw t σ sx kq (cn 0 ^ (ranksTo sx (cn 2))) := hp_10
      have hW : zW D A s.heap H locs (wj [(mw Y ad_m (sA 67 (fun _ => utaughtWorth_19) (sA 66 (fun _ => utaughtWay_18) (sA 64 (fun _ => nI un) (sA 63 uisLoaded_12 (sA 62 ufarNow_17 (sA 61 (fun _ => ulots_16) (sA 60 urow_11 (sA 58 (fun _ => uisBroken_15) (sA 57 upile_14 (sA 56 uvariables_13 (sA 18 (fun _ => nI lv) g_m))))))))))) w_m)]) := hW.join
      obtain ⟨qw, hqw, eqw0, -⟩ := way_in hTW hWF hB h0 sx kq (cn 0 ^ ranksTo sx (cn 2) - 1)
      have hpp : 0 < cn 0 ^ ranksTo sx (cn 2) := Nat.pow_pos h0
      have hlim := pow_lim (G := cn 0) (L := ranksTo sx (cn 2)) hk60 hL4
      rw [show cn 0 ^ ranksTo sx (cn 2) - 1 + 1 = cn 0 ^ ranksTo sx (cn 2) by omega, ← hp_10] at eqw0
      have eqw : utaughtWay_18 = nI qw := eqw0
      refine lv_aload_n hx hb dX12_taughtAt_31 rfl (lv_at hl 0 rfl) ?_
      refine va_get (v := .int utaughtWay_18) (C := RX12) (T := TX12) (N := 75) (ci := 11) hx hb hts in_X12 hown hK.1 hW.1 0 rfl rfl 66 (by decide) (hts _ q1702) (fun _ h9 => h9) rfl dX12_taughtAt_32 ?_
      refine lv_topi (nm_r (e' := nI qw) eqw ?_)
      refine lv_istore (lv' := [(4, .int (nI qw)), (0, .ref (ad_m 0)), (1, .int sx), (2, .int kx), (3, .int ix)]) hx hb dX12_taughtAt_35 hl (by decide) rfl (fun ls hl => ?_)
      refine lv_iload_n hx hb dX12_taughtAt_37 rfl (lv_at hl 2 rfl) ?_
      refine z_calli (wc := wj []) (wr := wj [(mw Y ad_m (sA 67 (fun _ => utaughtWorth_19) (sA 66 (fun _ => utaughtWay_18) (sA 64 (fun _ => nI un) (sA 63 uisLoaded_12 (sA 62 ufarNow_17 (sA 61 (fun _ => ulots_16) (sA 60 urow_11 (sA 58 (fun _ => uisBroken_15) (sA 57 upile_14 (sA 56 uvariables_13 (sA 18 (fun _ => nI lv) g_m))))))))))) w_m)]) (va_runS (As := [.int sx]) (rest := []) ⟨hx, hb, hml, hown, hts⟩ (m_X12_bits l D Y sx H.size) (va_cwS 1 hts (lw_S q2185 q2186 q133 q2187) rfl rfl rfl (by decide +kernel) ⟨Nat.le_of_ble_eq_true rfl, Nat.le_of_ble_eq_true rfl⟩) (zPre hK hW hR (wj_split3 (B := [(mw Y ad_m (sA 67 (fun _ => utaughtWorth_19) (sA 66 (fun _ => utaughtWay_18) (sA 64 (fun _ => nI un) (sA 63 uisLoaded_12 (sA 62 ufarNow_17 (sA 61 (fun _ => ulots_16) (sA 60 urow_11 (sA 58 (fun _ => uisBroken_15) (sA 57 upile_14 (sA 56 uvariables_13 (sA 18 (fun _ => nI lv) g_m))))))))))) w_m)]) (R := []) (C := []) (O := []) (X := [(mw Y ad_m (sA 67 (fun _ => utaughtWorth_19) (sA 66 (fun _ => utaughtWay_18) (sA 64 (fun _ => nI un) (sA 63 uisLoaded_12 (sA 62 ufarNow_17 (sA 61 (fun _ => ulots_16) (sA 60 urow_11 (sA 58 (fun _ => uisBroken_15) (sA 57 upile_14 (sA 56 uvariables_13 (sA 18 (fun _ => nI lv) g_m))))))))))) w_m)]) (List.Perm.refl _))) rfl rfl hl.1 rfl (lv_room (Nat.le_of_ble_eq_true rfl)) dX12_taughtAt_38 ⟨Nat.le_refl _, Nat.le_refl _⟩) hW hA (wj_split (B := [(mw Y ad_m (sA 67 (fun _ => utaughtWorth_19) (sA 66 (fun _ => utaughtWay_18) (sA 64 (fun _ => nI un) (sA 63 uisLoaded_12 (sA 62 ufarNow_17 (sA 61 (fun _ => ulots_16) (sA 60 urow_11 (sA 58 (fun _ => uisBroken_15) (sA 57 upile_14 (sA 56 uvariables_13 (sA 18 (fun _ => nI lv) g_m))))))))))) w_m)]) (C := []) (R := [(mw Y ad_m (sA 67 (fun _ => utaughtWorth_19) (sA 66 (fun _ => utaughtWay_18) (sA 64 (fun _ => nI un) (sA 63 uisLoaded_12 (sA 62 ufarNow_17 (sA 61 (fun _ => ulots_16) (sA 60 urow_11 (sA 58 (fun _ => uisBroken_15) (sA 57 upile_14 (sA 56 uvariables_13 (sA 18 (fun _ => nI lv) g_m))))))))))) w_m)]) (List.Perm.refl _)) (fun r_20 u H locs hp_21 hW => ?_)
      have hp_21 : r_20 = bitsTo sx 8 := hp_21
      have hW : zW D A s.heap H locs (wj [(mw Y ad_m (sA 67 (fun _ => utaughtWorth_19) (sA 66 (fun _ => utaughtWay_18) (sA 64 (fun _ => nI un) (sA 63 uisLoaded_12 (sA 62 ufarNow_17 (sA 61 (fun _ => ulots_16) (sA 60 urow_11 (sA 58 (fun _ => uisBroken_15) (sA 57 upile_14 (sA 56 uvariables_13 (sA 18 (fun _ => nI lv) g_m))))))))))) w_m)]) := hW.join
      have eL41 : r_20 = nI (ranksTo sx (cn 2)) := by rw [hp_21, hL]
      refine lv_topi (nm_r (e' := nI (ranksTo sx (cn 2))) eL41 ?_)
      refine lv_iconst (v := 1) hx hb dX12_taughtAt_41 (by decide) ?_
      refine lv_isub hx hb dX12_taughtAt_42 ?_
      refine lv_topi (nm_r (e' := nI (ranksTo sx (cn 2) - 1)) (pk_sub (a := ranksTo sx (cn 2)) (b := 1) (by omega)) ?_)
      refine lv_istore (lv' := [(5, .int (nI (ranksTo sx (cn 2) - 1))), (4, .int (nI qw)), (0, .ref (ad_m 0)), (1, .int sx), (2, .int kx), (3, .int ix)]) hx hb dX12_taughtAt_43 hl (by decide) rfl (fun ls hl => ?_)
      have loop_45 : ∀ (n : Nat) (kk : Nat) (lf : Nat), kk < n → (iq ≤ kk ∧ kk ≤ ranksTo sx (cn 2) - 1) → (lf = qw / cn 0 ^ (ranksTo sx (cn 2) - 1 - kk)) → ∀ (H : Heap) (locs : List Loc), zW D A s.heap H locs (wj [(mw Y ad_m (sA 67 (fun _ => utaughtWorth_19) (sA 66 (fun _ => utaughtWay_18) (sA 64 (fun _ => nI un) (sA 63 uisLoaded_12 (sA 62 ufarNow_17 (sA 61 (fun _ => ulots_16) (sA 60 urow_11 (sA 58 (fun _ => uisBroken_15) (sA 57 upile_14 (sA 56 uvariables_13 (sA 18 (fun _ => nI lv) g_m))))))))))) w_m)]) → ∀ (ls : Array Slot), lv_has ls 6 [(5, .int (nI kk)), (4, .int (nI lf)), (0, .ref (ad_m 0)), (1, .int sx), (2, .int kx), (3, .int ix)] → W p l e (headSpec (ws_ yX12_taughtAt cX12_taughtAt 6 (some .int)) ({ frames := 7, cells := 0, slots := 0, locals := 167 })).room s m ([.ref (ad_m 0), .int sx, .int kx, .int ix] : List Value).toArray below meth c H locs 0 0 (MQ below (va_Qi (fun (r : Int32) (u : (Nat → Int32) × (Nat → Int32) × (Nat → Int32) × (Nat → Int32) × (Int32) × (Int32) × (Nat → Int32) × (Int32) × (Int32)) => r = taughtAtO cn lw t σ sx kx ix) (zB D (fun (u : (Nat → Int32) × (Nat → Int32) × (Nat → Int32) × (Nat → Int32) × (Int32) × (Int32) × (Nat → Int32) × (Int32) × (Int32)) => (wj [(mw Y ad_m (sA 67 (fun _ => u.2.2.2.2.2.2.2.2) (sA 66 (fun _ => u.2.2.2.2.2.2.2.1) (sA 64 (fun _ => nI un) (sA 63 u.2.1 (sA 62 u.2.2.2.2.2.2.1 (sA 61 (fun _ => u.2.2.2.2.2.1) (sA 60 u.1 (sA 58 (fun _ => u.2.2.2.2.1) (sA 57 u.2.2.2.1 (sA 56 u.2.2.1 (sA 18 (fun _ => nI lv) g_m))))))))))) w_m)])) A) A) ([.ref (ad_m 0), .int sx, .int kx, .int ix] : List Value).toArray s 0 0 A) (F0 m 45 ls []) := by
        intro n
        induction n with
        | zero =>
          intro kk lf hmz
          exact absurd hmz (Nat.not_lt_zero _)
        | succ n ih =>
          intro kk lf hm_45 hkk hlf H locs hW ls hl
          have ih_45 := ih
          clear ih
          refine lv_iload hx hb dX12_taughtAt_45 (lv_at hl 0 rfl) ?_
          refine lv_iload_n hx hb dX12_taughtAt_47 rfl (lv_at hl 5 rfl) ?_
          refine lv_topi (nm_r (e' := nI iq) eiq ?_)
          refine lv_icmp_le (tgt := 71) hx hb dX12_taughtAt_48 (by decide) (fun c_22 => ?_) (fun c_22 => ?_)
          · have c_22 : kk ≤ iq := (nI_leI (a := kk) (b := iq) (by omega) (by omega)).mp c_22
            have hlq : lf ≤ 1296 := by rw [hlf]; exact Nat.le_trans (Nat.div_le_self _ _) (by omega)
            refine lv_iload hx hb dX12_taughtAt_71 (lv_at hl 1 rfl) ?_
            refine lv_aload_n hx hb dX12_taughtAt_73 rfl (lv_at hl 2 rfl) ?_
            refine va_get (v := .ref (ad_m 24)) (C := RX12) (T := TX12) (N := 75) (ci := 11) hx hb hts in_X12 hown hK.1 hW.1 0 rfl rfl 24 (by decide) (hts _ q1660) (fun _ h9 => h9) rfl dX12_taughtAt_74 ?_
            refine lv_aload_n hx hb dX12_taughtAt_77 rfl (lv_at hl 2 rfl) ?_
            refine va_get (v := .int (nI lv)) (C := RX12) (T := TX12) (N := 75) (ci := 11) hx hb hts in_X12 hown hK.1 hW.1 0 rfl rfl 18 (by decide) (hts _ q1654) (fun _ h9 => h9) rfl dX12_taughtAt_78 ?_
            refine z_iald (v := nI (cn 0)) (f := g_m 24) (j := lv) hx hb hK.1 hW.1 11 0 rfl rfl (vp_in_nI (n := lv) (by omega) (by decide)) (nI_clamp (n := lv) (by omega)) (TM.c24 hTM) dX12_taughtAt_81 ?_
            refine lv_irem hx hb dX12_taughtAt_82 (nI_ne0 (by omega) (by omega)) ?_
            refine lv_topi (nm_r (e' := nI (lf % (cn 0))) (pk_rem (a := lf) (d := cn 0) (by omega) (by omega) (by omega)) ?_)
            refine z_ireti ((urow_11, uisLoaded_12, uvariables_13, upile_14, uisBroken_15, ulots_16, ufarNow_17, utaughtWay_18, utaughtWorth_19) : (Nat → Int32) × (Nat → Int32) × (Nat → Int32) × (Nat → Int32) × (Int32) × (Int32) × (Nat → Int32) × (Int32) × (Int32)) hx hb hr hlocks rfl hW rfl dX12_taughtAt_83 ?_
            show (nI (lf % (cn 0))) = taughtAtO cn lw t σ sx kx ix
            have ek : kk = iq := by omega
            unfold taughtAtO ways
            refine Eq.trans ?_ (Eq.symm (zi_t ⟨c_3, by rw [hL]; exact c_8⟩ _ _))
            rw [ckq, ciq, ← hp_10]
            unfold lessonP
            show _ = nI (_ / _ % _)
            rw [eqw, nI_clamp (show qw < 2 ^ 31 by omega), ← ek, hlf]
          · have c_22 : ¬ (kk ≤ iq) := fun hz_ => c_22 ((nI_leI (a := kk) (b := iq) (by omega) (by omega)).mpr hz_)
            have hlq : lf ≤ 1296 := by rw [hlf]; exact Nat.le_trans (Nat.div_le_self _ _) (by omega)
            refine lv_iload hx hb dX12_taughtAt_51 (lv_at hl 1 rfl) ?_
            refine lv_aload_n hx hb dX12_taughtAt_53 rfl (lv_at hl 2 rfl) ?_
            refine va_get (v := .ref (ad_m 24)) (C := RX12) (T := TX12) (N := 75) (ci := 11) hx hb hts in_X12 hown hK.1 hW.1 0 rfl rfl 24 (by decide) (hts _ q1660) (fun _ h9 => h9) rfl dX12_taughtAt_54 ?_
            refine lv_aload_n hx hb dX12_taughtAt_57 rfl (lv_at hl 2 rfl) ?_
            refine va_get (v := .int (nI lv)) (C := RX12) (T := TX12) (N := 75) (ci := 11) hx hb hts in_X12 hown hK.1 hW.1 0 rfl rfl 18 (by decide) (hts _ q1654) (fun _ h9 => h9) rfl dX12_taughtAt_58 ?_
            refine z_iald (v := nI (cn 0)) (f := g_m 24) (j := lv) hx hb hK.1 hW.1 11 0 rfl rfl (vp_in_nI (n := lv) (by omega) (by decide)) (nI_clamp (n := lv) (by omega)) (TM.c24 hTM) dX12_taughtAt_61 ?_
            refine lv_idiv hx hb dX12_taughtAt_62 (nI_ne0 (by omega) (by omega)) ?_
            refine lv_topi (nm_r (e' := nI (lf / (cn 0))) (pk_div (a := lf) (d := cn 0) (by omega) (by omega) (by omega)) ?_)
            refine lv_istore (lv' := [(4, .int (nI (lf / (cn 0)))), (5, .int (nI kk)), (0, .ref (ad_m 0)), (1, .int sx), (2, .int kx), (3, .int ix)]) hx hb dX12_taughtAt_63 hl (by decide) rfl (fun ls hl => ?_)
            refine lv_iinc (v := nI (kk - 1)) (lv' := [(5, .int (nI (kk - 1))), (4, .int (nI (lf / (cn 0)))), (0, .ref (ad_m 0)), (1, .int sx), (2, .int kx), (3, .int ix)]) hx hb dX12_taughtAt_65 hl (k := 1) rfl (z_dec kk 1 (by omega)) (by decide) rfl (fun ls hl => ?_)
            refine lv_goto (tgt := 45) hx hb dX12_taughtAt_68 (by decide) ?_
            exact ih_45 (kk - 1) (lf / (cn 0)) (by omega) (by omega) (by rw [hlf, Nat.div_div_eq_div_mul, ← Nat.pow_succ]; congr 2; omega) _ _ hW _ (lv_sub hl [0, 1, 2, 3, 4, 5] rfl)
      exact loop_45 _ (ranksTo sx (cn 2) - 1) qw (Nat.lt_succ_self _) (by omega) (by simp) _ _ hW _ (lv_sub hl [0, 1, 2, 3, 4, 5] rfl)
    · have c_8 : ¬ (¬ ix < 0 ∧ ¬ ((nI (ranksTo sx (cn 2))) - 1) < ix) := zb_eq hp_7 c_8
      refine lv_iconst (v := (-1)) hx hb dX12_taughtAt_23 (by decide) ?_
      refine z_ireti ((g_m 60, g_m 63, g_m 56, g_m 57, g_m 58 0, g_m 61 0, g_m 62, g_m 66 0, g_m 67 0) : (Nat → Int32) × (Nat → Int32) × (Nat → Int32) × (Nat → Int32) × (Int32) × (Int32) × (Nat → Int32) × (Int32) × (Int32)) hx hb hr hlocks rfl hW rfl dX12_taughtAt_24 ?_
      show (-1) = taughtAtO cn lw t σ sx kx ix
      unfold taughtAtO
      exact Eq.symm (zi_f (by first | (intro hq; exact absurd hq.1 (by assumption)) | (rw [hL]; intro hq; exact absurd hq.2 (by assumption))) _ _)
