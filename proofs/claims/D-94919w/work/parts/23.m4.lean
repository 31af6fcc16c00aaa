/-! the model: a minute -/
set_option maxRecDepth 100000
set_option maxHeartbeats 4000000 in
set_option maxRecDepth 100000 in
theorem m_X12_atHeap (l : Launch) (D : va_G) (Y : Nat → ClassId) (ad_m : Nat → Nat) (g_m : Nat → Nat → Int32) (w_m : Nat → Nat → Int64) (lv : Nat) (cn : Nat → Nat) (t : tab) (lw : Nat → Option LAW) (σ : tab) (rr : Nat) (sz : Nat) (hlv : lv < 2) (hTW : TW cn t lw) (hTM : TM lv cn t lw g_m) (hRS : RS cn σ (g_m 60) (g_m 62) (g_m 61 0)) (hrr : rr < cn 2) (hk10 : vp_in (σ 10 rr) (cn 0)) (hnn : ∀ g, g < 6 → 0 ≤ σ 0 g) (hLD : LD σ (g_m 63)) : Met l yX12_atHeap (ws_ yX12_atHeap cX12_atHeap 7 none) ({ frames := 3, cells := 0, slots := 0, locals := 71 }) (zPc D Y [.ref (ad_m 0), .int (nI rr)] sz (wj []) (wj [(mw Y ad_m (sA 18 (fun _ => nI lv) g_m) w_m)])) (va_Qv (fun (u : (Nat → Int32) × (Nat → Int32) × (Nat → Int32) × (Nat → Int32) × (Int32)) => (RS cn (atP cn lw t σ rr) u.1 (g_m 62) (g_m 61 0)) ∧ (LD (atP cn lw t σ rr) u.2.1)) (zB D (fun (u : (Nat → Int32) × (Nat → Int32) × (Nat → Int32) × (Nat → Int32) × (Int32)) => (wj [(mw Y ad_m (sA 63 u.2.1 (sA 60 u.1 (sA 58 (fun _ => u.2.2.2.2) (sA 57 u.2.2.2.1 (sA 56 u.2.2.1 (sA 18 (fun _ => nI lv) g_m)))))) w_m)])) (va_A (wj [(mw Y ad_m (sA 18 (fun _ => nI lv) g_m) w_m)]) sz)) (va_A (wj [(mw Y ad_m (sA 18 (fun _ => nI lv) g_m) w_m)]) sz)) 0 0 (va_A (wj [(mw Y ad_m (sA 18 (fun _ => nI lv) g_m) w_m)]) sz) := by
  refine Met.ofW (cc := cX12_atHeap) (maxL := 7) (ret := none) (by decide) rfl ?_
  intro p e s m args below meth c s₁ B hml hv
  obtain ⟨rfl, hsz, hW, hR, hK, hA⟩ := zEntry hv
  subst hsz
  have hx := B.exec
  have hb := B.bytes
  have hr := B.returns
  have hlocks := B.notSynchronized
  have hts : ∀ w ∈ lw_all, w.before _ s = true := fun w h => atoms_spec (ws := (ws_ yX12_atHeap cX12_atHeap 7 none)) B.pre w (List.mem_cons_of_mem _ h)
  have hown : s.vm.findClass RX12 = some m.cls := findClass_of_methodNamed B.named
  generalize hAe : va_A (wj [(mw Y ad_m (sA 18 (fun _ => nI lv) g_m) w_m)]) s.heap.size = A at hW hR hA ⊢
  have hl := lv_entry ([.ref (ad_m 0), .int (nI rr)]) (n := 7) (Nat.le_of_ble_eq_true rfl)
  rw [lg_entry_eq]
  generalize (lg_sl ([.ref (ad_m 0), .int (nI rr)]) ++ List.replicate (7 - (lg_sl ([.ref (ad_m 0), .int (nI rr)])).length) Slot.unset).toArray = ls at hl ⊢
  have hl : lv_has ls 7 [(0, .ref (ad_m 0)), (1, .int (nI rr))] := hl
  have hLT := hRS.2.2
  have hk8 := hTW.n2
  have hk6 := hTW.n1
  have hk60 := hTW.n0
  have hk5 := hTW.n3
  obtain ⟨kn, hkn, ekn⟩ := vp_in_of hk10 (by omega)
  have ckn := nI_clamp (show kn < 2 ^ 31 by omega)
  obtain ⟨ho, hho, eho⟩ := vp_in_of (hTW.h5 hrr) (by omega)
  have cho := nI_clamp (show ho < 2 ^ 31 by omega)
  refine lv_aload_n hx hb dX12_atHeap_0 rfl (lv_at hl 0 rfl) ?_
  refine va_get (v := .ref (ad_m 60)) (C := RX12) (T := TX12) (N := 75) (ci := 11) hx hb hts in_X12 hown hK.1 hW.1 0 rfl rfl 60 (by decide) (hts _ q1696) (fun _ h9 => h9) rfl dX12_atHeap_1 ?_
  refine lv_bipush (v := 90) hx hb dX12_atHeap_4 (by decide) ?_
  refine lv_iload_n hx hb dX12_atHeap_6 rfl (lv_at hl 1 rfl) ?_
  refine lv_iadd hx hb dX12_atHeap_7 ?_
  refine lv_topi (nm_r (e' := nI (90 + rr)) (nI_add 90 rr) ?_)
  refine z_iald (v := nI kn) (f := g_m 60) (j := 90 + rr) hx hb hK.1 hW.1 43 0 rfl rfl (vp_in_nI (n := 90 + rr) (by omega) (by decide)) (nI_clamp (n := 90 + rr) (by omega)) (Eq.trans (MR.r10 hRS.1 (r := rr) (by omega)) ekn) dX12_atHeap_8 ?_
  refine lv_istore_n (lv' := [(2, .int (nI kn)), (0, .ref (ad_m 0)), (1, .int (nI rr))]) hx hb dX12_atHeap_9 rfl hl (by decide) rfl (fun ls hl => ?_)
  refine lv_aload_n hx hb dX12_atHeap_10 rfl (lv_at hl 1 rfl) ?_
  refine va_get (v := .ref (ad_m 60)) (C := RX12) (T := TX12) (N := 75) (ci := 11) hx hb hts in_X12 hown hK.1 hW.1 0 rfl rfl 60 (by decide) (hts _ q1696) (fun _ h9 => h9) rfl dX12_atHeap_11 ?_
  refine lv_iload_n hx hb dX12_atHeap_14 rfl (lv_at hl 0 rfl) ?_
  refine z_iald (v := σ 0 kn) (f := g_m 60) (j := kn) hx hb hK.1 hW.1 43 0 rfl rfl (vp_in_nI (n := kn) (by omega) (by decide)) (nI_clamp (n := kn) (by omega)) (MR.heap hRS.1 (g := kn) (by omega)) dX12_atHeap_15 ?_
  refine lv_istore_n (lv' := [(3, .int (σ 0 kn)), (2, .int (nI kn)), (0, .ref (ad_m 0)), (1, .int (nI rr))]) hx hb dX12_atHeap_16 rfl hl (by decide) rfl (fun ls hl => ?_)
  refine lv_iload_n hx hb dX12_atHeap_17 rfl (lv_at hl 0 rfl) ?_
  have join_50 : (¬ (¬ isDarkP t σ ∧ 0 < σ 0 (σ 10 rr).toNatClampNeg)) → ∀ (H : Heap) (locs : List Loc), zW D A s.heap H locs (wj [(mw Y ad_m (sA 18 (fun _ => nI lv) g_m) w_m)]) → ∀ (ls : Array Slot), lv_has ls 7 [(0, .ref (ad_m 0)), (1, .int (nI rr))] → W p l e (headSpec (ws_ yX12_atHeap cX12_atHeap 7 none) ({ frames := 3, cells := 0, slots := 0, locals := 71 })).room s m ([.ref (ad_m 0), .int (nI rr)] : List Value).toArray below meth c H locs 0 0 (MQ below (va_Qv (fun (u : (Nat → Int32) × (Nat → Int32) × (Nat → Int32) × (Nat → Int32) × (Int32)) => (RS cn (atP cn lw t σ rr) u.1 (g_m 62) (g_m 61 0)) ∧ (LD (atP cn lw t σ rr) u.2.1)) (zB D (fun (u : (Nat → Int32) × (Nat → Int32) × (Nat → Int32) × (Nat → Int32) × (Int32)) => (wj [(mw Y ad_m (sA 63 u.2.1 (sA 60 u.1 (sA 58 (fun _ => u.2.2.2.2) (sA 57 u.2.2.2.1 (sA 56 u.2.2.1 (sA 18 (fun _ => nI lv) g_m)))))) w_m)])) A) A) ([.ref (ad_m 0), .int (nI rr)] : List Value).toArray s 0 0 A) (F0 m 50 ls []) := by
    intro  hj H locs hW ls hl
    refine lv_aload_n hx hb dX12_atHeap_50 rfl (lv_at hl 0 rfl) ?_
    refine va_get (v := .ref (ad_m 60)) (C := RX12) (T := TX12) (N := 75) (ci := 11) hx hb hts in_X12 hown hK.1 hW.1 0 rfl rfl 60 (by decide) (hts _ q1696) (fun _ h9 => h9) rfl dX12_atHeap_51 ?_
    refine lv_bipush (v := 74) hx hb dX12_atHeap_54 (by decide) ?_
    refine lv_iload_n hx hb dX12_atHeap_56 rfl (lv_at hl 1 rfl) ?_
    refine lv_iadd hx hb dX12_atHeap_57 ?_
    refine lv_topi (nm_r (e' := nI (74 + rr)) (nI_add 74 rr) ?_)
    refine z_iald (v := σ 8 rr) (f := g_m 60) (j := 74 + rr) hx hb hK.1 hW.1 43 0 rfl rfl (vp_in_nI (n := 74 + rr) (by omega) (by decide)) (nI_clamp (n := 74 + rr) (by omega)) (MR.r8 hRS.1 (r := rr) (by omega)) dX12_atHeap_58 ?_
    refine lv_aload_n hx hb dX12_atHeap_59 rfl (lv_at hl 0 rfl) ?_
    refine va_get (v := .ref (ad_m 41)) (C := RX12) (T := TX12) (N := 75) (ci := 11) hx hb hts in_X12 hown hK.1 hW.1 0 rfl rfl 41 (by decide) (hts _ q1677) (fun _ h9 => h9) rfl dX12_atHeap_60 ?_
    refine lv_aload_n hx hb dX12_atHeap_63 rfl (lv_at hl 0 rfl) ?_
    refine va_get (v := .int (nI lv)) (C := RX12) (T := TX12) (N := 75) (ci := 11) hx hb hts in_X12 hown hK.1 hW.1 0 rfl rfl 18 (by decide) (hts _ q1654) (fun _ h9 => h9) rfl dX12_atHeap_64 ?_
    refine z_iald (v := t 12 1) (f := g_m 41) (j := lv) hx hb hK.1 hW.1 28 0 rfl rfl (vp_in_nI (n := lv) (by omega) (by decide)) (nI_clamp (n := lv) (by omega)) (TM.c41 hTM) dX12_atHeap_67 ?_
    refine lv_icmp_lt (tgt := 76) hx hb dX12_atHeap_68 (by decide) (fun c_2 => ?_) (fun c_2 => ?_)
    · have hat : atP cn lw t σ rr = σ := by
        unfold atP; rw [if_neg hj, if_neg (Int32.not_le.mpr c_2)]
      refine z_vret ((g_m 60, g_m 63, g_m 56, g_m 57, g_m 58 0) : (Nat → Int32) × (Nat → Int32) × (Nat → Int32) × (Nat → Int32) × (Int32)) hx hb hr hlocks hW rfl dX12_atHeap_76 ?_
      show (RS cn (atP cn lw t σ rr) (g_m 60) (g_m 62) (g_m 61 0)) ∧ (LD (atP cn lw t σ rr) (g_m 63))
      have hfin : RS cn σ (g_m 60) (g_m 62) (g_m 61 0) := hRS
      have efin : atP cn lw t σ rr = σ := by
        exact hat
      refine ⟨?_, ?_⟩
      · rw [efin]; exact hfin
      · rw [hat]
        exact LD.of19 hLD (by first | rfl | rw [oddP_ne (by omega) (by omega) (by omega)])
    · have hat : atP cn lw t σ rr = oddP cn σ rr := by
        unfold atP; rw [if_neg hj, if_pos (Int32.not_lt.mp c_2)]
      refine lv_aload_n hx hb dX12_atHeap_71 rfl (lv_at hl 0 rfl) ?_
      refine lv_iload_n hx hb dX12_atHeap_72 rfl (lv_at hl 1 rfl) ?_
      refine z_callv (wc := wj [(mw Y ad_m (sA 18 (fun _ => nI lv) g_m) w_m)]) (wr := wj []) (va_runV (As := [.int (nI rr)]) (rest := []) ⟨hx, hb, hml, hown, hts⟩ (m_X12_nibbles l D Y ad_m (sA 18 (fun _ => nI lv) g_m) w_m lv cn t lw σ rr H.size (show lv < 2 from by exact hlv) (show TW cn t lw from by exact hTW) (show TM lv cn t lw (sA 18 (fun _ => nI lv) g_m) from by exact hTM) (show RS cn σ (g_m 60) (g_m 62) (g_m 61 0) from by exact hRS) (show rr < cn 2 from by first | assumption | omega | grind) (show 0 < cn 0 from by first | assumption | omega | grind) (show ∀ g, g < 6 → 0 ≤ σ 0 g from by first | assumption | omega | grind)) (cwV 1 hts (lw_V q2051 q2053 qs91 q133 q2054) rfl rfl rfl (by decide +kernel) ⟨Nat.le_of_ble_eq_true rfl, Nat.le_of_ble_eq_true rfl⟩) (zPreV hK hW hR (wj_split3 (B := [(mw Y ad_m (sA 18 (fun _ => nI lv) g_m) w_m)]) (R := []) (C := [(mw Y ad_m (sA 18 (fun _ => nI lv) g_m) w_m)]) (O := []) (X := []) (List.Perm.refl _)) (va_recv hK.1 hW.1 (ci := 11) (q0 := 0) rfl rfl)) rfl rfl hl.1 rfl (lv_room (Nat.le_of_ble_eq_true rfl)) dX12_atHeap_73 ⟨Nat.le_refl _, Nat.le_refl _⟩) hW hA (wj_split (B := [(mw Y ad_m (sA 18 (fun _ => nI lv) g_m) w_m)]) (C := [(mw Y ad_m (sA 18 (fun _ => nI lv) g_m) w_m)]) (R := []) (List.Perm.refl _)) (fun  u H locs hp_4 hW => ?_)
      obtain ⟨urow_5, rfl⟩ : ∃ z, z = u := ⟨_, rfl⟩
      have hp_4 : RS cn (oddP cn σ rr) urow_5 (g_m 62) (g_m 61 0) := hp_4
      have hW : zW D A s.heap H locs (wj [(mw Y ad_m (sA 60 urow_5 (sA 18 (fun _ => nI lv) g_m)) w_m)]) := hW.join
      refine z_vret ((urow_5, g_m 63, g_m 56, g_m 57, g_m 58 0) : (Nat → Int32) × (Nat → Int32) × (Nat → Int32) × (Nat → Int32) × (Int32)) hx hb hr hlocks hW rfl dX12_atHeap_76 ?_
      show (RS cn (atP cn lw t σ rr) urow_5 (g_m 62) (g_m 61 0)) ∧ (LD (atP cn lw t σ rr) (g_m 63))
      have hfin : RS cn (oddP cn σ rr) urow_5 (g_m 62) (g_m 61 0) := hp_4
      have efin : atP cn lw t σ rr = oddP cn σ rr := by
        exact hat
      refine ⟨?_, ?_⟩
      · rw [efin]; exact hfin
      · rw [hat]
        exact LD.of19 hLD (by first | rfl | rw [oddP_ne (by omega) (by omega) (by omega)])
  refine lv_if_eq (tgt := 50) hx hb dX12_atHeap_18 (by decide) (fun c_6 => ?_) (fun c_6 => ?_)
  · exact join_50  (by rw [ekn, ckn]; unfold isDarkP; grind) _ _ hW _ (lv_sub hl [2, 3] rfl)
  · refine lv_aload_n hx hb dX12_atHeap_21 rfl (lv_at hl 2 rfl) ?_
    refine va_get (v := .ref (ad_m 60)) (C := RX12) (T := TX12) (N := 75) (ci := 11) hx hb hts in_X12 hown hK.1 hW.1 0 rfl rfl 60 (by decide) (hts _ q1696) (fun _ h9 => h9) rfl dX12_atHeap_22 ?_
    refine lv_bipush (v := 114) hx hb dX12_atHeap_25 (by decide) ?_
    refine z_iald (v := σ 13 0) (f := g_m 60) (j := 114) hx hb hK.1 hW.1 43 0 rfl rfl (vp_in_nI (n := 114) (by omega) (by decide)) (by decide) (MR.s13 hRS.1) dX12_atHeap_27 ?_
    refine lv_aload_n hx hb dX12_atHeap_28 rfl (lv_at hl 2 rfl) ?_
    refine va_get (v := .ref (ad_m 40)) (C := RX12) (T := TX12) (N := 75) (ci := 11) hx hb hts in_X12 hown hK.1 hW.1 0 rfl rfl 40 (by decide) (hts _ q1676) (fun _ h9 => h9) rfl dX12_atHeap_29 ?_
    refine lv_aload_n hx hb dX12_atHeap_32 rfl (lv_at hl 2 rfl) ?_
    refine va_get (v := .int (nI lv)) (C := RX12) (T := TX12) (N := 75) (ci := 11) hx hb hts in_X12 hown hK.1 hW.1 0 rfl rfl 18 (by decide) (hts _ q1654) (fun _ h9 => h9) rfl dX12_atHeap_33 ?_
    refine z_iald (v := t 12 0) (f := g_m 40) (j := lv) hx hb hK.1 hW.1 27 0 rfl rfl (vp_in_nI (n := lv) (by omega) (by decide)) (nI_clamp (n := lv) (by omega)) (TM.c40 hTM) dX12_atHeap_36 ?_
    refine lv_icmp_ge (tgt := 50) hx hb dX12_atHeap_37 (by decide) (fun c_7 => ?_) (fun c_7 => ?_)
    · exact join_50  (by rw [ekn, ckn]; unfold isDarkP; grind) _ _ hW _ (lv_sub hl [2, 3] rfl)
    · refine lv_aload_n hx hb dX12_atHeap_40 rfl (lv_at hl 2 rfl) ?_
      refine va_get (v := .ref (ad_m 60)) (C := RX12) (T := TX12) (N := 75) (ci := 11) hx hb hts in_X12 hown hK.1 hW.1 0 rfl rfl 60 (by decide) (hts _ q1696) (fun _ h9 => h9) rfl dX12_atHeap_41 ?_
      refine lv_bipush (v := 118) hx hb dX12_atHeap_44 (by decide) ?_
      refine z_iald (v := σ 12 0) (f := g_m 60) (j := 118) hx hb hK.1 hW.1 43 0 rfl rfl (vp_in_nI (n := 118) (by omega) (by decide)) (by decide) (MR.s12 hRS.1) dX12_atHeap_46 ?_
      refine lv_if_le (tgt := 77) hx hb dX12_atHeap_47 (by decide) (fun c_8 => ?_) (fun c_8 => ?_)
      · have hyes : ¬ isDarkP t σ ∧ 0 < σ 0 (σ 10 rr).toNatClampNeg := by
          rw [ekn, ckn]; unfold isDarkP; have := hnn kn (by omega); grind
        refine lv_aload_n hx hb dX12_atHeap_77 rfl (lv_at hl 2 rfl) ?_
        refine va_get (v := .ref (ad_m 63)) (C := RX12) (T := TX12) (N := 75) (ci := 11) hx hb hts in_X12 hown hK.1 hW.1 0 rfl rfl 63 (by decide) (hts _ q1699) (fun _ h9 => h9) rfl dX12_atHeap_78 ?_
        refine lv_iload_n hx hb dX12_atHeap_81 rfl (lv_at hl 1 rfl) ?_
        refine z_zald (v := zb (hasLoadedP σ (nI kn))) (f := g_m 63) (j := kn) hx hb hK.1 hW.1 45 2 rfl rfl (vp_in_nI (n := kn) (by omega) (by decide)) (nI_clamp (n := kn) (by omega)) (hLD kn (by omega)) dX12_atHeap_82 ?_
        refine lv_if_eq (tgt := 98) hx hb dX12_atHeap_83 (by decide) (fun c_9 => ?_) (fun c_9 => ?_)
        · have c_9 : ¬ (hasLoadedP σ (nI kn)) := zb_eq rfl c_9
          have hat : atP cn lw t σ rr = loadP cn lw t σ rr := by
            unfold atP; rw [if_pos hyes, if_neg (by rw [ekn]; exact c_9)]
          have hRS0 : RS cn (sS 19 (σ 19 0 ||| ((1 : Int32) <<< (σ 10 rr &&& 31))) σ) (g_m 60) (g_m 62) (g_m 61 0) := RS.mk' hRS (MR.irr hRS.1 19 (by omega) _) rfl rfl
          refine lv_aload_n hx hb dX12_atHeap_98 rfl (lv_at hl 2 rfl) ?_
          refine va_get (v := .ref (ad_m 63)) (C := RX12) (T := TX12) (N := 75) (ci := 11) hx hb hts in_X12 hown hK.1 hW.1 0 rfl rfl 63 (by decide) (hts _ q1699) (fun _ h9 => h9) rfl dX12_atHeap_99 ?_
          refine lv_iload_n hx hb dX12_atHeap_102 rfl (lv_at hl 1 rfl) ?_
          refine lv_iconst (v := 1) hx hb dX12_atHeap_103 (by decide) ?_
          refine z_zast (x := 1) (f := g_m 63) (j := kn) (wn := (wj [(mw Y ad_m (sA 63 (upd (g_m 63) kn 1) (sA 18 (fun _ => nI lv) g_m)) w_m)])) hx hb hK.1 hW 45 2 rfl rfl (vp_in_nI (n := kn) (by omega) (by decide)) (nI_clamp (n := kn) (by omega)) rfl dX12_atHeap_104 rfl (fun H locs hW => ?_)
          refine lv_aload_n hx hb dX12_atHeap_105 rfl (lv_at hl 2 rfl) ?_
          refine lv_iconst (v := 0) hx hb dX12_atHeap_106 (by decide) ?_
          refine lv_iload_n hx hb dX12_atHeap_107 rfl (lv_at hl 3 rfl) ?_
          refine lv_iload_n hx hb dX12_atHeap_108 rfl (lv_at hl 0 rfl) ?_
          refine lv_iconst (v := 5) hx hb dX12_atHeap_109 (by decide) ?_
          refine lv_iconst (v := 1) hx hb dX12_atHeap_110 (by decide) ?_
          refine lv_bipush (v := 99) hx hb dX12_atHeap_111 (by decide) ?_
          refine z_calli (wc := wj [(mw Y ad_m (sA 63 (upd (g_m 63) kn 1) (sA 18 (fun _ => nI lv) g_m)) w_m)]) (wr := wj []) (va_runV (As := [.int 0, .int (nI rr), .int (σ 0 kn), .int 5, .int 1, .int 99]) (rest := []) ⟨hx, hb, hml, hown, hts⟩ (m_X12_tells l D Y ad_m (sA 63 (upd (g_m 63) kn 1) (sA 18 (fun _ => nI lv) g_m)) w_m lv cn t lw (sS 19 (σ 19 0 ||| ((1 : Int32) <<< (σ 10 rr &&& 31))) σ) 0 rr (σ 0 kn) 5 1 99 H.size (show lv < 2 from by exact hlv) (show TW cn t lw from by exact hTW) (show TM lv cn t lw (sA 63 (upd (g_m 63) kn 1) (sA 18 (fun _ => nI lv) g_m)) from by exact hTM) (show RS cn (sS 19 (σ 19 0 ||| ((1 : Int32) <<< (σ 10 rr &&& 31))) σ) (g_m 60) (g_m 62) (g_m 61 0) from by exact hRS0) (show 0 < 3 from by omega) (show rr < cn 2 from by first | assumption | omega | grind) (show f_held 5 1 99 = 5 from by decide)) (cwV 6 hts (lw_V q2055 q2057 qs92 q133 q2058) rfl rfl rfl (by decide +kernel) ⟨Nat.le_of_ble_eq_true rfl, Nat.le_of_ble_eq_true rfl⟩) (zPreV hK hW hR (wj_split3 (B := [(mw Y ad_m (sA 63 (upd (g_m 63) kn 1) (sA 18 (fun _ => nI lv) g_m)) w_m)]) (R := []) (C := [(mw Y ad_m (sA 63 (upd (g_m 63) kn 1) (sA 18 (fun _ => nI lv) g_m)) w_m)]) (O := []) (X := []) (List.Perm.refl _)) (va_recv hK.1 hW.1 (ci := 11) (q0 := 0) rfl rfl)) rfl rfl hl.1 rfl (lv_room (Nat.le_of_ble_eq_true rfl)) dX12_atHeap_113 ⟨Nat.le_refl _, Nat.le_refl _⟩) hW hA (wj_split (B := [(mw Y ad_m (sA 63 (upd (g_m 63) kn 1) (sA 18 (fun _ => nI lv) g_m)) w_m)]) (C := [(mw Y ad_m (sA 63 (upd (g_m 63) kn 1) (sA 18 (fun _ => nI lv) g_m)) w_m)]) (R := []) (List.Perm.refl _)) (fun r_10 u H locs hp_11 hW => ?_)
          obtain ⟨uvariables_12, upile_13, uisBroken_14⟩ := u
          have hp_11 : r_10 = f_held (asksP (lw 0) 5 (varsP t (sS 19 (σ 19 0 ||| ((1 : Int32) <<< (σ 10 rr &&& 31))) σ) rr (σ 0 kn))) 1 99 := hp_11
          have hW : zW D A s.heap H locs (wj [(mw Y ad_m (sA 63 (upd (g_m 63) kn 1) (sA 58 (fun _ => uisBroken_14) (sA 57 upile_13 (sA 56 uvariables_12 (sA 18 (fun _ => nI lv) g_m))))) w_m)]) := hW.join
          rw [show ∀ z m_, varsP t (sS 19 z σ) rr m_ = varsP t σ rr m_ from fun _ _ => rfl] at hp_11
          refine lv_istore (lv' := [(4, .int r_10), (3, .int (σ 0 kn)), (2, .int (nI kn)), (0, .ref (ad_m 0)), (1, .int (nI rr))]) hx hb dX12_atHeap_116 hl (by decide) rfl (fun ls hl => ?_)
          refine lv_iload hx hb dX12_atHeap_118 (lv_at hl 0 rfl) ?_
          refine lv_iload_n hx hb dX12_atHeap_120 rfl (lv_at hl 1 rfl) ?_
          have join_127 : ∀ (v4_127 : Int32), (v4_127 = loadN lw t σ rr) → ∀ (H : Heap) (locs : List Loc), zW D A s.heap H locs (wj [(mw Y ad_m (sA 63 (upd (g_m 63) kn 1) (sA 58 (fun _ => uisBroken_14) (sA 57 upile_13 (sA 56 uvariables_12 (sA 18 (fun _ => nI lv) g_m))))) w_m)]) → ∀ (ls : Array Slot), lv_has ls 7 [(4, .int v4_127), (3, .int (σ 0 kn)), (2, .int (nI kn)), (0, .ref (ad_m 0)), (1, .int (nI rr))] → W p l e (headSpec (ws_ yX12_atHeap cX12_atHeap 7 none) ({ frames := 3, cells := 0, slots := 0, locals := 71 })).room s m ([.ref (ad_m 0), .int (nI rr)] : List Value).toArray below meth c H locs 0 0 (MQ below (va_Qv (fun (u : (Nat → Int32) × (Nat → Int32) × (Nat → Int32) × (Nat → Int32) × (Int32)) => (RS cn (atP cn lw t σ rr) u.1 (g_m 62) (g_m 61 0)) ∧ (LD (atP cn lw t σ rr) u.2.1)) (zB D (fun (u : (Nat → Int32) × (Nat → Int32) × (Nat → Int32) × (Nat → Int32) × (Int32)) => (wj [(mw Y ad_m (sA 63 u.2.1 (sA 60 u.1 (sA 58 (fun _ => u.2.2.2.2) (sA 57 u.2.2.2.1 (sA 56 u.2.2.1 (sA 18 (fun _ => nI lv) g_m)))))) w_m)])) A) A) ([.ref (ad_m 0), .int (nI rr)] : List Value).toArray s 0 0 A) (F0 m 127 ls []) := by
            intro v4_127 hv4 H locs hW ls hl
            subst hv4
            refine lv_aload_n hx hb dX12_atHeap_127 rfl (lv_at hl 3 rfl) ?_
            refine va_get (v := .ref (ad_m 60)) (C := RX12) (T := TX12) (N := 75) (ci := 11) hx hb hts in_X12 hown hK.1 hW.1 0 rfl rfl 60 (by decide) (hts _ q1696) (fun _ h9 => h9) rfl dX12_atHeap_128 ?_
            refine lv_iload_n hx hb dX12_atHeap_131 rfl (lv_at hl 2 rfl) ?_
            refine lv_dup2_11 hx hb dX12_atHeap_132 rfl rfl ?_
            refine z_iald (v := (sS 19 (σ 19 0 ||| ((1 : Int32) <<< (σ 10 rr &&& 31))) σ) 0 kn) (f := g_m 60) (j := kn) hx hb hK.1 hW.1 43 0 rfl rfl (vp_in_nI (n := kn) (by omega) (by decide)) (nI_clamp (n := kn) (by omega)) (MR.heap hRS0.1 (g := kn) (by omega)) dX12_atHeap_133 ?_
            refine lv_iload hx hb dX12_atHeap_134 (lv_at hl 0 rfl) ?_
            refine lv_isub hx hb dX12_atHeap_136 ?_
            refine z_iast (x := ((sS 19 (σ 19 0 ||| ((1 : Int32) <<< (σ 10 rr &&& 31))) σ) 0 kn) - (loadN lw t σ rr)) (f := g_m 60) (j := kn) (wn := (wj [(mw Y ad_m (sA 63 (upd (g_m 63) kn 1) (sA 60 (upd (g_m 60) kn (((sS 19 (σ 19 0 ||| ((1 : Int32) <<< (σ 10 rr &&& 31))) σ) 0 kn) - (loadN lw t σ rr))) (sA 58 (fun _ => uisBroken_14) (sA 57 upile_13 (sA 56 uvariables_12 (sA 18 (fun _ => nI lv) g_m)))))) w_m)])) hx hb hK.1 hW 43 0 rfl rfl (vp_in_nI (n := kn) (by omega) (by decide)) (nI_clamp (n := kn) (by omega)) dX12_atHeap_137 rfl (fun H locs hW => ?_)
            have hRS1 : RS cn (load1 lw t σ rr) (upd (g_m 60) kn (((sS 19 (σ 19 0 ||| ((1 : Int32) <<< (σ 10 rr &&& 31))) σ) 0 kn) - (loadN lw t σ rr))) (g_m 62) (g_m 61 0) := by
              have e_16 : load1 lw t σ rr = sU 0 kn (((sS 19 (σ 19 0 ||| ((1 : Int32) <<< (σ 10 rr &&& 31))) σ) 0 kn) - (loadN lw t σ rr)) (sS 19 (σ 19 0 ||| ((1 : Int32) <<< (σ 10 rr &&& 31))) σ) := by
                simp [load1, load2, eatsP, ekn, ckn, sU, sS, sA_ne, sA_eq, sA_sA, sA_comm, *]
                try (funext k_; simp only [sA_if]; grind)
              rw [e_16]; exact (RS.mk' hRS0 (MR.uheap hk8 hRS0.1 (g := kn) (by omega) (((sS 19 (σ 19 0 ||| ((1 : Int32) <<< (σ 10 rr &&& 31))) σ) 0 kn) - (loadN lw t σ rr))) (by rw [sU_ne (by omega)]) (by rw [sU_ne (by omega)]))
            refine lv_aload_n hx hb dX12_atHeap_138 rfl (lv_at hl 3 rfl) ?_
            refine lv_iconst (v := 1) hx hb dX12_atHeap_139 (by decide) ?_
            refine lv_iload_n hx hb dX12_atHeap_140 rfl (lv_at hl 4 rfl) ?_
            refine lv_iload hx hb dX12_atHeap_141 (lv_at hl 0 rfl) ?_
            refine lv_iconst (v := 0) hx hb dX12_atHeap_143 (by decide) ?_
            refine lv_iconst (v := 0) hx hb dX12_atHeap_144 (by decide) ?_
            refine lv_bipush (v := 99) hx hb dX12_atHeap_145 (by decide) ?_
            refine z_calli (wc := wj [(mw Y ad_m (sA 63 (upd (g_m 63) kn 1) (sA 60 (upd (g_m 60) kn (((sS 19 (σ 19 0 ||| ((1 : Int32) <<< (σ 10 rr &&& 31))) σ) 0 kn) - (loadN lw t σ rr))) (sA 58 (fun _ => uisBroken_14) (sA 57 upile_13 (sA 56 uvariables_12 (sA 18 (fun _ => nI lv) g_m)))))) w_m)]) (wr := wj []) (va_runV (As := [.int 1, .int (nI rr), .int (loadN lw t σ rr), .int 0, .int 0, .int 99]) (rest := []) ⟨hx, hb, hml, hown, hts⟩ (m_X12_tells l D Y ad_m (sA 63 (upd (g_m 63) kn 1) (sA 60 (upd (g_m 60) kn (((sS 19 (σ 19 0 ||| ((1 : Int32) <<< (σ 10 rr &&& 31))) σ) 0 kn) - (loadN lw t σ rr))) (sA 58 (fun _ => uisBroken_14) (sA 57 upile_13 (sA 56 uvariables_12 (sA 18 (fun _ => nI lv) g_m)))))) w_m lv cn t lw (load1 lw t σ rr) 1 rr (loadN lw t σ rr) 0 0 99 H.size (show lv < 2 from by exact hlv) (show TW cn t lw from by exact hTW) (show TM lv cn t lw (sA 63 (upd (g_m 63) kn 1) (sA 60 (upd (g_m 60) kn (((sS 19 (σ 19 0 ||| ((1 : Int32) <<< (σ 10 rr &&& 31))) σ) 0 kn) - (loadN lw t σ rr))) (sA 58 (fun _ => uisBroken_14) (sA 57 upile_13 (sA 56 uvariables_12 (sA 18 (fun _ => nI lv) g_m)))))) from by exact hTM) (show RS cn (load1 lw t σ rr) (upd (g_m 60) kn (((sS 19 (σ 19 0 ||| ((1 : Int32) <<< (σ 10 rr &&& 31))) σ) 0 kn) - (loadN lw t σ rr))) (g_m 62) (g_m 61 0) from by exact hRS1) (show 1 < 3 from by omega) (show rr < cn 2 from by first | assumption | omega | grind) (show f_held 0 0 99 = 0 from by decide)) (cwV 6 hts (lw_V q2055 q2057 qs92 q133 q2058) rfl rfl rfl (by decide +kernel) ⟨Nat.le_of_ble_eq_true rfl, Nat.le_of_ble_eq_true rfl⟩) (zPreV hK hW hR (wj_split3 (B := [(mw Y ad_m (sA 63 (upd (g_m 63) kn 1) (sA 60 (upd (g_m 60) kn (((sS 19 (σ 19 0 ||| ((1 : Int32) <<< (σ 10 rr &&& 31))) σ) 0 kn) - (loadN lw t σ rr))) (sA 58 (fun _ => uisBroken_14) (sA 57 upile_13 (sA 56 uvariables_12 (sA 18 (fun _ => nI lv) g_m)))))) w_m)]) (R := []) (C := [(mw Y ad_m (sA 63 (upd (g_m 63) kn 1) (sA 60 (upd (g_m 60) kn (((sS 19 (σ 19 0 ||| ((1 : Int32) <<< (σ 10 rr &&& 31))) σ) 0 kn) - (loadN lw t σ rr))) (sA 58 (fun _ => uisBroken_14) (sA 57 upile_13 (sA 56 uvariables_12 (sA 18 (fun _ => nI lv) g_m)))))) w_m)]) (O := []) (X := []) (List.Perm.refl _)) (va_recv hK.1 hW.1 (ci := 11) (q0 := 0) rfl rfl)) rfl rfl hl.1 rfl (lv_room (Nat.le_of_ble_eq_true rfl)) dX12_atHeap_147 ⟨Nat.le_refl _, Nat.le_refl _⟩) hW hA (wj_split (B := [(mw Y ad_m (sA 63 (upd (g_m 63) kn 1) (sA 60 (upd (g_m 60) kn (((sS 19 (σ 19 0 ||| ((1 : Int32) <<< (σ 10 rr &&& 31))) σ) 0 kn) - (loadN lw t σ rr))) (sA 58 (fun _ => uisBroken_14) (sA 57 upile_13 (sA 56 uvariables_12 (sA 18 (fun _ => nI lv) g_m)))))) w_m)]) (C := [(mw Y ad_m (sA 63 (upd (g_m 63) kn 1) (sA 60 (upd (g_m 60) kn (((sS 19 (σ 19 0 ||| ((1 : Int32) <<< (σ 10 rr &&& 31))) σ) 0 kn) - (loadN lw t σ rr))) (sA 58 (fun _ => uisBroken_14) (sA 57 upile_13 (sA 56 uvariables_12 (sA 18 (fun _ => nI lv) g_m)))))) w_m)]) (R := []) (List.Perm.refl _)) (fun r_17 u H locs hp_18 hW => ?_)
            obtain ⟨uvariables_19, upile_20, uisBroken_21⟩ := u
            have hp_18 : r_17 = f_held (asksP (lw 1) 0 (varsP t (load1 lw t σ rr) rr (loadN lw t σ rr))) 0 99 := hp_18
            have hW : zW D A s.heap H locs (wj [(mw Y ad_m (sA 63 (upd (g_m 63) kn 1) (sA 60 (upd (g_m 60) kn (((sS 19 (σ 19 0 ||| ((1 : Int32) <<< (σ 10 rr &&& 31))) σ) 0 kn) - (loadN lw t σ rr))) (sA 58 (fun _ => uisBroken_21) (sA 57 upile_20 (sA 56 uvariables_19 (sA 18 (fun _ => nI lv) g_m)))))) w_m)]) := hW.join
            refine lv_istore (lv' := [(5, .int r_17), (4, .int (loadN lw t σ rr)), (3, .int (σ 0 kn)), (2, .int (nI kn)), (0, .ref (ad_m 0)), (1, .int (nI rr))]) hx hb dX12_atHeap_150 hl (by decide) rfl (fun ls hl => ?_)
            refine lv_iload hx hb dX12_atHeap_152 (lv_at hl 0 rfl) ?_
            refine lv_iload hx hb dX12_atHeap_154 (lv_at hl 1 rfl) ?_
            have join_163 : ∀ (v5_163 : Int32), (v5_163 = loadF lw t σ rr) → ∀ (H : Heap) (locs : List Loc), zW D A s.heap H locs (wj [(mw Y ad_m (sA 63 (upd (g_m 63) kn 1) (sA 60 (upd (g_m 60) kn (((sS 19 (σ 19 0 ||| ((1 : Int32) <<< (σ 10 rr &&& 31))) σ) 0 kn) - (loadN lw t σ rr))) (sA 58 (fun _ => uisBroken_21) (sA 57 upile_20 (sA 56 uvariables_19 (sA 18 (fun _ => nI lv) g_m)))))) w_m)]) → ∀ (ls : Array Slot), lv_has ls 7 [(5, .int v5_163), (4, .int (loadN lw t σ rr)), (3, .int (σ 0 kn)), (2, .int (nI kn)), (0, .ref (ad_m 0)), (1, .int (nI rr))] → W p l e (headSpec (ws_ yX12_atHeap cX12_atHeap 7 none) ({ frames := 3, cells := 0, slots := 0, locals := 71 })).room s m ([.ref (ad_m 0), .int (nI rr)] : List Value).toArray below meth c H locs 0 0 (MQ below (va_Qv (fun (u : (Nat → Int32) × (Nat → Int32) × (Nat → Int32) × (Nat → Int32) × (Int32)) => (RS cn (atP cn lw t σ rr) u.1 (g_m 62) (g_m 61 0)) ∧ (LD (atP cn lw t σ rr) u.2.1)) (zB D (fun (u : (Nat → Int32) × (Nat → Int32) × (Nat → Int32) × (Nat → Int32) × (Int32)) => (wj [(mw Y ad_m (sA 63 u.2.1 (sA 60 u.1 (sA 58 (fun _ => u.2.2.2.2) (sA 57 u.2.2.2.1 (sA 56 u.2.2.1 (sA 18 (fun _ => nI lv) g_m)))))) w_m)])) A) A) ([.ref (ad_m 0), .int (nI rr)] : List Value).toArray s 0 0 A) (F0 m 163 ls []) := by
              intro v5_163 hv5 H locs hW ls hl
              subst hv5
              refine lv_iload hx hb dX12_atHeap_163 (lv_at hl 0 rfl) ?_
              have join_190 : ∀ (x_row_190 : Nat → Int32), (RS cn (load2 lw t σ rr) x_row_190 (g_m 62) (g_m 61 0)) → ∀ (H : Heap) (locs : List Loc), zW D A s.heap H locs (wj [(mw Y ad_m (sA 63 (upd (g_m 63) kn 1) (sA 60 x_row_190 (sA 58 (fun _ => uisBroken_21) (sA 57 upile_20 (sA 56 uvariables_19 (sA 18 (fun _ => nI lv) g_m)))))) w_m)]) → ∀ (ls : Array Slot), lv_has ls 7 [(5, .int (loadF lw t σ rr)), (4, .int (loadN lw t σ rr)), (3, .int (σ 0 kn)), (2, .int (nI kn)), (0, .ref (ad_m 0)), (1, .int (nI rr))] → W p l e (headSpec (ws_ yX12_atHeap cX12_atHeap 7 none) ({ frames := 3, cells := 0, slots := 0, locals := 71 })).room s m ([.ref (ad_m 0), .int (nI rr)] : List Value).toArray below meth c H locs 0 0 (MQ below (va_Qv (fun (u : (Nat → Int32) × (Nat → Int32) × (Nat → Int32) × (Nat → Int32) × (Int32)) => (RS cn (atP cn lw t σ rr) u.1 (g_m 62) (g_m 61 0)) ∧ (LD (atP cn lw t σ rr) u.2.1)) (zB D (fun (u : (Nat → Int32) × (Nat → Int32) × (Nat → Int32) × (Nat → Int32) × (Int32)) => (wj [(mw Y ad_m (sA 63 u.2.1 (sA 60 u.1 (sA 58 (fun _ => u.2.2.2.2) (sA 57 u.2.2.2.1 (sA 56 u.2.2.1 (sA 18 (fun _ => nI lv) g_m)))))) w_m)])) A) A) ([.ref (ad_m 0), .int (nI rr)] : List Value).toArray s 0 0 A) (F0 m 190 ls []) := by
                intro x_row_190 hRS2 H locs hW ls hl
                refine lv_aload_n hx hb dX12_atHeap_190 rfl (lv_at hl 4 rfl) ?_
                refine va_get (v := .ref (ad_m 60)) (C := RX12) (T := TX12) (N := 75) (ci := 11) hx hb hts in_X12 hown hK.1 hW.1 0 rfl rfl 60 (by decide) (hts _ q1696) (fun _ h9 => h9) rfl dX12_atHeap_191 ?_
                refine lv_bipush (v := 58) hx hb dX12_atHeap_194 (by decide) ?_
                refine lv_iload_n hx hb dX12_atHeap_196 rfl (lv_at hl 5 rfl) ?_
                refine lv_iadd hx hb dX12_atHeap_197 ?_
                refine lv_topi (nm_r (e' := nI (58 + rr)) (nI_add 58 rr) ?_)
                refine lv_iload hx hb dX12_atHeap_198 (lv_at hl 1 rfl) ?_
                refine lv_iload hx hb dX12_atHeap_200 (lv_at hl 0 rfl) ?_
                refine lv_isub hx hb dX12_atHeap_202 ?_
                refine z_iast (x := (loadN lw t σ rr) - (loadF lw t σ rr)) (f := x_row_190) (j := 58 + rr) (wn := (wj [(mw Y ad_m (sA 63 (upd (g_m 63) kn 1) (sA 60 (upd x_row_190 (58 + rr) ((loadN lw t σ rr) - (loadF lw t σ rr))) (sA 58 (fun _ => uisBroken_21) (sA 57 upile_20 (sA 56 uvariables_19 (sA 18 (fun _ => nI lv) g_m)))))) w_m)])) hx hb hK.1 hW 43 0 rfl rfl (vp_in_nI (n := 58 + rr) (by omega) (by decide)) (nI_clamp (n := 58 + rr) (by omega)) dX12_atHeap_203 rfl (fun H locs hW => ?_)
                refine lv_aload_n hx hb dX12_atHeap_204 rfl (lv_at hl 4 rfl) ?_
                refine va_get (v := .ref (ad_m 60)) (C := RX12) (T := TX12) (N := 75) (ci := 11) hx hb hts in_X12 hown hK.1 hW.1 0 rfl rfl 60 (by decide) (hts _ q1696) (fun _ h9 => h9) rfl dX12_atHeap_205 ?_
                refine lv_bipush (v := 66) hx hb dX12_atHeap_208 (by decide) ?_
                refine lv_iload_n hx hb dX12_atHeap_210 rfl (lv_at hl 5 rfl) ?_
                refine lv_iadd hx hb dX12_atHeap_211 ?_
                refine lv_topi (nm_r (e' := nI (66 + rr)) (nI_add 66 rr) ?_)
                refine lv_iload hx hb dX12_atHeap_212 (lv_at hl 1 rfl) ?_
                refine lv_iload hx hb dX12_atHeap_214 (lv_at hl 0 rfl) ?_
                have join_225 : ∀ (st0_225 : Int32), (st0_225 = if loadN lw t σ rr - loadF lw t σ rr = 0 then -2 else σ 10 rr) → ∀ (H : Heap) (locs : List Loc), zW D A s.heap H locs (wj [(mw Y ad_m (sA 63 (upd (g_m 63) kn 1) (sA 60 (upd x_row_190 (58 + rr) ((loadN lw t σ rr) - (loadF lw t σ rr))) (sA 58 (fun _ => uisBroken_21) (sA 57 upile_20 (sA 56 uvariables_19 (sA 18 (fun _ => nI lv) g_m)))))) w_m)]) → ∀ (ls : Array Slot), lv_has ls 7 [(5, .int (loadF lw t σ rr)), (4, .int (loadN lw t σ rr)), (3, .int (σ 0 kn)), (2, .int (nI kn)), (0, .ref (ad_m 0)), (1, .int (nI rr))] → W p l e (headSpec (ws_ yX12_atHeap cX12_atHeap 7 none) ({ frames := 3, cells := 0, slots := 0, locals := 71 })).room s m ([.ref (ad_m 0), .int (nI rr)] : List Value).toArray below meth c H locs 0 0 (MQ below (va_Qv (fun (u : (Nat → Int32) × (Nat → Int32) × (Nat → Int32) × (Nat → Int32) × (Int32)) => (RS cn (atP cn lw t σ rr) u.1 (g_m 62) (g_m 61 0)) ∧ (LD (atP cn lw t σ rr) u.2.1)) (zB D (fun (u : (Nat → Int32) × (Nat → Int32) × (Nat → Int32) × (Nat → Int32) × (Int32)) => (wj [(mw Y ad_m (sA 63 u.2.1 (sA 60 u.1 (sA 58 (fun _ => u.2.2.2.2) (sA 57 u.2.2.2.1 (sA 56 u.2.2.1 (sA 18 (fun _ => nI lv) g_m)))))) w_m)])) A) A) ([.ref (ad_m 0), .int (nI rr)] : List Value).toArray s 0 0 A) (F0 m 225 ls [.int st0_225, .int (nI (66 + rr)), .ref (ad_m 60)]) := by
                  intro st0_225 hst H locs hW ls hl
                  subst hst
                  refine z_iast (x := (if loadN lw t σ rr - loadF lw t σ rr = 0 then -2 else σ 10 rr)) (f := upd x_row_190 (58 + rr) ((loadN lw t σ rr) - (loadF lw t σ rr))) (j := 66 + rr) (wn := (wj [(mw Y ad_m (sA 63 (upd (g_m 63) kn 1) (sA 60 (upd (upd x_row_190 (58 + rr) ((loadN lw t σ rr) - (loadF lw t σ rr))) (66 + rr) (if loadN lw t σ rr - loadF lw t σ rr = 0 then -2 else σ 10 rr)) (sA 58 (fun _ => uisBroken_21) (sA 57 upile_20 (sA 56 uvariables_19 (sA 18 (fun _ => nI lv) g_m)))))) w_m)])) hx hb hK.1 hW 43 0 rfl rfl (vp_in_nI (n := 66 + rr) (by omega) (by decide)) (nI_clamp (n := 66 + rr) (by omega)) dX12_atHeap_225 rfl (fun H locs hW => ?_)
                  refine lv_aload_n hx hb dX12_atHeap_226 rfl (lv_at hl 4 rfl) ?_
                  refine va_get (v := .ref (ad_m 32)) (C := RX12) (T := TX12) (N := 75) (ci := 11) hx hb hts in_X12 hown hK.1 hW.1 0 rfl rfl 32 (by decide) (hts _ q1668) (fun _ h9 => h9) rfl dX12_atHeap_227 ?_
                  refine lv_bipush (v := 8) hx hb dX12_atHeap_230 (by decide) ?_
                  refine lv_aload_n hx hb dX12_atHeap_232 rfl (lv_at hl 4 rfl) ?_
                  refine va_get (v := .int (nI lv)) (C := RX12) (T := TX12) (N := 75) (ci := 11) hx hb hts in_X12 hown hK.1 hW.1 0 rfl rfl 18 (by decide) (hts _ q1654) (fun _ h9 => h9) rfl dX12_atHeap_233 ?_
                  refine lv_imul hx hb dX12_atHeap_236 ?_
                  refine lv_topi (nm_r (e' := nI (8 * lv)) (pk_mul 8 lv) ?_)
                  refine lv_iload_n hx hb dX12_atHeap_237 rfl (lv_at hl 5 rfl) ?_
                  refine lv_iadd hx hb dX12_atHeap_238 ?_
                  refine lv_topi (nm_r (e' := nI (8 * lv + rr)) (nI_add (8 * lv) rr) ?_)
                  refine z_iald (v := nI ho) (f := g_m 32) (j := 8 * lv + rr) hx hb hK.1 hW.1 19 0 rfl rfl (vp_in_nI (n := 8 * lv + rr) (by omega) (by decide)) (nI_clamp (n := 8 * lv + rr) (by omega)) (Eq.trans (TM.c32 hTM (j := rr) (by omega)) eho) dX12_atHeap_239 ?_
                  refine lv_istore (lv' := [(6, .int (nI ho)), (5, .int (loadF lw t σ rr)), (4, .int (loadN lw t σ rr)), (3, .int (σ 0 kn)), (2, .int (nI kn)), (0, .ref (ad_m 0)), (1, .int (nI rr))]) hx hb dX12_atHeap_240 hl (by decide) rfl (fun ls hl => ?_)
                  refine lv_aload_n hx hb dX12_atHeap_242 rfl (lv_at hl 5 rfl) ?_
                  refine lv_iload_n hx hb dX12_atHeap_243 rfl (lv_at hl 6 rfl) ?_
                  refine z_calli (wc := wj [(mw Y ad_m (sA 63 (upd (g_m 63) kn 1) (sA 60 (upd (upd x_row_190 (58 + rr) ((loadN lw t σ rr) - (loadF lw t σ rr))) (66 + rr) (if loadN lw t σ rr - loadF lw t σ rr = 0 then -2 else σ 10 rr)) (sA 58 (fun _ => uisBroken_21) (sA 57 upile_20 (sA 56 uvariables_19 (sA 18 (fun _ => nI lv) g_m)))))) w_m)]) (wr := wj []) (va_runV (As := [.int (nI rr)]) (rest := []) ⟨hx, hb, hml, hown, hts⟩ (m_X12_lotOf l D Y ad_m (sA 63 (upd (g_m 63) kn 1) (sA 60 (upd (upd x_row_190 (58 + rr) ((loadN lw t σ rr) - (loadF lw t σ rr))) (66 + rr) (if loadN lw t σ rr - loadF lw t σ rr = 0 then -2 else σ 10 rr)) (sA 58 (fun _ => uisBroken_21) (sA 57 upile_20 (sA 56 uvariables_19 (sA 18 (fun _ => nI lv) g_m)))))) w_m lv cn t lw (sU 6 rr (if loadN lw t σ rr - loadF lw t σ rr = 0 then -2 else σ 10 rr) (sU 5 rr ((loadN lw t σ rr) - (loadF lw t σ rr)) (load2 lw t σ rr))) rr H.size (show lv < 2 from by exact hlv) (show TW cn t lw from by exact hTW) (show TM lv cn t lw (sA 63 (upd (g_m 63) kn 1) (sA 60 (upd (upd x_row_190 (58 + rr) ((loadN lw t σ rr) - (loadF lw t σ rr))) (66 + rr) (if loadN lw t σ rr - loadF lw t σ rr = 0 then -2 else σ 10 rr)) (sA 58 (fun _ => uisBroken_21) (sA 57 upile_20 (sA 56 uvariables_19 (sA 18 (fun _ => nI lv) g_m)))))) from by exact hTM) (show RS cn (sU 6 rr (if loadN lw t σ rr - loadF lw t σ rr = 0 then -2 else σ 10 rr) (sU 5 rr ((loadN lw t σ rr) - (loadF lw t σ rr)) (load2 lw t σ rr))) (upd (upd x_row_190 (58 + rr) ((loadN lw t σ rr) - (loadF lw t σ rr))) (66 + rr) (if loadN lw t σ rr - loadF lw t σ rr = 0 then -2 else σ 10 rr)) (g_m 62) (g_m 61 0) from by exact (RS.mk' hRS2 (MR.u6 hk8 (MR.u5 hk8 hRS2.1 (r := rr) (by omega) ((loadN lw t σ rr) - (loadF lw t σ rr))) (r := rr) (by omega) (if loadN lw t σ rr - loadF lw t σ rr = 0 then -2 else σ 10 rr)) (by rw [sU_ne (by omega), sU_ne (by omega)]) (by rw [sU_ne (by omega), sU_ne (by omega)]))) (show rr < cn 2 from by first | assumption | omega | grind)) (cwV 1 hts (lw_V q2066 q2068 qs94 q133 q2069) rfl rfl rfl (by decide +kernel) ⟨Nat.le_of_ble_eq_true rfl, Nat.le_of_ble_eq_true rfl⟩) (zPreV hK hW hR (wj_split3 (B := [(mw Y ad_m (sA 63 (upd (g_m 63) kn 1) (sA 60 (upd (upd x_row_190 (58 + rr) ((loadN lw t σ rr) - (loadF lw t σ rr))) (66 + rr) (if loadN lw t σ rr - loadF lw t σ rr = 0 then -2 else σ 10 rr)) (sA 58 (fun _ => uisBroken_21) (sA 57 upile_20 (sA 56 uvariables_19 (sA 18 (fun _ => nI lv) g_m)))))) w_m)]) (R := []) (C := [(mw Y ad_m (sA 63 (upd (g_m 63) kn 1) (sA 60 (upd (upd x_row_190 (58 + rr) ((loadN lw t σ rr) - (loadF lw t σ rr))) (66 + rr) (if loadN lw t σ rr - loadF lw t σ rr = 0 then -2 else σ 10 rr)) (sA 58 (fun _ => uisBroken_21) (sA 57 upile_20 (sA 56 uvariables_19 (sA 18 (fun _ => nI lv) g_m)))))) w_m)]) (O := []) (X := []) (List.Perm.refl _)) (va_recv hK.1 hW.1 (ci := 11) (q0 := 0) rfl rfl)) rfl rfl hl.1 rfl (lv_room (Nat.le_of_ble_eq_true rfl)) dX12_atHeap_244 ⟨Nat.le_refl _, Nat.le_refl _⟩) hW hA (wj_split (B := [(mw Y ad_m (sA 63 (upd (g_m 63) kn 1) (sA 60 (upd (upd x_row_190 (58 + rr) ((loadN lw t σ rr) - (loadF lw t σ rr))) (66 + rr) (if loadN lw t σ rr - loadF lw t σ rr = 0 then -2 else σ 10 rr)) (sA 58 (fun _ => uisBroken_21) (sA 57 upile_20 (sA 56 uvariables_19 (sA 18 (fun _ => nI lv) g_m)))))) w_m)]) (C := [(mw Y ad_m (sA 63 (upd (g_m 63) kn 1) (sA 60 (upd (upd x_row_190 (58 + rr) ((loadN lw t σ rr) - (loadF lw t σ rr))) (66 + rr) (if loadN lw t σ rr - loadF lw t σ rr = 0 then -2 else σ 10 rr)) (sA 58 (fun _ => uisBroken_21) (sA 57 upile_20 (sA 56 uvariables_19 (sA 18 (fun _ => nI lv) g_m)))))) w_m)]) (R := []) (List.Perm.refl _)) (fun r_25 u H locs hp_26 hW => ?_)
                  have hp_26 : r_25 = lotP ((sU 6 rr (if loadN lw t σ rr - loadF lw t σ rr = 0 then -2 else σ 10 rr) (sU 5 rr ((loadN lw t σ rr) - (loadF lw t σ rr)) (load2 lw t σ rr))) 18 0) (8 * (sU 6 rr (if loadN lw t σ rr - loadF lw t σ rr = 0 then -2 else σ 10 rr) (sU 5 rr ((loadN lw t σ rr) - (loadF lw t σ rr)) (load2 lw t σ rr))) 13 0 + nI rr) 100 := hp_26
                  have hW : zW D A s.heap H locs (wj [(mw Y ad_m (sA 63 (upd (g_m 63) kn 1) (sA 60 (upd (upd x_row_190 (58 + rr) ((loadN lw t σ rr) - (loadF lw t σ rr))) (66 + rr) (if loadN lw t σ rr - loadF lw t σ rr = 0 then -2 else σ 10 rr)) (sA 58 (fun _ => uisBroken_21) (sA 57 upile_20 (sA 56 uvariables_19 (sA 18 (fun _ => nI lv) g_m)))))) w_m)]) := hW.join
                  refine lv_aload_n hx hb dX12_atHeap_247 rfl (lv_at hl 5 rfl) ?_
                  refine lv_iconst (v := 2) hx hb dX12_atHeap_248 (by decide) ?_
                  refine lv_iload_n hx hb dX12_atHeap_249 rfl (lv_at hl 6 rfl) ?_
                  refine lv_iload_n hx hb dX12_atHeap_250 rfl (lv_at hl 3 rfl) ?_
                  refine lv_iconst (v := 0) hx hb dX12_atHeap_251 (by decide) ?_
                  refine lv_iconst (v := 0) hx hb dX12_atHeap_252 (by decide) ?_
                  refine lv_bipush (v := 100) hx hb dX12_atHeap_253 (by decide) ?_
                  refine z_calli (wc := wj [(mw Y ad_m (sA 63 (upd (g_m 63) kn 1) (sA 60 (upd (upd x_row_190 (58 + rr) ((loadN lw t σ rr) - (loadF lw t σ rr))) (66 + rr) (if loadN lw t σ rr - loadF lw t σ rr = 0 then -2 else σ 10 rr)) (sA 58 (fun _ => uisBroken_21) (sA 57 upile_20 (sA 56 uvariables_19 (sA 18 (fun _ => nI lv) g_m)))))) w_m)]) (wr := wj []) (va_runV (As := [.int 2, .int (nI rr), .int (σ 0 kn), .int 0, .int 0, .int 100]) (rest := [.int r_25]) ⟨hx, hb, hml, hown, hts⟩ (m_X12_tells l D Y ad_m (sA 63 (upd (g_m 63) kn 1) (sA 60 (upd (upd x_row_190 (58 + rr) ((loadN lw t σ rr) - (loadF lw t σ rr))) (66 + rr) (if loadN lw t σ rr - loadF lw t σ rr = 0 then -2 else σ 10 rr)) (sA 58 (fun _ => uisBroken_21) (sA 57 upile_20 (sA 56 uvariables_19 (sA 18 (fun _ => nI lv) g_m)))))) w_m lv cn t lw (sU 6 rr (if loadN lw t σ rr - loadF lw t σ rr = 0 then -2 else σ 10 rr) (sU 5 rr ((loadN lw t σ rr) - (loadF lw t σ rr)) (load2 lw t σ rr))) 2 rr (σ 0 kn) 0 0 100 H.size (show lv < 2 from by exact hlv) (show TW cn t lw from by exact hTW) (show TM lv cn t lw (sA 63 (upd (g_m 63) kn 1) (sA 60 (upd (upd x_row_190 (58 + rr) ((loadN lw t σ rr) - (loadF lw t σ rr))) (66 + rr) (if loadN lw t σ rr - loadF lw t σ rr = 0 then -2 else σ 10 rr)) (sA 58 (fun _ => uisBroken_21) (sA 57 upile_20 (sA 56 uvariables_19 (sA 18 (fun _ => nI lv) g_m)))))) from by exact hTM) (show RS cn (sU 6 rr (if loadN lw t σ rr - loadF lw t σ rr = 0 then -2 else σ 10 rr) (sU 5 rr ((loadN lw t σ rr) - (loadF lw t σ rr)) (load2 lw t σ rr))) (upd (upd x_row_190 (58 + rr) ((loadN lw t σ rr) - (loadF lw t σ rr))) (66 + rr) (if loadN lw t σ rr - loadF lw t σ rr = 0 then -2 else σ 10 rr)) (g_m 62) (g_m 61 0) from by exact (RS.mk' hRS2 (MR.u6 hk8 (MR.u5 hk8 hRS2.1 (r := rr) (by omega) ((loadN lw t σ rr) - (loadF lw t σ rr))) (r := rr) (by omega) (if loadN lw t σ rr - loadF lw t σ rr = 0 then -2 else σ 10 rr)) (by rw [sU_ne (by omega), sU_ne (by omega)]) (by rw [sU_ne (by omega), sU_ne (by omega)]))) (show 2 < 3 from by omega) (show rr < cn 2 from by first | assumption | omega | grind) (show f_held 0 0 100 = 0 from by decide)) (cwV 6 hts (lw_V q2055 q2057 qs92 q133 q2058) rfl rfl rfl (by decide +kernel) ⟨Nat.le_of_ble_eq_true rfl, Nat.le_of_ble_eq_true rfl⟩) (zPreV hK hW hR (wj_split3 (B := [(mw Y ad_m (sA 63 (upd (g_m 63) kn 1) (sA 60 (upd (upd x_row_190 (58 + rr) ((loadN lw t σ rr) - (loadF lw t σ rr))) (66 + rr) (if loadN lw t σ rr - loadF lw t σ rr = 0 then -2 else σ 10 rr)) (sA 58 (fun _ => uisBroken_21) (sA 57 upile_20 (sA 56 uvariables_19 (sA 18 (fun _ => nI lv) g_m)))))) w_m)]) (R := []) (C := [(mw Y ad_m (sA 63 (upd (g_m 63) kn 1) (sA 60 (upd (upd x_row_190 (58 + rr) ((loadN lw t σ rr) - (loadF lw t σ rr))) (66 + rr) (if loadN lw t σ rr - loadF lw t σ rr = 0 then -2 else σ 10 rr)) (sA 58 (fun _ => uisBroken_21) (sA 57 upile_20 (sA 56 uvariables_19 (sA 18 (fun _ => nI lv) g_m)))))) w_m)]) (O := []) (X := []) (List.Perm.refl _)) (va_recv hK.1 hW.1 (ci := 11) (q0 := 0) rfl rfl)) rfl rfl hl.1 rfl (lv_room (Nat.le_of_ble_eq_true rfl)) dX12_atHeap_255 ⟨Nat.le_refl _, Nat.le_refl _⟩) hW hA (wj_split (B := [(mw Y ad_m (sA 63 (upd (g_m 63) kn 1) (sA 60 (upd (upd x_row_190 (58 + rr) ((loadN lw t σ rr) - (loadF lw t σ rr))) (66 + rr) (if loadN lw t σ rr - loadF lw t σ rr = 0 then -2 else σ 10 rr)) (sA 58 (fun _ => uisBroken_21) (sA 57 upile_20 (sA 56 uvariables_19 (sA 18 (fun _ => nI lv) g_m)))))) w_m)]) (C := [(mw Y ad_m (sA 63 (upd (g_m 63) kn 1) (sA 60 (upd (upd x_row_190 (58 + rr) ((loadN lw t σ rr) - (loadF lw t σ rr))) (66 + rr) (if loadN lw t σ rr - loadF lw t σ rr = 0 then -2 else σ 10 rr)) (sA 58 (fun _ => uisBroken_21) (sA 57 upile_20 (sA 56 uvariables_19 (sA 18 (fun _ => nI lv) g_m)))))) w_m)]) (R := []) (List.Perm.refl _)) (fun r_27 u H locs hp_28 hW => ?_)
                  obtain ⟨uvariables_29, upile_30, uisBroken_31⟩ := u
                  have hp_28 : r_27 = f_held (asksP (lw 2) 0 (varsP t (sU 6 rr (if loadN lw t σ rr - loadF lw t σ rr = 0 then -2 else σ 10 rr) (sU 5 rr ((loadN lw t σ rr) - (loadF lw t σ rr)) (load2 lw t σ rr))) rr (σ 0 kn))) 0 100 := hp_28
                  have hW : zW D A s.heap H locs (wj [(mw Y ad_m (sA 63 (upd (g_m 63) kn 1) (sA 60 (upd (upd x_row_190 (58 + rr) ((loadN lw t σ rr) - (loadF lw t σ rr))) (66 + rr) (if loadN lw t σ rr - loadF lw t σ rr = 0 then -2 else σ 10 rr)) (sA 58 (fun _ => uisBroken_31) (sA 57 upile_30 (sA 56 uvariables_29 (sA 18 (fun _ => nI lv) g_m)))))) w_m)]) := hW.join
                  have join_277 : ∀ (to : Nat), (nI to = loadTo cn lw t σ rr) → (to < cn 1) → ∀ (H : Heap) (locs : List Loc), zW D A s.heap H locs (wj [(mw Y ad_m (sA 63 (upd (g_m 63) kn 1) (sA 60 (upd (upd x_row_190 (58 + rr) ((loadN lw t σ rr) - (loadF lw t σ rr))) (66 + rr) (if loadN lw t σ rr - loadF lw t σ rr = 0 then -2 else σ 10 rr)) (sA 58 (fun _ => uisBroken_31) (sA 57 upile_30 (sA 56 uvariables_29 (sA 18 (fun _ => nI lv) g_m)))))) w_m)]) → ∀ (ls : Array Slot), lv_has ls 7 [(6, .int (nI to)), (5, .int (loadF lw t σ rr)), (4, .int (loadN lw t σ rr)), (3, .int (σ 0 kn)), (2, .int (nI kn)), (0, .ref (ad_m 0)), (1, .int (nI rr))] → W p l e (headSpec (ws_ yX12_atHeap cX12_atHeap 7 none) ({ frames := 3, cells := 0, slots := 0, locals := 71 })).room s m ([.ref (ad_m 0), .int (nI rr)] : List Value).toArray below meth c H locs 0 0 (MQ below (va_Qv (fun (u : (Nat → Int32) × (Nat → Int32) × (Nat → Int32) × (Nat → Int32) × (Int32)) => (RS cn (atP cn lw t σ rr) u.1 (g_m 62) (g_m 61 0)) ∧ (LD (atP cn lw t σ rr) u.2.1)) (zB D (fun (u : (Nat → Int32) × (Nat → Int32) × (Nat → Int32) × (Nat → Int32) × (Int32)) => (wj [(mw Y ad_m (sA 63 u.2.1 (sA 60 u.1 (sA 58 (fun _ => u.2.2.2.2) (sA 57 u.2.2.2.1 (sA 56 u.2.2.1 (sA 18 (fun _ => nI lv) g_m)))))) w_m)])) A) A) ([.ref (ad_m 0), .int (nI rr)] : List Value).toArray s 0 0 A) (F0 m 277 ls []) := by
                    intro to hto hto2 H locs hW ls hl
                    refine lv_aload_n hx hb dX12_atHeap_277 rfl (lv_at hl 5 rfl) ?_
                    refine va_get (v := .ref (ad_m 60)) (C := RX12) (T := TX12) (N := 75) (ci := 11) hx hb hts in_X12 hown hK.1 hW.1 0 rfl rfl 60 (by decide) (hts _ q1696) (fun _ h9 => h9) rfl dX12_atHeap_278 ?_
                    refine lv_bipush (v := 42) hx hb dX12_atHeap_281 (by decide) ?_
                    refine lv_iload_n hx hb dX12_atHeap_283 rfl (lv_at hl 6 rfl) ?_
                    refine lv_iadd hx hb dX12_atHeap_284 ?_
                    refine lv_topi (nm_r (e' := nI (42 + rr)) (nI_add 42 rr) ?_)
                    refine lv_iconst (v := 1) hx hb dX12_atHeap_285 (by decide) ?_
                    refine z_iast (x := 1) (f := upd (upd x_row_190 (58 + rr) ((loadN lw t σ rr) - (loadF lw t σ rr))) (66 + rr) (if loadN lw t σ rr - loadF lw t σ rr = 0 then -2 else σ 10 rr)) (j := 42 + rr) (wn := (wj [(mw Y ad_m (sA 63 (upd (g_m 63) kn 1) (sA 60 (upd (upd (upd x_row_190 (58 + rr) ((loadN lw t σ rr) - (loadF lw t σ rr))) (66 + rr) (if loadN lw t σ rr - loadF lw t σ rr = 0 then -2 else σ 10 rr)) (42 + rr) 1) (sA 58 (fun _ => uisBroken_31) (sA 57 upile_30 (sA 56 uvariables_29 (sA 18 (fun _ => nI lv) g_m)))))) w_m)])) hx hb hK.1 hW 43 0 rfl rfl (vp_in_nI (n := 42 + rr) (by omega) (by decide)) (nI_clamp (n := 42 + rr) (by omega)) dX12_atHeap_286 rfl (fun H locs hW => ?_)
                    refine lv_aload_n hx hb dX12_atHeap_287 rfl (lv_at hl 5 rfl) ?_
                    refine va_get (v := .ref (ad_m 60)) (C := RX12) (T := TX12) (N := 75) (ci := 11) hx hb hts in_X12 hown hK.1 hW.1 0 rfl rfl 60 (by decide) (hts _ q1696) (fun _ h9 => h9) rfl dX12_atHeap_288 ?_
                    refine lv_bipush (v := 50) hx hb dX12_atHeap_291 (by decide) ?_
                    refine lv_iload_n hx hb dX12_atHeap_293 rfl (lv_at hl 6 rfl) ?_
                    refine lv_iadd hx hb dX12_atHeap_294 ?_
                    refine lv_topi (nm_r (e' := nI (50 + rr)) (nI_add 50 rr) ?_)
                    refine lv_aload_n hx hb dX12_atHeap_295 rfl (lv_at hl 5 rfl) ?_
                    refine va_get (v := .ref (ad_m 62)) (C := RX12) (T := TX12) (N := 75) (ci := 11) hx hb hts in_X12 hown hK.1 hW.1 0 rfl rfl 62 (by decide) (hts _ q1698) (fun _ h9 => h9) rfl dX12_atHeap_296 ?_
                    refine lv_iload hx hb dX12_atHeap_299 (lv_at hl 0 rfl) ?_
                    refine z_iald (v := (load2 lw t σ rr) 1 to) (f := g_m 62) (j := to) hx hb hK.1 hW.1 44 0 rfl rfl (vp_in_nI (n := to) (by omega) (by decide)) (nI_clamp (n := to) (by omega)) (hRS2.2.1 to (by omega)) dX12_atHeap_301 ?_
                    refine z_iast (x := (load2 lw t σ rr) 1 to) (f := upd (upd (upd x_row_190 (58 + rr) ((loadN lw t σ rr) - (loadF lw t σ rr))) (66 + rr) (if loadN lw t σ rr - loadF lw t σ rr = 0 then -2 else σ 10 rr)) (42 + rr) 1) (j := 50 + rr) (wn := (wj [(mw Y ad_m (sA 63 (upd (g_m 63) kn 1) (sA 60 (upd (upd (upd (upd x_row_190 (58 + rr) ((loadN lw t σ rr) - (loadF lw t σ rr))) (66 + rr) (if loadN lw t σ rr - loadF lw t σ rr = 0 then -2 else σ 10 rr)) (42 + rr) 1) (50 + rr) ((load2 lw t σ rr) 1 to)) (sA 58 (fun _ => uisBroken_31) (sA 57 upile_30 (sA 56 uvariables_29 (sA 18 (fun _ => nI lv) g_m)))))) w_m)])) hx hb hK.1 hW 43 0 rfl rfl (vp_in_nI (n := 50 + rr) (by omega) (by decide)) (nI_clamp (n := 50 + rr) (by omega)) dX12_atHeap_302 rfl (fun H locs hW => ?_)
                    refine lv_aload_n hx hb dX12_atHeap_303 rfl (lv_at hl 5 rfl) ?_
                    refine va_get (v := .ref (ad_m 60)) (C := RX12) (T := TX12) (N := 75) (ci := 11) hx hb hts in_X12 hown hK.1 hW.1 0 rfl rfl 60 (by decide) (hts _ q1696) (fun _ h9 => h9) rfl dX12_atHeap_304 ?_
                    refine lv_bipush (v := 106) hx hb dX12_atHeap_307 (by decide) ?_
                    refine lv_iload_n hx hb dX12_atHeap_309 rfl (lv_at hl 6 rfl) ?_
                    refine lv_iadd hx hb dX12_atHeap_310 ?_
                    refine lv_topi (nm_r (e' := nI (106 + rr)) (nI_add 106 rr) ?_)
                    refine lv_iload hx hb dX12_atHeap_311 (lv_at hl 0 rfl) ?_
                    refine z_iast (x := nI to) (f := upd (upd (upd (upd x_row_190 (58 + rr) ((loadN lw t σ rr) - (loadF lw t σ rr))) (66 + rr) (if loadN lw t σ rr - loadF lw t σ rr = 0 then -2 else σ 10 rr)) (42 + rr) 1) (50 + rr) ((load2 lw t σ rr) 1 to)) (j := 106 + rr) (wn := (wj [(mw Y ad_m (sA 63 (upd (g_m 63) kn 1) (sA 60 (upd (upd (upd (upd (upd x_row_190 (58 + rr) ((loadN lw t σ rr) - (loadF lw t σ rr))) (66 + rr) (if loadN lw t σ rr - loadF lw t σ rr = 0 then -2 else σ 10 rr)) (42 + rr) 1) (50 + rr) ((load2 lw t σ rr) 1 to)) (106 + rr) (nI to)) (sA 58 (fun _ => uisBroken_31) (sA 57 upile_30 (sA 56 uvariables_29 (sA 18 (fun _ => nI lv) g_m)))))) w_m)])) hx hb hK.1 hW 43 0 rfl rfl (vp_in_nI (n := 106 + rr) (by omega) (by decide)) (nI_clamp (n := 106 + rr) (by omega)) dX12_atHeap_313 rfl (fun H locs hW => ?_)
                    refine z_vret ((upd (upd (upd (upd (upd x_row_190 (58 + rr) ((loadN lw t σ rr) - (loadF lw t σ rr))) (66 + rr) (if loadN lw t σ rr - loadF lw t σ rr = 0 then -2 else σ 10 rr)) (42 + rr) 1) (50 + rr) ((load2 lw t σ rr) 1 to)) (106 + rr) (nI to), upd (g_m 63) kn 1, uvariables_29, upile_30, uisBroken_31) : (Nat → Int32) × (Nat → Int32) × (Nat → Int32) × (Nat → Int32) × (Int32)) hx hb hr hlocks hW rfl dX12_atHeap_314 ?_
                    show (RS cn (atP cn lw t σ rr) (upd (upd (upd (upd (upd x_row_190 (58 + rr) ((loadN lw t σ rr) - (loadF lw t σ rr))) (66 + rr) (if loadN lw t σ rr - loadF lw t σ rr = 0 then -2 else σ 10 rr)) (42 + rr) 1) (50 + rr) ((load2 lw t σ rr) 1 to)) (106 + rr) (nI to)) (g_m 62) (g_m 61 0)) ∧ (LD (atP cn lw t σ rr) (upd (g_m 63) kn 1))
                    have hfin : RS cn (sU 7 rr (nI to) (sU 4 rr ((load2 lw t σ rr) 1 to) (sU 3 rr 1 (sU 6 rr (if loadN lw t σ rr - loadF lw t σ rr = 0 then -2 else σ 10 rr) (sU 5 rr ((loadN lw t σ rr) - (loadF lw t σ rr)) (load2 lw t σ rr)))))) (upd (upd (upd (upd (upd x_row_190 (58 + rr) ((loadN lw t σ rr) - (loadF lw t σ rr))) (66 + rr) (if loadN lw t σ rr - loadF lw t σ rr = 0 then -2 else σ 10 rr)) (42 + rr) 1) (50 + rr) ((load2 lw t σ rr) 1 to)) (106 + rr) (nI to)) (g_m 62) (g_m 61 0) := (RS.mk' hRS2 (MR.u7 hk8 (MR.u4 hk8 (MR.u3 hk8 (MR.u6 hk8 (MR.u5 hk8 hRS2.1 (r := rr) (by omega) ((loadN lw t σ rr) - (loadF lw t σ rr))) (r := rr) (by omega) (if loadN lw t σ rr - loadF lw t σ rr = 0 then -2 else σ 10 rr)) (r := rr) (by omega) 1) (r := rr) (by omega) ((load2 lw t σ rr) 1 to)) (r := rr) (by omega) (nI to)) (by rw [sU_ne (by omega), sU_ne (by omega), sU_ne (by omega), sU_ne (by omega), sU_ne (by omega)]) (by rw [sU_ne (by omega), sU_ne (by omega), sU_ne (by omega), sU_ne (by omega), sU_ne (by omega)]))
                    have efin : atP cn lw t σ rr = sU 7 rr (nI to) (sU 4 rr ((load2 lw t σ rr) 1 to) (sU 3 rr 1 (sU 6 rr (if loadN lw t σ rr - loadF lw t σ rr = 0 then -2 else σ 10 rr) (sU 5 rr ((loadN lw t σ rr) - (loadF lw t σ rr)) (load2 lw t σ rr))))) := by
                      rw [hat]
                      have ct := nI_clamp (show to < 2 ^ 31 by omega)
                      unfold loadP
                      rw [← hto, ct]
                      simp [load2_ne, sU, sS, sA_ne, sA_eq, sA_sA, sA_comm]
                      try (funext k_; simp only [sA_if]; grind)
                    refine ⟨?_, ?_⟩
                    · rw [efin]; exact hfin
                    · exact LD.load hLD (by omega) (by rw [hat, loadP_19, ekn])
                  refine lv_icmp_ge (tgt := 277) hx hb dX12_atHeap_258 (by decide) (fun c_33 => ?_) (fun c_33 => ?_)
                  · have e1 : r_25 = lotP (σ 18 0) (8 * σ 13 0 + nI rr) 100 := by
                      rw [hp_26]; simp [sU_ne, load2_ne]
                    have e2 : r_27 = f_held (asksP (lw 2) 0 (varsP t (load2 lw t σ rr) rr (σ 0 kn))) 0 100 := by
                      rw [hp_28]; rfl
                    have herr : ¬ errsP lw t σ rr := by
                      unfold errsP; rw [ekn, ckn, ← e1, ← e2]; exact Int32.not_lt.mpr c_33
                    exact join_277 ho (by exact loadTo_is hho eho (by omega) (by first | exact Or.inl ⟨herr, rfl⟩ | exact Or.inr ⟨herr, rfl⟩)) (by first | exact hho | exact Nat.mod_lt _ (by omega)) _ _ hW _ (lv_sub hl [0, 1, 2, 3, 4, 5, 6] rfl)
                  · have e1 : r_25 = lotP (σ 18 0) (8 * σ 13 0 + nI rr) 100 := by
                      rw [hp_26]; simp [sU_ne, load2_ne]
                    have e2 : r_27 = f_held (asksP (lw 2) 0 (varsP t (load2 lw t σ rr) rr (σ 0 kn))) 0 100 := by
                      rw [hp_28]; rfl
                    have herr : errsP lw t σ rr := by
                      unfold errsP; rw [ekn, ckn, ← e1, ← e2]; exact Int32.not_le.mp c_33
                    refine lv_iload hx hb dX12_atHeap_261 (lv_at hl 0 rfl) ?_
                    refine lv_iconst (v := 1) hx hb dX12_atHeap_263 (by decide) ?_
                    refine lv_iadd hx hb dX12_atHeap_264 ?_
                    refine lv_topi (nm_r (e' := nI (ho + 1)) (nI_add ho 1) ?_)
                    refine lv_aload_n hx hb dX12_atHeap_265 rfl (lv_at hl 5 rfl) ?_
                    refine va_get (v := .ref (ad_m 27)) (C := RX12) (T := TX12) (N := 75) (ci := 11) hx hb hts in_X12 hown hK.1 hW.1 0 rfl rfl 27 (by decide) (hts _ q1663) (fun _ h9 => h9) rfl dX12_atHeap_266 ?_
                    refine lv_aload_n hx hb dX12_atHeap_269 rfl (lv_at hl 5 rfl) ?_
                    refine va_get (v := .int (nI lv)) (C := RX12) (T := TX12) (N := 75) (ci := 11) hx hb hts in_X12 hown hK.1 hW.1 0 rfl rfl 18 (by decide) (hts _ q1654) (fun _ h9 => h9) rfl dX12_atHeap_270 ?_
                    refine z_iald (v := nI (cn 1)) (f := g_m 27) (j := lv) hx hb hK.1 hW.1 14 0 rfl rfl (vp_in_nI (n := lv) (by omega) (by decide)) (nI_clamp (n := lv) (by omega)) (TM.c27 hTM) dX12_atHeap_273 ?_
                    refine lv_irem hx hb dX12_atHeap_274 (nI_ne0 (by omega) (by omega)) ?_
                    refine lv_topi (nm_r (e' := nI ((ho + 1) % (cn 1))) (pk_rem (a := ho + 1) (d := cn 1) (by omega) (by omega) (by omega)) ?_)
                    refine lv_istore (lv' := [(6, .int (nI ((ho + 1) % (cn 1)))), (5, .int (loadF lw t σ rr)), (4, .int (loadN lw t σ rr)), (3, .int (σ 0 kn)), (2, .int (nI kn)), (0, .ref (ad_m 0)), (1, .int (nI rr))]) hx hb dX12_atHeap_275 hl (by decide) rfl (fun ls hl => ?_)
                    exact join_277 ((ho + 1) % (cn 1)) (by exact loadTo_is hho eho (by omega) (by first | exact Or.inl ⟨herr, rfl⟩ | exact Or.inr ⟨herr, rfl⟩)) (by first | exact hho | exact Nat.mod_lt _ (by omega)) _ _ hW _ (lv_sub hl [0, 1, 2, 3, 4, 5, 6] rfl)
                refine lv_icmp_le (tgt := 223) hx hb dX12_atHeap_216 (by decide) (fun c_34 => ?_) (fun c_34 => ?_)
                · refine lv_bipush (v := (-2)) hx hb dX12_atHeap_223 (by decide) ?_
                  exact join_225 (-2) (by have hle := loadF_le lw t σ rr; have hz := z_sub0 hle; rw [ekn]; grind) _ _ hW _ (lv_sub hl [0, 1, 2, 3, 4, 5] rfl)
                · refine lv_iload_n hx hb dX12_atHeap_219 rfl (lv_at hl 3 rfl) ?_
                  refine lv_goto (tgt := 225) hx hb dX12_atHeap_220 (by decide) ?_
                  exact join_225 (nI kn) (by have hle := loadF_le lw t σ rr; have hz := z_sub0 hle; rw [ekn]; grind) _ _ hW _ (lv_sub hl [0, 1, 2, 3, 4, 5] rfl)
              refine lv_if_le (tgt := 178) hx hb dX12_atHeap_165 (by decide) (fun c_35 => ?_) (fun c_35 => ?_)
              · refine lv_aload_n hx hb dX12_atHeap_178 rfl (lv_at hl 4 rfl) ?_
                refine va_get (v := .ref (ad_m 60)) (C := RX12) (T := TX12) (N := 75) (ci := 11) hx hb hts in_X12 hown hK.1 hW.1 0 rfl rfl 60 (by decide) (hts _ q1696) (fun _ h9 => h9) rfl dX12_atHeap_179 ?_
                refine lv_bipush (v := 115) hx hb dX12_atHeap_182 (by decide) ?_
                refine lv_dup2_11 hx hb dX12_atHeap_184 rfl rfl ?_
                refine z_iald (v := (sS 19 (σ 19 0 ||| ((1 : Int32) <<< (σ 10 rr &&& 31))) σ) 14 0) (f := upd (g_m 60) kn (((sS 19 (σ 19 0 ||| ((1 : Int32) <<< (σ 10 rr &&& 31))) σ) 0 kn) - (loadN lw t σ rr))) (j := 115) hx hb hK.1 hW.1 43 0 rfl rfl (vp_in_nI (n := 115) (by omega) (by decide)) (by decide) (Eq.trans (pk_un (by omega)) (MR.s14 hRS0.1)) dX12_atHeap_185 ?_
                refine lv_iload hx hb dX12_atHeap_186 (lv_at hl 0 rfl) ?_
                refine lv_iadd hx hb dX12_atHeap_188 ?_
                refine z_iast (x := ((sS 19 (σ 19 0 ||| ((1 : Int32) <<< (σ 10 rr &&& 31))) σ) 14 0) + (loadF lw t σ rr)) (f := upd (g_m 60) kn (((sS 19 (σ 19 0 ||| ((1 : Int32) <<< (σ 10 rr &&& 31))) σ) 0 kn) - (loadN lw t σ rr))) (j := 115) (wn := (wj [(mw Y ad_m (sA 63 (upd (g_m 63) kn 1) (sA 60 (upd (upd (g_m 60) kn (((sS 19 (σ 19 0 ||| ((1 : Int32) <<< (σ 10 rr &&& 31))) σ) 0 kn) - (loadN lw t σ rr))) 115 (((sS 19 (σ 19 0 ||| ((1 : Int32) <<< (σ 10 rr &&& 31))) σ) 14 0) + (loadF lw t σ rr))) (sA 58 (fun _ => uisBroken_21) (sA 57 upile_20 (sA 56 uvariables_19 (sA 18 (fun _ => nI lv) g_m)))))) w_m)])) hx hb hK.1 hW 43 0 rfl rfl (vp_in_nI (n := 115) (by omega) (by decide)) (by decide) dX12_atHeap_189 rfl (fun H locs hW => ?_)
                have hRS2 : RS cn (load2 lw t σ rr) (upd (upd (g_m 60) kn (((sS 19 (σ 19 0 ||| ((1 : Int32) <<< (σ 10 rr &&& 31))) σ) 0 kn) - (loadN lw t σ rr))) 115 (((sS 19 (σ 19 0 ||| ((1 : Int32) <<< (σ 10 rr &&& 31))) σ) 14 0) + (loadF lw t σ rr))) (g_m 62) (g_m 61 0) := by
                  have e_36 : load2 lw t σ rr = sS 14 (((sS 19 (σ 19 0 ||| ((1 : Int32) <<< (σ 10 rr &&& 31))) σ) 14 0) + (loadF lw t σ rr)) (load1 lw t σ rr) := by
                    simp [load1, load2, eatsP, ekn, ckn, sU, sS, sA_ne, sA_eq, sA_sA, sA_comm, *]
                    try (funext k_; simp only [sA_if]; grind)
                  rw [e_36]; exact (RS.mk' hRS1 (MR.v14 hk8 hRS1.1 (((sS 19 (σ 19 0 ||| ((1 : Int32) <<< (σ 10 rr &&& 31))) σ) 14 0) + (loadF lw t σ rr))) (by rw [sS_ne (by omega)]) (by rw [sS_ne (by omega)]))
                exact join_190 (upd (upd (g_m 60) kn (((sS 19 (σ 19 0 ||| ((1 : Int32) <<< (σ 10 rr &&& 31))) σ) 0 kn) - (loadN lw t σ rr))) 115 (((sS 19 (σ 19 0 ||| ((1 : Int32) <<< (σ 10 rr &&& 31))) σ) 14 0) + (loadF lw t σ rr))) (by exact hRS2) _ _ hW _ (lv_sub hl [0, 1, 2, 3, 4, 5] rfl)
              · refine lv_aload_n hx hb dX12_atHeap_168 rfl (lv_at hl 4 rfl) ?_
                refine va_get (v := .ref (ad_m 60)) (C := RX12) (T := TX12) (N := 75) (ci := 11) hx hb hts in_X12 hown hK.1 hW.1 0 rfl rfl 60 (by decide) (hts _ q1696) (fun _ h9 => h9) rfl dX12_atHeap_169 ?_
                refine lv_bipush (v := 74) hx hb dX12_atHeap_172 (by decide) ?_
                refine lv_iload_n hx hb dX12_atHeap_174 rfl (lv_at hl 5 rfl) ?_
                refine lv_iadd hx hb dX12_atHeap_175 ?_
                refine lv_topi (nm_r (e' := nI (74 + rr)) (nI_add 74 rr) ?_)
                refine lv_iconst (v := 0) hx hb dX12_atHeap_176 (by decide) ?_
                refine z_iast (x := 0) (f := upd (g_m 60) kn (((sS 19 (σ 19 0 ||| ((1 : Int32) <<< (σ 10 rr &&& 31))) σ) 0 kn) - (loadN lw t σ rr))) (j := 74 + rr) (wn := (wj [(mw Y ad_m (sA 63 (upd (g_m 63) kn 1) (sA 60 (upd (upd (g_m 60) kn (((sS 19 (σ 19 0 ||| ((1 : Int32) <<< (σ 10 rr &&& 31))) σ) 0 kn) - (loadN lw t σ rr))) (74 + rr) 0) (sA 58 (fun _ => uisBroken_21) (sA 57 upile_20 (sA 56 uvariables_19 (sA 18 (fun _ => nI lv) g_m)))))) w_m)])) hx hb hK.1 hW 43 0 rfl rfl (vp_in_nI (n := 74 + rr) (by omega) (by decide)) (nI_clamp (n := 74 + rr) (by omega)) dX12_atHeap_177 rfl (fun H locs hW => ?_)
                refine lv_aload_n hx hb dX12_atHeap_178 rfl (lv_at hl 4 rfl) ?_
                refine va_get (v := .ref (ad_m 60)) (C := RX12) (T := TX12) (N := 75) (ci := 11) hx hb hts in_X12 hown hK.1 hW.1 0 rfl rfl 60 (by decide) (hts _ q1696) (fun _ h9 => h9) rfl dX12_atHeap_179 ?_
                refine lv_bipush (v := 115) hx hb dX12_atHeap_182 (by decide) ?_
                refine lv_dup2_11 hx hb dX12_atHeap_184 rfl rfl ?_
                refine z_iald (v := (sS 19 (σ 19 0 ||| ((1 : Int32) <<< (σ 10 rr &&& 31))) σ) 14 0) (f := upd (upd (g_m 60) kn (((sS 19 (σ 19 0 ||| ((1 : Int32) <<< (σ 10 rr &&& 31))) σ) 0 kn) - (loadN lw t σ rr))) (74 + rr) 0) (j := 115) hx hb hK.1 hW.1 43 0 rfl rfl (vp_in_nI (n := 115) (by omega) (by decide)) (by decide) (Eq.trans (pk_un (by omega)) (Eq.trans (pk_un (by omega)) (MR.s14 hRS0.1))) dX12_atHeap_185 ?_
                refine lv_iload hx hb dX12_atHeap_186 (lv_at hl 0 rfl) ?_
                refine lv_iadd hx hb dX12_atHeap_188 ?_
                refine z_iast (x := ((sS 19 (σ 19 0 ||| ((1 : Int32) <<< (σ 10 rr &&& 31))) σ) 14 0) + (loadF lw t σ rr)) (f := upd (upd (g_m 60) kn (((sS 19 (σ 19 0 ||| ((1 : Int32) <<< (σ 10 rr &&& 31))) σ) 0 kn) - (loadN lw t σ rr))) (74 + rr) 0) (j := 115) (wn := (wj [(mw Y ad_m (sA 63 (upd (g_m 63) kn 1) (sA 60 (upd (upd (upd (g_m 60) kn (((sS 19 (σ 19 0 ||| ((1 : Int32) <<< (σ 10 rr &&& 31))) σ) 0 kn) - (loadN lw t σ rr))) (74 + rr) 0) 115 (((sS 19 (σ 19 0 ||| ((1 : Int32) <<< (σ 10 rr &&& 31))) σ) 14 0) + (loadF lw t σ rr))) (sA 58 (fun _ => uisBroken_21) (sA 57 upile_20 (sA 56 uvariables_19 (sA 18 (fun _ => nI lv) g_m)))))) w_m)])) hx hb hK.1 hW 43 0 rfl rfl (vp_in_nI (n := 115) (by omega) (by decide)) (by decide) dX12_atHeap_189 rfl (fun H locs hW => ?_)
                have hRS2 : RS cn (load2 lw t σ rr) (upd (upd (upd (g_m 60) kn (((sS 19 (σ 19 0 ||| ((1 : Int32) <<< (σ 10 rr &&& 31))) σ) 0 kn) - (loadN lw t σ rr))) (74 + rr) 0) 115 (((sS 19 (σ 19 0 ||| ((1 : Int32) <<< (σ 10 rr &&& 31))) σ) 14 0) + (loadF lw t σ rr))) (g_m 62) (g_m 61 0) := by
                  have e_37 : load2 lw t σ rr = sS 14 (((sS 19 (σ 19 0 ||| ((1 : Int32) <<< (σ 10 rr &&& 31))) σ) 14 0) + (loadF lw t σ rr)) (sU 8 rr 0 (load1 lw t σ rr)) := by
                    simp [load1, load2, eatsP, ekn, ckn, sU, sS, sA_ne, sA_eq, sA_sA, sA_comm, *]
                    try (funext k_; simp only [sA_if]; grind)
                  rw [e_37]; exact (RS.mk' hRS1 (MR.v14 hk8 (MR.u8 hk8 hRS1.1 (r := rr) (by omega) 0) (((sS 19 (σ 19 0 ||| ((1 : Int32) <<< (σ 10 rr &&& 31))) σ) 14 0) + (loadF lw t σ rr))) (by rw [sS_ne (by omega), sU_ne (by omega)]) (by rw [sS_ne (by omega), sU_ne (by omega)]))
                exact join_190 (upd (upd (upd (g_m 60) kn (((sS 19 (σ 19 0 ||| ((1 : Int32) <<< (σ 10 rr &&& 31))) σ) 0 kn) - (loadN lw t σ rr))) (74 + rr) 0) 115 (((sS 19 (σ 19 0 ||| ((1 : Int32) <<< (σ 10 rr &&& 31))) σ) 14 0) + (loadF lw t σ rr))) (by exact hRS2) _ _ hW _ (lv_sub hl [0, 1, 2, 3, 4, 5] rfl)
            refine lv_icmp_le (tgt := 163) hx hb dX12_atHeap_156 (by decide) (fun c_38 => ?_) (fun c_38 => ?_)
            · exact join_163 r_17 (by simp only [loadF]; grind) _ _ hW _ (lv_sub hl [0, 1, 2, 3, 4, 5] rfl)
            · refine lv_iload hx hb dX12_atHeap_159 (lv_at hl 1 rfl) ?_
              refine lv_istore (lv' := [(5, .int (loadN lw t σ rr)), (4, .int (loadN lw t σ rr)), (3, .int (σ 0 kn)), (2, .int (nI kn)), (0, .ref (ad_m 0)), (1, .int (nI rr))]) hx hb dX12_atHeap_161 hl (by decide) rfl (fun ls hl => ?_)
              exact join_163 (loadN lw t σ rr) (by simp only [loadF]; grind) _ _ hW _ (lv_sub hl [0, 1, 2, 3, 4, 5] rfl)
          refine lv_icmp_le (tgt := 127) hx hb dX12_atHeap_121 (by decide) (fun c_39 => ?_) (fun c_39 => ?_)
          · exact join_127 r_10 (by simp only [loadN, ekn, ckn]; grind) _ _ hW _ (lv_sub hl [0, 1, 2, 3, 4] rfl)
          · refine lv_iload_n hx hb dX12_atHeap_124 rfl (lv_at hl 1 rfl) ?_
            refine lv_istore (lv' := [(4, .int (σ 0 kn)), (3, .int (σ 0 kn)), (2, .int (nI kn)), (0, .ref (ad_m 0)), (1, .int (nI rr))]) hx hb dX12_atHeap_125 hl (by decide) rfl (fun ls hl => ?_)
            exact join_127 (σ 0 kn) (by simp only [loadN, ekn, ckn]; grind) _ _ hW _ (lv_sub hl [0, 1, 2, 3, 4] rfl)
        · have c_9 : hasLoadedP σ (nI kn) := zb_ne rfl c_9
          have hat : atP cn lw t σ rr = sS 17 (σ 17 0 + 1) σ := by
            unfold atP; rw [if_pos hyes, if_pos (by rw [ekn]; exact c_9)]
          refine lv_aload_n hx hb dX12_atHeap_86 rfl (lv_at hl 2 rfl) ?_
          refine va_get (v := .ref (ad_m 60)) (C := RX12) (T := TX12) (N := 75) (ci := 11) hx hb hts in_X12 hown hK.1 hW.1 0 rfl rfl 60 (by decide) (hts _ q1696) (fun _ h9 => h9) rfl dX12_atHeap_87 ?_
          refine lv_bipush (v := 119) hx hb dX12_atHeap_90 (by decide) ?_
          refine lv_dup2_11 hx hb dX12_atHeap_92 rfl rfl ?_
          refine z_iald (v := σ 17 0) (f := g_m 60) (j := 119) hx hb hK.1 hW.1 43 0 rfl rfl (vp_in_nI (n := 119) (by omega) (by decide)) (by decide) (MR.s17 hRS.1) dX12_atHeap_93 ?_
          refine lv_iconst (v := 1) hx hb dX12_atHeap_94 (by decide) ?_
          refine lv_iadd hx hb dX12_atHeap_95 ?_
          refine z_iast (x := (σ 17 0) + 1) (f := g_m 60) (j := 119) (wn := (wj [(mw Y ad_m (sA 60 (upd (g_m 60) 119 ((σ 17 0) + 1)) (sA 18 (fun _ => nI lv) g_m)) w_m)])) hx hb hK.1 hW 43 0 rfl rfl (vp_in_nI (n := 119) (by omega) (by decide)) (by decide) dX12_atHeap_96 rfl (fun H locs hW => ?_)
          refine z_vret ((upd (g_m 60) 119 ((σ 17 0) + 1), g_m 63, g_m 56, g_m 57, g_m 58 0) : (Nat → Int32) × (Nat → Int32) × (Nat → Int32) × (Nat → Int32) × (Int32)) hx hb hr hlocks hW rfl dX12_atHeap_97 ?_
          show (RS cn (atP cn lw t σ rr) (upd (g_m 60) 119 ((σ 17 0) + 1)) (g_m 62) (g_m 61 0)) ∧ (LD (atP cn lw t σ rr) (g_m 63))
          have hfin : RS cn (sS 17 ((σ 17 0) + 1) σ) (upd (g_m 60) 119 ((σ 17 0) + 1)) (g_m 62) (g_m 61 0) := (RS.mk' hRS (MR.v17 hk8 hRS.1 ((σ 17 0) + 1)) (by rw [sS_ne (by omega)]) (by rw [sS_ne (by omega)]))
          have efin : atP cn lw t σ rr = sS 17 ((σ 17 0) + 1) σ := by
            exact hat
          refine ⟨?_, ?_⟩
          · rw [efin]; exact hfin
          · rw [hat]
            exact LD.of19 hLD rfl
      · exact join_50  (by rw [ekn, ckn]; unfold isDarkP; grind) _ _ hW _ (lv_sub hl [2, 3] rfl)

