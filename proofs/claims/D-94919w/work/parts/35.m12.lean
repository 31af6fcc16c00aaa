/-! the model: counts -/
set_option maxRecDepth 100000
set_option maxHeartbeats 4000000 in
set_option maxRecDepth 100000 in
theorem m_X12_count (l : Launch) (D : va_G) (Y : Nat → ClassId) (ad_m : Nat → Nat) (g_m : Nat → Nat → Int32) (w_m : Nat → Nat → Int64) (lv : Nat) (cn : Nat → Nat) (t : tab) (lw : Nat → Option LAW) (σ : tab) (U : List tab) (un : Nat) (B_ : Int) (wx : Int32) (hd : Nat → Option tab) (tp : Nat) (tc : Nat) (sz : Nat) (hlv : lv < 2) (hTW : TW cn t lw) (hTM : TM lv cn t lw g_m) (hKN : KN (cn 2) σ U (g_m 59) (g_m 65) un) (hF1 : ∀ h, h < cn 1 → σ 1 h = t 2 h) (hF2 : σ 18 0 = t 12 2) (hWF : WF cn B_ σ) (hHD : HD (cn 2) hd (g_m 73) (g_m 74)) : Met l yX12_count (ws_ yX12_count cX12_count 4 (some .int)) ({ frames := 3, cells := 0, slots := 0, locals := 54 }) (zPc D Y [.ref (ad_m 0), .int wx] sz (wj []) (wj [(mw Y ad_m (sA 68 (fun _ => nI tc) (sA 64 (fun _ => nI un) (sA 18 (fun _ => nI lv) (sA 2 (fun _ => nI tp) g_m)))) w_m)])) (va_Qi (fun (r : Int32) (u : (Nat → Int32) × (Int32) × (Nat → Int32)) => r = countO cn σ tp un tc hd wx) (zB D (fun (u : (Nat → Int32) × (Int32) × (Nat → Int32)) => (wj [(mw Y ad_m (sA 68 (fun _ => nI tc) (sA 64 (fun _ => nI un) (sA 62 u.2.2 (sA 61 (fun _ => u.2.1) (sA 60 u.1 (sA 18 (fun _ => nI lv) (sA 2 (fun _ => nI tp) g_m))))))) w_m)])) (va_A (wj [(mw Y ad_m (sA 68 (fun _ => nI tc) (sA 64 (fun _ => nI un) (sA 18 (fun _ => nI lv) (sA 2 (fun _ => nI tp) g_m)))) w_m)]) sz)) (va_A (wj [(mw Y ad_m (sA 68 (fun _ => nI tc) (sA 64 (fun _ => nI un) (sA 18 (fun _ => nI lv) (sA 2 (fun _ => nI tp) g_m)))) w_m)]) sz)) 0 0 (va_A (wj [(mw Y ad_m (sA 68 (fun _ => nI tc) (sA 64 (fun _ => nI un) (sA 18 (fun _ => nI lv) (sA 2 (fun _ => nI tp) g_m)))) w_m)]) sz) := by
  refine Met.ofW (cc := cX12_count) (maxL := 4) (ret := (some .int)) (by decide) rfl ?_
  intro p e s m args below meth c s₁ B hml hv
  obtain ⟨rfl, hsz, hW, hR, hK, hA⟩ := zEntry hv
  subst hsz
  have hx := B.exec
  have hb := B.bytes
  have hr := B.returns
  have hlocks := B.notSynchronized
  have hts : ∀ w ∈ lw_all, w.before _ s = true := fun w h => atoms_spec (ws := (ws_ yX12_count cX12_count 4 (some .int))) B.pre w (List.mem_cons_of_mem _ h)
  have hown : s.vm.findClass RX12 = some m.cls := findClass_of_methodNamed B.named
  generalize hAe : va_A (wj [(mw Y ad_m (sA 68 (fun _ => nI tc) (sA 64 (fun _ => nI un) (sA 18 (fun _ => nI lv) (sA 2 (fun _ => nI tp) g_m)))) w_m)]) s.heap.size = A at hW hR hA ⊢
  have hl := lv_entry ([.ref (ad_m 0), .int wx]) (n := 4) (Nat.le_of_ble_eq_true rfl)
  rw [lg_entry_eq]
  generalize (lg_sl ([.ref (ad_m 0), .int wx]) ++ List.replicate (4 - (lg_sl ([.ref (ad_m 0), .int wx])).length) Slot.unset).toArray = ls at hl ⊢
  have hl : lv_has ls 4 [(0, .ref (ad_m 0)), (1, .int wx)] := hl
  have hk8 := hTW.n2
  have hk6 := hTW.n1
  have hk60 := hTW.n0
  have hk5 := hTW.n3
  refine lv_iload_n hx hb dX12_count_0 rfl (lv_at hl 1 rfl) ?_
  by_cases c_1 : wx = (0 : Int32)
  · refine lv_tableIn (off := 79) (tgt := 80) hx hb dX12_count_1 (by rw [c_1]; decide) (by rw [c_1]; decide) (by rw [c_1]; rfl) (by decide) ?_
    refine lv_aload_n hx hb dX12_count_80 rfl (lv_at hl 0 rfl) ?_
    refine va_get (v := .ref (ad_m 24)) (C := RX12) (T := TX12) (N := 75) (ci := 11) hx hb hts in_X12 hown hK.1 hW.1 0 rfl rfl 24 (by decide) (hts _ q1660) (fun _ h9 => h9) rfl dX12_count_81 ?_
    refine lv_aload_n hx hb dX12_count_84 rfl (lv_at hl 0 rfl) ?_
    refine va_get (v := .int (nI lv)) (C := RX12) (T := TX12) (N := 75) (ci := 11) hx hb hts in_X12 hown hK.1 hW.1 0 rfl rfl 18 (by decide) (hts _ q1654) (fun _ h9 => h9) rfl dX12_count_85 ?_
    refine z_iald (v := nI (cn 0)) (f := g_m 24) (j := lv) hx hb hK.1 hW.1 11 0 rfl rfl (vp_in_nI (n := lv) (by omega) (by decide)) (nI_clamp (n := lv) (by omega)) (TM.c24 hTM) dX12_count_88 ?_
    refine z_ireti ((g_m 60, g_m 61 0, g_m 62) : (Nat → Int32) × (Int32) × (Nat → Int32)) hx hb hr hlocks rfl hW rfl dX12_count_89 ?_
    show (nI (cn 0)) = countO cn σ tp un tc hd wx
    simp [countO, c_1]
  by_cases c_2 : wx = (1 : Int32)
  · refine lv_tableIn (off := 89) (tgt := 90) hx hb dX12_count_1 (by rw [c_2]; decide) (by rw [c_2]; decide) (by rw [c_2]; rfl) (by decide) ?_
    refine lv_aload_n hx hb dX12_count_90 rfl (lv_at hl 0 rfl) ?_
    refine va_get (v := .ref (ad_m 27)) (C := RX12) (T := TX12) (N := 75) (ci := 11) hx hb hts in_X12 hown hK.1 hW.1 0 rfl rfl 27 (by decide) (hts _ q1663) (fun _ h9 => h9) rfl dX12_count_91 ?_
    refine lv_aload_n hx hb dX12_count_94 rfl (lv_at hl 0 rfl) ?_
    refine va_get (v := .int (nI lv)) (C := RX12) (T := TX12) (N := 75) (ci := 11) hx hb hts in_X12 hown hK.1 hW.1 0 rfl rfl 18 (by decide) (hts _ q1654) (fun _ h9 => h9) rfl dX12_count_95 ?_
    refine z_iald (v := nI (cn 1)) (f := g_m 27) (j := lv) hx hb hK.1 hW.1 14 0 rfl rfl (vp_in_nI (n := lv) (by omega) (by decide)) (nI_clamp (n := lv) (by omega)) (TM.c27 hTM) dX12_count_98 ?_
    refine z_ireti ((g_m 60, g_m 61 0, g_m 62) : (Nat → Int32) × (Int32) × (Nat → Int32)) hx hb hr hlocks rfl hW rfl dX12_count_99 ?_
    show (nI (cn 1)) = countO cn σ tp un tc hd wx
    simp [countO, c_2]
  by_cases c_3 : wx = (2 : Int32)
  · refine lv_tableIn (off := 99) (tgt := 100) hx hb dX12_count_1 (by rw [c_3]; decide) (by rw [c_3]; decide) (by rw [c_3]; rfl) (by decide) ?_
    refine lv_aload_n hx hb dX12_count_100 rfl (lv_at hl 0 rfl) ?_
    refine va_get (v := .ref (ad_m 30)) (C := RX12) (T := TX12) (N := 75) (ci := 11) hx hb hts in_X12 hown hK.1 hW.1 0 rfl rfl 30 (by decide) (hts _ q1666) (fun _ h9 => h9) rfl dX12_count_101 ?_
    refine lv_aload_n hx hb dX12_count_104 rfl (lv_at hl 0 rfl) ?_
    refine va_get (v := .int (nI lv)) (C := RX12) (T := TX12) (N := 75) (ci := 11) hx hb hts in_X12 hown hK.1 hW.1 0 rfl rfl 18 (by decide) (hts _ q1654) (fun _ h9 => h9) rfl dX12_count_105 ?_
    refine z_iald (v := nI (cn 2)) (f := g_m 30) (j := lv) hx hb hK.1 hW.1 17 0 rfl rfl (vp_in_nI (n := lv) (by omega) (by decide)) (nI_clamp (n := lv) (by omega)) (TM.c30 hTM) dX12_count_108 ?_
    refine z_ireti ((g_m 60, g_m 61 0, g_m 62) : (Nat → Int32) × (Int32) × (Nat → Int32)) hx hb hr hlocks rfl hW rfl dX12_count_109 ?_
    show (nI (cn 2)) = countO cn σ tp un tc hd wx
    simp [countO, c_3]
  by_cases c_4 : wx = (3 : Int32)
  · refine lv_tableIn (off := 109) (tgt := 110) hx hb dX12_count_1 (by rw [c_4]; decide) (by rw [c_4]; decide) (by rw [c_4]; rfl) (by decide) ?_
    refine lv_aload_n hx hb dX12_count_110 rfl (lv_at hl 0 rfl) ?_
    refine va_get (v := .ref (ad_m 35)) (C := RX12) (T := TX12) (N := 75) (ci := 11) hx hb hts in_X12 hown hK.1 hW.1 0 rfl rfl 35 (by decide) (hts _ q1671) (fun _ h9 => h9) rfl dX12_count_111 ?_
    refine lv_aload_n hx hb dX12_count_114 rfl (lv_at hl 0 rfl) ?_
    refine va_get (v := .int (nI lv)) (C := RX12) (T := TX12) (N := 75) (ci := 11) hx hb hts in_X12 hown hK.1 hW.1 0 rfl rfl 18 (by decide) (hts _ q1654) (fun _ h9 => h9) rfl dX12_count_115 ?_
    refine z_iald (v := nI (cn 3)) (f := g_m 35) (j := lv) hx hb hK.1 hW.1 22 0 rfl rfl (vp_in_nI (n := lv) (by omega) (by decide)) (nI_clamp (n := lv) (by omega)) (TM.c35 hTM) dX12_count_118 ?_
    refine z_ireti ((g_m 60, g_m 61 0, g_m 62) : (Nat → Int32) × (Int32) × (Nat → Int32)) hx hb hr hlocks rfl hW rfl dX12_count_119 ?_
    show (nI (cn 3)) = countO cn σ tp un tc hd wx
    simp [countO, c_4]
  by_cases c_5 : wx = (4 : Int32)
  · refine lv_tableIn (off := 119) (tgt := 120) hx hb dX12_count_1 (by rw [c_5]; decide) (by rw [c_5]; decide) (by rw [c_5]; rfl) (by decide) ?_
    refine lv_aload_n hx hb dX12_count_120 rfl (lv_at hl 0 rfl) ?_
    refine va_get (v := .ref (ad_m 59)) (C := RX12) (T := TX12) (N := 75) (ci := 11) hx hb hts in_X12 hown hK.1 hW.1 0 rfl rfl 59 (by decide) (hts _ q1695) (fun _ h9 => h9) rfl dX12_count_121 ?_
    refine lv_bipush (v := 110) hx hb dX12_count_124 (by decide) ?_
    refine lv_iload_n hx hb dX12_count_126 rfl (lv_at hl 1 rfl) ?_
    refine lv_topi (nm_r (e' := 4) c_5 ?_)
    refine lv_iadd hx hb dX12_count_127 ?_
    refine lv_topi (nm_r (e' := 114) (by decide) ?_)
    refine z_iald (v := σ 13 0) (f := g_m 59) (j := 114) hx hb hK.1 hW.1 42 0 rfl rfl (vp_in_nI (n := 114) (by omega) (by decide)) (by decide) (MR.s13 hKN.mr) dX12_count_128 ?_
    refine z_ireti ((g_m 60, g_m 61 0, g_m 62) : (Nat → Int32) × (Int32) × (Nat → Int32)) hx hb hr hlocks rfl hW rfl dX12_count_129 ?_
    show (σ 13 0) = countO cn σ tp un tc hd wx
    simp [countO, c_5]
  by_cases c_6 : wx = (5 : Int32)
  · refine lv_tableIn (off := 119) (tgt := 120) hx hb dX12_count_1 (by rw [c_6]; decide) (by rw [c_6]; decide) (by rw [c_6]; rfl) (by decide) ?_
    refine lv_aload_n hx hb dX12_count_120 rfl (lv_at hl 0 rfl) ?_
    refine va_get (v := .ref (ad_m 59)) (C := RX12) (T := TX12) (N := 75) (ci := 11) hx hb hts in_X12 hown hK.1 hW.1 0 rfl rfl 59 (by decide) (hts _ q1695) (fun _ h9 => h9) rfl dX12_count_121 ?_
    refine lv_bipush (v := 110) hx hb dX12_count_124 (by decide) ?_
    refine lv_iload_n hx hb dX12_count_126 rfl (lv_at hl 1 rfl) ?_
    refine lv_topi (nm_r (e' := 5) c_6 ?_)
    refine lv_iadd hx hb dX12_count_127 ?_
    refine lv_topi (nm_r (e' := 115) (by decide) ?_)
    refine z_iald (v := σ 14 0) (f := g_m 59) (j := 115) hx hb hK.1 hW.1 42 0 rfl rfl (vp_in_nI (n := 115) (by omega) (by decide)) (by decide) (MR.s14 hKN.mr) dX12_count_128 ?_
    refine z_ireti ((g_m 60, g_m 61 0, g_m 62) : (Nat → Int32) × (Int32) × (Nat → Int32)) hx hb hr hlocks rfl hW rfl dX12_count_129 ?_
    show (σ 14 0) = countO cn σ tp un tc hd wx
    simp [countO, c_6]
  by_cases c_7 : wx = (6 : Int32)
  · refine lv_tableIn (off := 119) (tgt := 120) hx hb dX12_count_1 (by rw [c_7]; decide) (by rw [c_7]; decide) (by rw [c_7]; rfl) (by decide) ?_
    refine lv_aload_n hx hb dX12_count_120 rfl (lv_at hl 0 rfl) ?_
    refine va_get (v := .ref (ad_m 59)) (C := RX12) (T := TX12) (N := 75) (ci := 11) hx hb hts in_X12 hown hK.1 hW.1 0 rfl rfl 59 (by decide) (hts _ q1695) (fun _ h9 => h9) rfl dX12_count_121 ?_
    refine lv_bipush (v := 110) hx hb dX12_count_124 (by decide) ?_
    refine lv_iload_n hx hb dX12_count_126 rfl (lv_at hl 1 rfl) ?_
    refine lv_topi (nm_r (e' := 6) c_7 ?_)
    refine lv_iadd hx hb dX12_count_127 ?_
    refine lv_topi (nm_r (e' := 116) (by decide) ?_)
    refine z_iald (v := σ 15 0) (f := g_m 59) (j := 116) hx hb hK.1 hW.1 42 0 rfl rfl (vp_in_nI (n := 116) (by omega) (by decide)) (by decide) (MR.s15 hKN.mr) dX12_count_128 ?_
    refine z_ireti ((g_m 60, g_m 61 0, g_m 62) : (Nat → Int32) × (Int32) × (Nat → Int32)) hx hb hr hlocks rfl hW rfl dX12_count_129 ?_
    show (σ 15 0) = countO cn σ tp un tc hd wx
    simp [countO, c_7]
  by_cases c_8 : wx = (7 : Int32)
  · refine lv_tableIn (off := 119) (tgt := 120) hx hb dX12_count_1 (by rw [c_8]; decide) (by rw [c_8]; decide) (by rw [c_8]; rfl) (by decide) ?_
    refine lv_aload_n hx hb dX12_count_120 rfl (lv_at hl 0 rfl) ?_
    refine va_get (v := .ref (ad_m 59)) (C := RX12) (T := TX12) (N := 75) (ci := 11) hx hb hts in_X12 hown hK.1 hW.1 0 rfl rfl 59 (by decide) (hts _ q1695) (fun _ h9 => h9) rfl dX12_count_121 ?_
    refine lv_bipush (v := 110) hx hb dX12_count_124 (by decide) ?_
    refine lv_iload_n hx hb dX12_count_126 rfl (lv_at hl 1 rfl) ?_
    refine lv_topi (nm_r (e' := 7) c_8 ?_)
    refine lv_iadd hx hb dX12_count_127 ?_
    refine lv_topi (nm_r (e' := 117) (by decide) ?_)
    refine z_iald (v := σ 16 0) (f := g_m 59) (j := 117) hx hb hK.1 hW.1 42 0 rfl rfl (vp_in_nI (n := 117) (by omega) (by decide)) (by decide) (MR.s16 hKN.mr) dX12_count_128 ?_
    refine z_ireti ((g_m 60, g_m 61 0, g_m 62) : (Nat → Int32) × (Int32) × (Nat → Int32)) hx hb hr hlocks rfl hW rfl dX12_count_129 ?_
    show (σ 16 0) = countO cn σ tp un tc hd wx
    simp [countO, c_8]
  by_cases c_9 : wx = (8 : Int32)
  · refine lv_tableIn (off := 129) (tgt := 130) hx hb dX12_count_1 (by rw [c_9]; decide) (by rw [c_9]; decide) (by rw [c_9]; rfl) (by decide) ?_
    refine lv_iconst (v := 0) hx hb dX12_count_130 (by decide) ?_
    refine lv_istore_n (lv' := [(2, .int 0), (0, .ref (ad_m 0)), (1, .int wx)]) hx hb dX12_count_131 rfl hl (by decide) rfl (fun ls hl => ?_)
    refine lv_iconst (v := 0) hx hb dX12_count_132 (by decide) ?_
    refine lv_istore_n (lv' := [(3, .int 0), (2, .int 0), (0, .ref (ad_m 0)), (1, .int wx)]) hx hb dX12_count_133 rfl hl (by decide) rfl (fun ls hl => ?_)
    have loop_134 : ∀ (n : Nat) (rr : Nat) (v2_134 : Int32), cn 2 - rr < n → (rr ≤ cn 2) → (v2_134 = homesTo σ rr) → ∀ (H : Heap) (locs : List Loc), zW D A s.heap H locs (wj [(mw Y ad_m (sA 68 (fun _ => nI tc) (sA 64 (fun _ => nI un) (sA 18 (fun _ => nI lv) (sA 2 (fun _ => nI tp) g_m)))) w_m)]) → ∀ (ls : Array Slot), lv_has ls 4 [(3, .int (nI rr)), (2, .int v2_134), (0, .ref (ad_m 0)), (1, .int wx)] → W p l e (headSpec (ws_ yX12_count cX12_count 4 (some .int)) ({ frames := 3, cells := 0, slots := 0, locals := 54 })).room s m ([.ref (ad_m 0), .int wx] : List Value).toArray below meth c H locs 0 0 (MQ below (va_Qi (fun (r : Int32) (u : (Nat → Int32) × (Int32) × (Nat → Int32)) => r = countO cn σ tp un tc hd wx) (zB D (fun (u : (Nat → Int32) × (Int32) × (Nat → Int32)) => (wj [(mw Y ad_m (sA 68 (fun _ => nI tc) (sA 64 (fun _ => nI un) (sA 62 u.2.2 (sA 61 (fun _ => u.2.1) (sA 60 u.1 (sA 18 (fun _ => nI lv) (sA 2 (fun _ => nI tp) g_m))))))) w_m)])) A) A) ([.ref (ad_m 0), .int wx] : List Value).toArray s 0 0 A) (F0 m 134 ls []) := by
      intro n
      induction n with
      | zero =>
        intro rr v2_134 hmz
        exact absurd hmz (Nat.not_lt_zero _)
      | succ n ih =>
        intro rr v2_134 hm_134 hi hv2 H locs hW ls hl
        have ih_134 := ih
        clear ih
        refine lv_iload_n hx hb dX12_count_134 rfl (lv_at hl 0 rfl) ?_
        refine lv_aload_n hx hb dX12_count_135 rfl (lv_at hl 2 rfl) ?_
        refine va_get (v := .ref (ad_m 30)) (C := RX12) (T := TX12) (N := 75) (ci := 11) hx hb hts in_X12 hown hK.1 hW.1 0 rfl rfl 30 (by decide) (hts _ q1666) (fun _ h9 => h9) rfl dX12_count_136 ?_
        refine lv_aload_n hx hb dX12_count_139 rfl (lv_at hl 2 rfl) ?_
        refine va_get (v := .int (nI lv)) (C := RX12) (T := TX12) (N := 75) (ci := 11) hx hb hts in_X12 hown hK.1 hW.1 0 rfl rfl 18 (by decide) (hts _ q1654) (fun _ h9 => h9) rfl dX12_count_140 ?_
        refine z_iald (v := nI (cn 2)) (f := g_m 30) (j := lv) hx hb hK.1 hW.1 17 0 rfl rfl (vp_in_nI (n := lv) (by omega) (by decide)) (nI_clamp (n := lv) (by omega)) (TM.c30 hTM) dX12_count_143 ?_
        refine lv_icmp_ge (tgt := 172) hx hb dX12_count_144 (by decide) (fun c_10 => ?_) (fun c_10 => ?_)
        · have c_10 : cn 2 ≤ rr := (nI_leI (a := cn 2) (b := rr) (by omega) (by omega)).mp c_10
          refine lv_iload_n hx hb dX12_count_172 rfl (lv_at hl 1 rfl) ?_
          refine z_ireti ((g_m 60, g_m 61 0, g_m 62) : (Nat → Int32) × (Int32) × (Nat → Int32)) hx hb hr hlocks rfl hW rfl dX12_count_173 ?_
          show v2_134 = countO cn σ tp un tc hd wx
          have er : rr = cn 2 := by omega
          rw [hv2, er]
          simp [countO, c_9]
        · have c_10 : ¬ (cn 2 ≤ rr) := fun hz_ => c_10 ((nI_leI (a := cn 2) (b := rr) (by omega) (by omega)).mpr hz_)
          refine lv_aload_n hx hb dX12_count_147 rfl (lv_at hl 2 rfl) ?_
          refine va_get (v := .ref (ad_m 59)) (C := RX12) (T := TX12) (N := 75) (ci := 11) hx hb hts in_X12 hown hK.1 hW.1 0 rfl rfl 59 (by decide) (hts _ q1695) (fun _ h9 => h9) rfl dX12_count_148 ?_
          refine lv_bipush (v := 42) hx hb dX12_count_151 (by decide) ?_
          refine lv_iload_n hx hb dX12_count_153 rfl (lv_at hl 0 rfl) ?_
          refine lv_iadd hx hb dX12_count_154 ?_
          refine lv_topi (nm_r (e' := nI (42 + rr)) (nI_add 42 rr) ?_)
          refine z_iald (v := σ 3 rr) (f := g_m 59) (j := 42 + rr) hx hb hK.1 hW.1 42 0 rfl rfl (vp_in_nI (n := 42 + rr) (by omega) (by decide)) (nI_clamp (n := 42 + rr) (by omega)) (MR.r3 hKN.mr (r := rr) (by omega)) dX12_count_155 ?_
          refine lv_iconst (v := 3) hx hb dX12_count_156 (by decide) ?_
          refine lv_icmp_ne (tgt := 166) hx hb dX12_count_157 (by decide) (fun c_11 => ?_) (fun c_11 => ?_)
          · have hn3 := c_11
            refine lv_iinc (v := nI (rr + 1)) (lv' := [(3, .int (nI (rr + 1))), (2, .int v2_134), (0, .ref (ad_m 0)), (1, .int wx)]) hx hb dX12_count_166 hl (k := 0) rfl (nI_add rr 1) (by decide) rfl (fun ls hl => ?_)
            refine lv_goto (tgt := 134) hx hb dX12_count_169 (by decide) ?_
            exact ih_134 (rr + 1) v2_134 (by omega) (by omega) (by simp only [homesTo]; rw [hv2]; first | exact (zi_f hn3 _ _).symm | exact (zi_t hy3 _ _).symm) _ _ hW _ (lv_sub hl [0, 1, 2, 3] rfl)
          · have hy3 := c_11
            refine lv_iload_n hx hb dX12_count_160 rfl (lv_at hl 1 rfl) ?_
            refine lv_iconst (v := 1) hx hb dX12_count_161 (by decide) ?_
            refine lv_iload_n hx hb dX12_count_162 rfl (lv_at hl 0 rfl) ?_
            refine lv_ishl hx hb dX12_count_163 ?_
            refine lv_ior hx hb dX12_count_164 ?_
            refine lv_istore_n (lv' := [(2, .int (v2_134 ||| (1 <<< ((nI rr) &&& 31)))), (3, .int (nI rr)), (0, .ref (ad_m 0)), (1, .int wx)]) hx hb dX12_count_165 rfl hl (by decide) rfl (fun ls hl => ?_)
            refine lv_iinc (v := nI (rr + 1)) (lv' := [(3, .int (nI (rr + 1))), (2, .int (v2_134 ||| (1 <<< ((nI rr) &&& 31)))), (0, .ref (ad_m 0)), (1, .int wx)]) hx hb dX12_count_166 hl (k := 1) rfl (nI_add rr 1) (by decide) rfl (fun ls hl => ?_)
            refine lv_goto (tgt := 134) hx hb dX12_count_169 (by decide) ?_
            exact ih_134 (rr + 1) (v2_134 ||| (1 <<< ((nI rr) &&& 31))) (by omega) (by omega) (by simp only [homesTo]; rw [hv2]; first | exact (zi_f hn3 _ _).symm | exact (zi_t hy3 _ _).symm) _ _ hW _ (lv_sub hl [0, 1, 2, 3] rfl)
    exact loop_134 _ 0 0 (Nat.lt_succ_self _) (by omega) (by rfl) _ _ hW _ (lv_sub hl [0, 1, 2, 3] rfl)
  by_cases c_12 : wx = (9 : Int32)
  · refine lv_tableIn (off := 173) (tgt := 174) hx hb dX12_count_1 (by rw [c_12]; decide) (by rw [c_12]; decide) (by rw [c_12]; rfl) (by decide) ?_
    refine lv_aload_n hx hb dX12_count_174 rfl (lv_at hl 0 rfl) ?_
    refine va_get (v := .ref (ad_m 59)) (C := RX12) (T := TX12) (N := 75) (ci := 11) hx hb hts in_X12 hown hK.1 hW.1 0 rfl rfl 59 (by decide) (hts _ q1695) (fun _ h9 => h9) rfl dX12_count_175 ?_
    refine lv_bipush (v := 118) hx hb dX12_count_178 (by decide) ?_
    refine z_iald (v := σ 12 0) (f := g_m 59) (j := 118) hx hb hK.1 hW.1 42 0 rfl rfl (vp_in_nI (n := 118) (by omega) (by decide)) (by decide) (MR.s12 hKN.mr) dX12_count_180 ?_
    refine z_ireti ((g_m 60, g_m 61 0, g_m 62) : (Nat → Int32) × (Int32) × (Nat → Int32)) hx hb hr hlocks rfl hW rfl dX12_count_181 ?_
    show (σ 12 0) = countO cn σ tp un tc hd wx
    simp [countO, c_12]
  by_cases c_13 : wx = (10 : Int32)
  · refine lv_tableIn (off := 181) (tgt := 182) hx hb dX12_count_1 (by rw [c_13]; decide) (by rw [c_13]; decide) (by rw [c_13]; rfl) (by decide) ?_
    refine lv_aload_n hx hb dX12_count_182 rfl (lv_at hl 0 rfl) ?_
    refine va_get (v := .ref (ad_m 59)) (C := RX12) (T := TX12) (N := 75) (ci := 11) hx hb hts in_X12 hown hK.1 hW.1 0 rfl rfl 59 (by decide) (hts _ q1695) (fun _ h9 => h9) rfl dX12_count_183 ?_
    refine lv_bipush (v := 119) hx hb dX12_count_186 (by decide) ?_
    refine z_iald (v := σ 17 0) (f := g_m 59) (j := 119) hx hb hK.1 hW.1 42 0 rfl rfl (vp_in_nI (n := 119) (by omega) (by decide)) (by decide) (MR.s17 hKN.mr) dX12_count_188 ?_
    refine z_ireti ((g_m 60, g_m 61 0, g_m 62) : (Nat → Int32) × (Int32) × (Nat → Int32)) hx hb hr hlocks rfl hW rfl dX12_count_189 ?_
    show (σ 17 0) = countO cn σ tp un tc hd wx
    simp [countO, c_13]
  by_cases c_14 : wx = (11 : Int32)
  · refine lv_tableIn (off := 189) (tgt := 190) hx hb dX12_count_1 (by rw [c_14]; decide) (by rw [c_14]; decide) (by rw [c_14]; rfl) (by decide) ?_
    refine lv_aload_n hx hb dX12_count_190 rfl (lv_at hl 0 rfl) ?_
    refine va_get (v := .int (nI tp)) (C := RX12) (T := TX12) (N := 75) (ci := 11) hx hb hts in_X12 hown hK.1 hW.1 0 rfl rfl 2 (by decide) (hts _ q1638) (fun _ h9 => h9) rfl dX12_count_191 ?_
    refine z_ireti ((g_m 60, g_m 61 0, g_m 62) : (Nat → Int32) × (Int32) × (Nat → Int32)) hx hb hr hlocks rfl hW rfl dX12_count_194 ?_
    show (nI tp) = countO cn σ tp un tc hd wx
    simp [countO, c_14]
  by_cases c_15 : wx = (12 : Int32)
  · refine lv_tableIn (off := 194) (tgt := 195) hx hb dX12_count_1 (by rw [c_15]; decide) (by rw [c_15]; decide) (by rw [c_15]; rfl) (by decide) ?_
    refine lv_aload_n hx hb dX12_count_195 rfl (lv_at hl 0 rfl) ?_
    refine va_get (v := .int (nI un)) (C := RX12) (T := TX12) (N := 75) (ci := 11) hx hb hts in_X12 hown hK.1 hW.1 0 rfl rfl 64 (by decide) (hts _ q1700) (fun _ h9 => h9) rfl dX12_count_196 ?_
    refine z_ireti ((g_m 60, g_m 61 0, g_m 62) : (Nat → Int32) × (Int32) × (Nat → Int32)) hx hb hr hlocks rfl hW rfl dX12_count_199 ?_
    show (nI un) = countO cn σ tp un tc hd wx
    simp [countO, c_15]
  by_cases c_16 : wx = (13 : Int32)
  · refine lv_tableIn (off := 199) (tgt := 200) hx hb dX12_count_1 (by rw [c_16]; decide) (by rw [c_16]; decide) (by rw [c_16]; rfl) (by decide) ?_
    refine lv_aload_n hx hb dX12_count_200 rfl (lv_at hl 0 rfl) ?_
    refine va_get (v := .int (nI tc)) (C := RX12) (T := TX12) (N := 75) (ci := 11) hx hb hts in_X12 hown hK.1 hW.1 0 rfl rfl 68 (by decide) (hts _ q1704) (fun _ h9 => h9) rfl dX12_count_201 ?_
    refine z_ireti ((g_m 60, g_m 61 0, g_m 62) : (Nat → Int32) × (Int32) × (Nat → Int32)) hx hb hr hlocks rfl hW rfl dX12_count_204 ?_
    show (nI tc) = countO cn σ tp un tc hd wx
    simp [countO, c_16]
  by_cases c_17 : wx = (14 : Int32)
  · refine lv_tableIn (off := 204) (tgt := 205) hx hb dX12_count_1 (by rw [c_17]; decide) (by rw [c_17]; decide) (by rw [c_17]; rfl) (by decide) ?_
    refine lv_aload_n hx hb dX12_count_205 rfl (lv_at hl 0 rfl) ?_
    refine va_get (v := .ref (ad_m 73)) (C := RX12) (T := TX12) (N := 75) (ci := 11) hx hb hts in_X12 hown hK.1 hW.1 0 rfl rfl 73 (by decide) (hts _ q1709) (fun _ h9 => h9) rfl dX12_count_206 ?_
    refine lv_iconst (v := 0) hx hb dX12_count_209 (by decide) ?_
    refine z_zald (v := (g_m 73) 0) (f := g_m 73) (j := 0) hx hb hK.1 hW.1 51 2 rfl rfl (vp_in_nI (n := 0) (by omega) (by decide)) (by decide) rfl dX12_count_210 ?_
    refine lv_if_eq (tgt := 218) hx hb dX12_count_211 (by decide) (fun c_18 => ?_) (fun c_18 => ?_)
    · have z0 := c_18
      refine lv_iconst (v := 0) hx hb dX12_count_218 (by decide) ?_
      refine lv_aload_n hx hb dX12_count_219 rfl (lv_at hl 0 rfl) ?_
      refine va_get (v := .ref (ad_m 73)) (C := RX12) (T := TX12) (N := 75) (ci := 11) hx hb hts in_X12 hown hK.1 hW.1 0 rfl rfl 73 (by decide) (hts _ q1709) (fun _ h9 => h9) rfl dX12_count_220 ?_
      refine lv_iconst (v := 1) hx hb dX12_count_223 (by decide) ?_
      refine z_zald (v := (g_m 73) 1) (f := g_m 73) (j := 1) hx hb hK.1 hW.1 51 2 rfl rfl (vp_in_nI (n := 1) (by omega) (by decide)) (by decide) rfl dX12_count_224 ?_
      refine lv_if_eq (tgt := 232) hx hb dX12_count_225 (by decide) (fun c_19 => ?_) (fun c_19 => ?_)
      · have z1 := c_19
        refine lv_iconst (v := 0) hx hb dX12_count_232 (by decide) ?_
        refine lv_iadd hx hb dX12_count_233 ?_
        refine lv_topi (nm_r (e' := 0) (by decide) ?_)
        refine lv_aload_n hx hb dX12_count_234 rfl (lv_at hl 0 rfl) ?_
        refine va_get (v := .ref (ad_m 73)) (C := RX12) (T := TX12) (N := 75) (ci := 11) hx hb hts in_X12 hown hK.1 hW.1 0 rfl rfl 73 (by decide) (hts _ q1709) (fun _ h9 => h9) rfl dX12_count_235 ?_
        refine lv_iconst (v := 2) hx hb dX12_count_238 (by decide) ?_
        refine z_zald (v := (g_m 73) 2) (f := g_m 73) (j := 2) hx hb hK.1 hW.1 51 2 rfl rfl (vp_in_nI (n := 2) (by omega) (by decide)) (by decide) rfl dX12_count_239 ?_
        refine lv_if_eq (tgt := 247) hx hb dX12_count_240 (by decide) (fun c_20 => ?_) (fun c_20 => ?_)
        · have z2 := c_20
          refine lv_iconst (v := 0) hx hb dX12_count_247 (by decide) ?_
          refine lv_iadd hx hb dX12_count_248 ?_
          refine lv_topi (nm_r (e' := 0) (by decide) ?_)
          refine z_ireti ((g_m 60, g_m 61 0, g_m 62) : (Nat → Int32) × (Int32) × (Nat → Int32)) hx hb hr hlocks rfl hW rfl dX12_count_249 ?_
          show 0 = countO cn σ tp un tc hd wx
          simp only [countO, c_17]
          have q0 := (hHD 0 (by omega)).1
          have q1 := (hHD 1 (by omega)).1
          have q2 := (hHD 2 (by omega)).1
          have eh : heldN hd = (g_m 73) 0 + (g_m 73) 1 + (g_m 73) 2 := by unfold heldN; rw [← q0, ← q1, ← q2]
          have f0 := held_one hHD (s := 0) (by omega)
          have f1 := held_one hHD (s := 1) (by omega)
          have f2 := held_one hHD (s := 2) (by omega)
          simp [eh]
          first | rw [z0] | rw [f0 z0]
          first | rw [z1] | rw [f1 z1]
          first | rw [z2] | rw [f2 z2]
          rfl
        · have z2 := c_20
          refine lv_iconst (v := 1) hx hb dX12_count_243 (by decide) ?_
          refine lv_goto (tgt := 248) hx hb dX12_count_244 (by decide) ?_
          refine lv_iadd hx hb dX12_count_248 ?_
          refine lv_topi (nm_r (e' := 1) (by decide) ?_)
          refine z_ireti ((g_m 60, g_m 61 0, g_m 62) : (Nat → Int32) × (Int32) × (Nat → Int32)) hx hb hr hlocks rfl hW rfl dX12_count_249 ?_
          show 1 = countO cn σ tp un tc hd wx
          simp only [countO, c_17]
          have q0 := (hHD 0 (by omega)).1
          have q1 := (hHD 1 (by omega)).1
          have q2 := (hHD 2 (by omega)).1
          have eh : heldN hd = (g_m 73) 0 + (g_m 73) 1 + (g_m 73) 2 := by unfold heldN; rw [← q0, ← q1, ← q2]
          have f0 := held_one hHD (s := 0) (by omega)
          have f1 := held_one hHD (s := 1) (by omega)
          have f2 := held_one hHD (s := 2) (by omega)
          simp [eh]
          first | rw [z0] | rw [f0 z0]
          first | rw [z1] | rw [f1 z1]
          first | rw [z2] | rw [f2 z2]
          rfl
      · have z1 := c_19
        refine lv_iconst (v := 1) hx hb dX12_count_228 (by decide) ?_
        refine lv_goto (tgt := 233) hx hb dX12_count_229 (by decide) ?_
        refine lv_iadd hx hb dX12_count_233 ?_
        refine lv_topi (nm_r (e' := 1) (by decide) ?_)
        refine lv_aload_n hx hb dX12_count_234 rfl (lv_at hl 0 rfl) ?_
        refine va_get (v := .ref (ad_m 73)) (C := RX12) (T := TX12) (N := 75) (ci := 11) hx hb hts in_X12 hown hK.1 hW.1 0 rfl rfl 73 (by decide) (hts _ q1709) (fun _ h9 => h9) rfl dX12_count_235 ?_
        refine lv_iconst (v := 2) hx hb dX12_count_238 (by decide) ?_
        refine z_zald (v := (g_m 73) 2) (f := g_m 73) (j := 2) hx hb hK.1 hW.1 51 2 rfl rfl (vp_in_nI (n := 2) (by omega) (by decide)) (by decide) rfl dX12_count_239 ?_
        refine lv_if_eq (tgt := 247) hx hb dX12_count_240 (by decide) (fun c_21 => ?_) (fun c_21 => ?_)
        · have z2 := c_21
          refine lv_iconst (v := 0) hx hb dX12_count_247 (by decide) ?_
          refine lv_iadd hx hb dX12_count_248 ?_
          refine lv_topi (nm_r (e' := 1) (by decide) ?_)
          refine z_ireti ((g_m 60, g_m 61 0, g_m 62) : (Nat → Int32) × (Int32) × (Nat → Int32)) hx hb hr hlocks rfl hW rfl dX12_count_249 ?_
          show 1 = countO cn σ tp un tc hd wx
          simp only [countO, c_17]
          have q0 := (hHD 0 (by omega)).1
          have q1 := (hHD 1 (by omega)).1
          have q2 := (hHD 2 (by omega)).1
          have eh : heldN hd = (g_m 73) 0 + (g_m 73) 1 + (g_m 73) 2 := by unfold heldN; rw [← q0, ← q1, ← q2]
          have f0 := held_one hHD (s := 0) (by omega)
          have f1 := held_one hHD (s := 1) (by omega)
          have f2 := held_one hHD (s := 2) (by omega)
          simp [eh]
          first | rw [z0] | rw [f0 z0]
          first | rw [z1] | rw [f1 z1]
          first | rw [z2] | rw [f2 z2]
          rfl
        · have z2 := c_21
          refine lv_iconst (v := 1) hx hb dX12_count_243 (by decide) ?_
          refine lv_goto (tgt := 248) hx hb dX12_count_244 (by decide) ?_
          refine lv_iadd hx hb dX12_count_248 ?_
          refine lv_topi (nm_r (e' := 2) (by decide) ?_)
          refine z_ireti ((g_m 60, g_m 61 0, g_m 62) : (Nat → Int32) × (Int32) × (Nat → Int32)) hx hb hr hlocks rfl hW rfl dX12_count_249 ?_
          show 2 = countO cn σ tp un tc hd wx
          simp only [countO, c_17]
          have q0 := (hHD 0 (by omega)).1
          have q1 := (hHD 1 (by omega)).1
          have q2 := (hHD 2 (by omega)).1
          have eh : heldN hd = (g_m 73) 0 + (g_m 73) 1 + (g_m 73) 2 := by unfold heldN; rw [← q0, ← q1, ← q2]
          have f0 := held_one hHD (s := 0) (by omega)
          have f1 := held_one hHD (s := 1) (by omega)
          have f2 := held_one hHD (s := 2) (by omega)
          simp [eh]
          first | rw [z0] | rw [f0 z0]
          first | rw [z1] | rw [f1 z1]
          first | rw [z2] | rw [f2 z2]
          rfl
    · have z0 := c_18
      refine lv_iconst (v := 1) hx hb dX12_count_214 (by decide) ?_
      refine lv_goto (tgt := 219) hx hb dX12_count_215 (by decide) ?_
      refine lv_aload_n hx hb dX12_count_219 rfl (lv_at hl 0 rfl) ?_
      refine va_get (v := .ref (ad_m 73)) (C := RX12) (T := TX12) (N := 75) (ci := 11) hx hb hts in_X12 hown hK.1 hW.1 0 rfl rfl 73 (by decide) (hts _ q1709) (fun _ h9 => h9) rfl dX12_count_220 ?_
      refine lv_iconst (v := 1) hx hb dX12_count_223 (by decide) ?_
      refine z_zald (v := (g_m 73) 1) (f := g_m 73) (j := 1) hx hb hK.1 hW.1 51 2 rfl rfl (vp_in_nI (n := 1) (by omega) (by decide)) (by decide) rfl dX12_count_224 ?_
      refine lv_if_eq (tgt := 232) hx hb dX12_count_225 (by decide) (fun c_22 => ?_) (fun c_22 => ?_)
      · have z1 := c_22
        refine lv_iconst (v := 0) hx hb dX12_count_232 (by decide) ?_
        refine lv_iadd hx hb dX12_count_233 ?_
        refine lv_topi (nm_r (e' := 1) (by decide) ?_)
        refine lv_aload_n hx hb dX12_count_234 rfl (lv_at hl 0 rfl) ?_
        refine va_get (v := .ref (ad_m 73)) (C := RX12) (T := TX12) (N := 75) (ci := 11) hx hb hts in_X12 hown hK.1 hW.1 0 rfl rfl 73 (by decide) (hts _ q1709) (fun _ h9 => h9) rfl dX12_count_235 ?_
        refine lv_iconst (v := 2) hx hb dX12_count_238 (by decide) ?_
        refine z_zald (v := (g_m 73) 2) (f := g_m 73) (j := 2) hx hb hK.1 hW.1 51 2 rfl rfl (vp_in_nI (n := 2) (by omega) (by decide)) (by decide) rfl dX12_count_239 ?_
        refine lv_if_eq (tgt := 247) hx hb dX12_count_240 (by decide) (fun c_23 => ?_) (fun c_23 => ?_)
        · have z2 := c_23
          refine lv_iconst (v := 0) hx hb dX12_count_247 (by decide) ?_
          refine lv_iadd hx hb dX12_count_248 ?_
          refine lv_topi (nm_r (e' := 1) (by decide) ?_)
          refine z_ireti ((g_m 60, g_m 61 0, g_m 62) : (Nat → Int32) × (Int32) × (Nat → Int32)) hx hb hr hlocks rfl hW rfl dX12_count_249 ?_
          show 1 = countO cn σ tp un tc hd wx
          simp only [countO, c_17]
          have q0 := (hHD 0 (by omega)).1
          have q1 := (hHD 1 (by omega)).1
          have q2 := (hHD 2 (by omega)).1
          have eh : heldN hd = (g_m 73) 0 + (g_m 73) 1 + (g_m 73) 2 := by unfold heldN; rw [← q0, ← q1, ← q2]
          have f0 := held_one hHD (s := 0) (by omega)
          have f1 := held_one hHD (s := 1) (by omega)
          have f2 := held_one hHD (s := 2) (by omega)
          simp [eh]
          first | rw [z0] | rw [f0 z0]
          first | rw [z1] | rw [f1 z1]
          first | rw [z2] | rw [f2 z2]
          rfl
        · have z2 := c_23
          refine lv_iconst (v := 1) hx hb dX12_count_243 (by decide) ?_
          refine lv_goto (tgt := 248) hx hb dX12_count_244 (by decide) ?_
          refine lv_iadd hx hb dX12_count_248 ?_
          refine lv_topi (nm_r (e' := 2) (by decide) ?_)
          refine z_ireti ((g_m 60, g_m 61 0, g_m 62) : (Nat → Int32) × (Int32) × (Nat → Int32)) hx hb hr hlocks rfl hW rfl dX12_count_249 ?_
          show 2 = countO cn σ tp un tc hd wx
          simp only [countO, c_17]
          have q0 := (hHD 0 (by omega)).1
          have q1 := (hHD 1 (by omega)).1
          have q2 := (hHD 2 (by omega)).1
          have eh : heldN hd = (g_m 73) 0 + (g_m 73) 1 + (g_m 73) 2 := by unfold heldN; rw [← q0, ← q1, ← q2]
          have f0 := held_one hHD (s := 0) (by omega)
          have f1 := held_one hHD (s := 1) (by omega)
          have f2 := held_one hHD (s := 2) (by omega)
          simp [eh]
          first | rw [z0] | rw [f0 z0]
          first | rw [z1] | rw [f1 z1]
          first | rw [z2] | rw [f2 z2]
          rfl
      · have z1 := c_22
        refine lv_iconst (v := 1) hx hb dX12_count_228 (by decide) ?_
        refine lv_goto (tgt := 233) hx hb dX12_count_229 (by decide) ?_
        refine lv_iadd hx hb dX12_count_233 ?_
        refine lv_topi (nm_r (e' := 2) (by decide) ?_)
        refine lv_aload_n hx hb dX12_count_234 rfl (lv_at hl 0 rfl) ?_
        refine va_get (v := .ref (ad_m 73)) (C := RX12) (T := TX12) (N := 75) (ci := 11) hx hb hts in_X12 hown hK.1 hW.1 0 rfl rfl 73 (by decide) (hts _ q1709) (fun _ h9 => h9) rfl dX12_count_235 ?_
        refine lv_iconst (v := 2) hx hb dX12_count_238 (by decide) ?_
        refine z_zald (v := (g_m 73) 2) (f := g_m 73) (j := 2) hx hb hK.1 hW.1 51 2 rfl rfl (vp_in_nI (n := 2) (by omega) (by decide)) (by decide) rfl dX12_count_239 ?_
        refine lv_if_eq (tgt := 247) hx hb dX12_count_240 (by decide) (fun c_24 => ?_) (fun c_24 => ?_)
        · have z2 := c_24
          refine lv_iconst (v := 0) hx hb dX12_count_247 (by decide) ?_
          refine lv_iadd hx hb dX12_count_248 ?_
          refine lv_topi (nm_r (e' := 2) (by decide) ?_)
          refine z_ireti ((g_m 60, g_m 61 0, g_m 62) : (Nat → Int32) × (Int32) × (Nat → Int32)) hx hb hr hlocks rfl hW rfl dX12_count_249 ?_
          show 2 = countO cn σ tp un tc hd wx
          simp only [countO, c_17]
          have q0 := (hHD 0 (by omega)).1
          have q1 := (hHD 1 (by omega)).1
          have q2 := (hHD 2 (by omega)).1
          have eh : heldN hd = (g_m 73) 0 + (g_m 73) 1 + (g_m 73) 2 := by unfold heldN; rw [← q0, ← q1, ← q2]
          have f0 := held_one hHD (s := 0) (by omega)
          have f1 := held_one hHD (s := 1) (by omega)
          have f2 := held_one hHD (s := 2) (by omega)
          simp [eh]
          first | rw [z0] | rw [f0 z0]
          first | rw [z1] | rw [f1 z1]
          first | rw [z2] | rw [f2 z2]
          rfl
        · have z2 := c_24
          refine lv_iconst (v := 1) hx hb dX12_count_243 (by decide) ?_
          refine lv_goto (tgt := 248) hx hb dX12_count_244 (by decide) ?_
          refine lv_iadd hx hb dX12_count_248 ?_
          refine lv_topi (nm_r (e' := 3) (by decide) ?_)
          refine z_ireti ((g_m 60, g_m 61 0, g_m 62) : (Nat → Int32) × (Int32) × (Nat → Int32)) hx hb hr hlocks rfl hW rfl dX12_count_249 ?_
          show 3 = countO cn σ tp un tc hd wx
          simp only [countO, c_17]
          have q0 := (hHD 0 (by omega)).1
          have q1 := (hHD 1 (by omega)).1
          have q2 := (hHD 2 (by omega)).1
          have eh : heldN hd = (g_m 73) 0 + (g_m 73) 1 + (g_m 73) 2 := by unfold heldN; rw [← q0, ← q1, ← q2]
          have f0 := held_one hHD (s := 0) (by omega)
          have f1 := held_one hHD (s := 1) (by omega)
          have f2 := held_one hHD (s := 2) (by omega)
          simp [eh]
          first | rw [z0] | rw [f0 z0]
          first | rw [z1] | rw [f1 z1]
          first | rw [z2] | rw [f2 z2]
          rfl
  by_cases c_25 : wx = (15 : Int32)
  · refine lv_tableIn (off := 249) (tgt := 250) hx hb dX12_count_1 (by rw [c_25]; decide) (by rw [c_25]; decide) (by rw [c_25]; rfl) (by decide) ?_
    refine lv_aload_n hx hb dX12_count_250 rfl (lv_at hl 0 rfl) ?_
    refine z_callv (wc := wj [(mw Y ad_m (sA 68 (fun _ => nI tc) (sA 64 (fun _ => nI un) (sA 18 (fun _ => nI lv) (sA 2 (fun _ => nI tp) g_m)))) w_m)]) (wr := wj []) (va_runV (As := []) (rest := []) ⟨hx, hb, hml, hown, hts⟩ (m_X12_copies l D Y ad_m (sA 68 (fun _ => nI tc) (sA 64 (fun _ => nI un) (sA 18 (fun _ => nI lv) (sA 2 (fun _ => nI tp) g_m)))) w_m lv cn t lw σ s.heap.size (show lv < 2 from by exact hlv) (show TW cn t lw from by exact hTW) (show TM lv cn t lw (sA 68 (fun _ => nI tc) (sA 64 (fun _ => nI un) (sA 18 (fun _ => nI lv) (sA 2 (fun _ => nI tp) g_m)))) from by exact hTM) (show MR (cn 2) σ (g_m 59) from by exact hKN.mr) (show ∀ h, h < cn 1 → σ 1 h = t 2 h from by exact hF1) (show σ 18 0 = t 12 2 from by exact hF2)) (cwV 0 hts (lw_V q2020 q2022 qs86 q133 q2023) rfl rfl rfl (by decide +kernel) ⟨Nat.le_of_ble_eq_true rfl, Nat.le_of_ble_eq_true rfl⟩) (zPreV hK hW hR (wj_split3 (B := [(mw Y ad_m (sA 68 (fun _ => nI tc) (sA 64 (fun _ => nI un) (sA 18 (fun _ => nI lv) (sA 2 (fun _ => nI tp) g_m)))) w_m)]) (R := []) (C := [(mw Y ad_m (sA 68 (fun _ => nI tc) (sA 64 (fun _ => nI un) (sA 18 (fun _ => nI lv) (sA 2 (fun _ => nI tp) g_m)))) w_m)]) (O := []) (X := []) (List.Perm.refl _)) (va_recv hK.1 hW.1 (ci := 11) (q0 := 0) rfl rfl)) rfl rfl hl.1 rfl (lv_room (Nat.le_of_ble_eq_true rfl)) dX12_count_251 ⟨Nat.le_refl _, Nat.le_refl _⟩) hW hA (wj_split (B := [(mw Y ad_m (sA 68 (fun _ => nI tc) (sA 64 (fun _ => nI un) (sA 18 (fun _ => nI lv) (sA 2 (fun _ => nI tp) g_m)))) w_m)]) (C := [(mw Y ad_m (sA 68 (fun _ => nI tc) (sA 64 (fun _ => nI un) (sA 18 (fun _ => nI lv) (sA 2 (fun _ => nI tp) g_m)))) w_m)]) (R := []) (List.Perm.refl _)) (fun  u H locs hp_27 hW => ?_)
    obtain ⟨urow_28, ulots_29, ufarNow_30⟩ := u
    have hp_27 : RS cn σ urow_28 ufarNow_30 ulots_29 := hp_27
    have hW : zW D A s.heap H locs (wj [(mw Y ad_m (sA 68 (fun _ => nI tc) (sA 64 (fun _ => nI un) (sA 62 ufarNow_30 (sA 61 (fun _ => ulots_29) (sA 60 urow_28 (sA 18 (fun _ => nI lv) (sA 2 (fun _ => nI tp) g_m))))))) w_m)]) := hW.join
    refine lv_aload_n hx hb dX12_count_254 rfl (lv_at hl 0 rfl) ?_
    refine z_calli (wc := wj [(mw Y ad_m (sA 68 (fun _ => nI tc) (sA 64 (fun _ => nI un) (sA 62 ufarNow_30 (sA 61 (fun _ => ulots_29) (sA 60 urow_28 (sA 18 (fun _ => nI lv) (sA 2 (fun _ => nI tp) g_m))))))) w_m)]) (wr := wj []) (va_runV (As := []) (rest := []) ⟨hx, hb, hml, hown, hts⟩ (m_X12_inHeap l D Y ad_m (sA 68 (fun _ => nI tc) (sA 64 (fun _ => nI un) (sA 62 ufarNow_30 (sA 61 (fun _ => ulots_29) (sA 60 urow_28 (sA 18 (fun _ => nI lv) (sA 2 (fun _ => nI tp) g_m))))))) w_m lv cn t lw σ H.size (show lv < 2 from by exact hlv) (show TW cn t lw from by exact hTW) (show TM lv cn t lw (sA 68 (fun _ => nI tc) (sA 64 (fun _ => nI un) (sA 62 ufarNow_30 (sA 61 (fun _ => ulots_29) (sA 60 urow_28 (sA 18 (fun _ => nI lv) (sA 2 (fun _ => nI tp) g_m))))))) from by exact hTM) (show RS cn σ urow_28 ufarNow_30 ulots_29 from by exact hp_27)) (cwV 0 hts (lw_V q2165 q2167 qs105 q133 q2168) rfl rfl rfl (by decide +kernel) ⟨Nat.le_of_ble_eq_true rfl, Nat.le_of_ble_eq_true rfl⟩) (zPreV hK hW hR (wj_split3 (B := [(mw Y ad_m (sA 68 (fun _ => nI tc) (sA 64 (fun _ => nI un) (sA 62 ufarNow_30 (sA 61 (fun _ => ulots_29) (sA 60 urow_28 (sA 18 (fun _ => nI lv) (sA 2 (fun _ => nI tp) g_m))))))) w_m)]) (R := []) (C := [(mw Y ad_m (sA 68 (fun _ => nI tc) (sA 64 (fun _ => nI un) (sA 62 ufarNow_30 (sA 61 (fun _ => ulots_29) (sA 60 urow_28 (sA 18 (fun _ => nI lv) (sA 2 (fun _ => nI tp) g_m))))))) w_m)]) (O := []) (X := []) (List.Perm.refl _)) (va_recv hK.1 hW.1 (ci := 11) (q0 := 0) rfl rfl)) rfl rfl hl.1 rfl (lv_room (Nat.le_of_ble_eq_true rfl)) dX12_count_255 ⟨Nat.le_refl _, Nat.le_refl _⟩) hW hA (wj_split (B := [(mw Y ad_m (sA 68 (fun _ => nI tc) (sA 64 (fun _ => nI un) (sA 62 ufarNow_30 (sA 61 (fun _ => ulots_29) (sA 60 urow_28 (sA 18 (fun _ => nI lv) (sA 2 (fun _ => nI tp) g_m))))))) w_m)]) (C := [(mw Y ad_m (sA 68 (fun _ => nI tc) (sA 64 (fun _ => nI un) (sA 62 ufarNow_30 (sA 61 (fun _ => ulots_29) (sA 60 urow_28 (sA 18 (fun _ => nI lv) (sA 2 (fun _ => nI tp) g_m))))))) w_m)]) (R := []) (List.Perm.refl _)) (fun r_31 u H locs hp_32 hW => ?_)
    have hp_32 : r_31 = inHeapP σ := hp_32
    have hW : zW D A s.heap H locs (wj [(mw Y ad_m (sA 68 (fun _ => nI tc) (sA 64 (fun _ => nI un) (sA 62 ufarNow_30 (sA 61 (fun _ => ulots_29) (sA 60 urow_28 (sA 18 (fun _ => nI lv) (sA 2 (fun _ => nI tp) g_m))))))) w_m)]) := hW.join
    refine lv_aload_n hx hb dX12_count_258 rfl (lv_at hl 0 rfl) ?_
    refine lv_iconst (v := 1) hx hb dX12_count_259 (by decide) ?_
    refine z_calli (wc := wj [(mw Y ad_m (sA 68 (fun _ => nI tc) (sA 64 (fun _ => nI un) (sA 62 ufarNow_30 (sA 61 (fun _ => ulots_29) (sA 60 urow_28 (sA 18 (fun _ => nI lv) (sA 2 (fun _ => nI tp) g_m))))))) w_m)]) (wr := wj []) (va_runV (As := [.int 1]) (rest := [.int r_31]) ⟨hx, hb, hml, hown, hts⟩ (m_X12_inHoles_1 l D Y ad_m (sA 68 (fun _ => nI tc) (sA 64 (fun _ => nI un) (sA 62 ufarNow_30 (sA 61 (fun _ => ulots_29) (sA 60 urow_28 (sA 18 (fun _ => nI lv) (sA 2 (fun _ => nI tp) g_m))))))) w_m lv cn t lw σ H.size (show lv < 2 from by exact hlv) (show TW cn t lw from by exact hTW) (show TM lv cn t lw (sA 68 (fun _ => nI tc) (sA 64 (fun _ => nI un) (sA 62 ufarNow_30 (sA 61 (fun _ => ulots_29) (sA 60 urow_28 (sA 18 (fun _ => nI lv) (sA 2 (fun _ => nI tp) g_m))))))) from by exact hTM) (show RS cn σ urow_28 ufarNow_30 ulots_29 from by exact hp_27)) (cwV 1 hts (lw_V q2169 q2171 qs106 q133 q2172) rfl rfl rfl (by decide +kernel) ⟨Nat.le_of_ble_eq_true rfl, Nat.le_of_ble_eq_true rfl⟩) (zPreV hK hW hR (wj_split3 (B := [(mw Y ad_m (sA 68 (fun _ => nI tc) (sA 64 (fun _ => nI un) (sA 62 ufarNow_30 (sA 61 (fun _ => ulots_29) (sA 60 urow_28 (sA 18 (fun _ => nI lv) (sA 2 (fun _ => nI tp) g_m))))))) w_m)]) (R := []) (C := [(mw Y ad_m (sA 68 (fun _ => nI tc) (sA 64 (fun _ => nI un) (sA 62 ufarNow_30 (sA 61 (fun _ => ulots_29) (sA 60 urow_28 (sA 18 (fun _ => nI lv) (sA 2 (fun _ => nI tp) g_m))))))) w_m)]) (O := []) (X := []) (List.Perm.refl _)) (va_recv hK.1 hW.1 (ci := 11) (q0 := 0) rfl rfl)) rfl rfl hl.1 rfl (lv_room (Nat.le_of_ble_eq_true rfl)) dX12_count_260 ⟨Nat.le_refl _, Nat.le_refl _⟩) hW hA (wj_split (B := [(mw Y ad_m (sA 68 (fun _ => nI tc) (sA 64 (fun _ => nI un) (sA 62 ufarNow_30 (sA 61 (fun _ => ulots_29) (sA 60 urow_28 (sA 18 (fun _ => nI lv) (sA 2 (fun _ => nI tp) g_m))))))) w_m)]) (C := [(mw Y ad_m (sA 68 (fun _ => nI tc) (sA 64 (fun _ => nI un) (sA 62 ufarNow_30 (sA 61 (fun _ => ulots_29) (sA 60 urow_28 (sA 18 (fun _ => nI lv) (sA 2 (fun _ => nI tp) g_m))))))) w_m)]) (R := []) (List.Perm.refl _)) (fun r_33 u H locs hp_34 hW => ?_)
    have hp_34 : r_33 = sortedTo t σ true (cn 1) := hp_34
    have hW : zW D A s.heap H locs (wj [(mw Y ad_m (sA 68 (fun _ => nI tc) (sA 64 (fun _ => nI un) (sA 62 ufarNow_30 (sA 61 (fun _ => ulots_29) (sA 60 urow_28 (sA 18 (fun _ => nI lv) (sA 2 (fun _ => nI tp) g_m))))))) w_m)]) := hW.join
    refine lv_iadd hx hb dX12_count_263 ?_
    refine lv_aload_n hx hb dX12_count_264 rfl (lv_at hl 0 rfl) ?_
    refine lv_iconst (v := 0) hx hb dX12_count_265 (by decide) ?_
    refine z_calli (wc := wj [(mw Y ad_m (sA 68 (fun _ => nI tc) (sA 64 (fun _ => nI un) (sA 62 ufarNow_30 (sA 61 (fun _ => ulots_29) (sA 60 urow_28 (sA 18 (fun _ => nI lv) (sA 2 (fun _ => nI tp) g_m))))))) w_m)]) (wr := wj []) (va_runV (As := [.int 0]) (rest := [.int (r_31 + r_33)]) ⟨hx, hb, hml, hown, hts⟩ (m_X12_inHoles_0 l D Y ad_m (sA 68 (fun _ => nI tc) (sA 64 (fun _ => nI un) (sA 62 ufarNow_30 (sA 61 (fun _ => ulots_29) (sA 60 urow_28 (sA 18 (fun _ => nI lv) (sA 2 (fun _ => nI tp) g_m))))))) w_m lv cn t lw σ H.size (show lv < 2 from by exact hlv) (show TW cn t lw from by exact hTW) (show TM lv cn t lw (sA 68 (fun _ => nI tc) (sA 64 (fun _ => nI un) (sA 62 ufarNow_30 (sA 61 (fun _ => ulots_29) (sA 60 urow_28 (sA 18 (fun _ => nI lv) (sA 2 (fun _ => nI tp) g_m))))))) from by exact hTM) (show RS cn σ urow_28 ufarNow_30 ulots_29 from by exact hp_27)) (cwV 1 hts (lw_V q2169 q2171 qs106 q133 q2172) rfl rfl rfl (by decide +kernel) ⟨Nat.le_of_ble_eq_true rfl, Nat.le_of_ble_eq_true rfl⟩) (zPreV hK hW hR (wj_split3 (B := [(mw Y ad_m (sA 68 (fun _ => nI tc) (sA 64 (fun _ => nI un) (sA 62 ufarNow_30 (sA 61 (fun _ => ulots_29) (sA 60 urow_28 (sA 18 (fun _ => nI lv) (sA 2 (fun _ => nI tp) g_m))))))) w_m)]) (R := []) (C := [(mw Y ad_m (sA 68 (fun _ => nI tc) (sA 64 (fun _ => nI un) (sA 62 ufarNow_30 (sA 61 (fun _ => ulots_29) (sA 60 urow_28 (sA 18 (fun _ => nI lv) (sA 2 (fun _ => nI tp) g_m))))))) w_m)]) (O := []) (X := []) (List.Perm.refl _)) (va_recv hK.1 hW.1 (ci := 11) (q0 := 0) rfl rfl)) rfl rfl hl.1 rfl (lv_room (Nat.le_of_ble_eq_true rfl)) dX12_count_266 ⟨Nat.le_refl _, Nat.le_refl _⟩) hW hA (wj_split (B := [(mw Y ad_m (sA 68 (fun _ => nI tc) (sA 64 (fun _ => nI un) (sA 62 ufarNow_30 (sA 61 (fun _ => ulots_29) (sA 60 urow_28 (sA 18 (fun _ => nI lv) (sA 2 (fun _ => nI tp) g_m))))))) w_m)]) (C := [(mw Y ad_m (sA 68 (fun _ => nI tc) (sA 64 (fun _ => nI un) (sA 62 ufarNow_30 (sA 61 (fun _ => ulots_29) (sA 60 urow_28 (sA 18 (fun _ => nI lv) (sA 2 (fun _ => nI tp) g_m))))))) w_m)]) (R := []) (List.Perm.refl _)) (fun r_35 u H locs hp_36 hW => ?_)
    have hp_36 : r_35 = sortedTo t σ false (cn 1) := hp_36
    have hW : zW D A s.heap H locs (wj [(mw Y ad_m (sA 68 (fun _ => nI tc) (sA 64 (fun _ => nI un) (sA 62 ufarNow_30 (sA 61 (fun _ => ulots_29) (sA 60 urow_28 (sA 18 (fun _ => nI lv) (sA 2 (fun _ => nI tp) g_m))))))) w_m)]) := hW.join
    refine lv_iadd hx hb dX12_count_269 ?_
    refine lv_istore_n (lv' := [(2, .int ((r_31 + r_33) + r_35)), (0, .ref (ad_m 0)), (1, .int wx)]) hx hb dX12_count_270 rfl hl (by decide) rfl (fun ls hl => ?_)
    refine lv_iconst (v := 0) hx hb dX12_count_271 (by decide) ?_
    refine lv_istore_n (lv' := [(3, .int 0), (2, .int ((r_31 + r_33) + r_35)), (0, .ref (ad_m 0)), (1, .int wx)]) hx hb dX12_count_272 rfl hl (by decide) rfl (fun ls hl => ?_)
    have loop_273 : ∀ (n : Nat) (rr : Nat) (v2_273 : Int32), cn 2 - rr < n → (rr ≤ cn 2) → (v2_273 = inHeapP σ + holesTo σ (cn 1) + carryTo σ rr) → ∀ (H : Heap) (locs : List Loc), zW D A s.heap H locs (wj [(mw Y ad_m (sA 68 (fun _ => nI tc) (sA 64 (fun _ => nI un) (sA 62 ufarNow_30 (sA 61 (fun _ => ulots_29) (sA 60 urow_28 (sA 18 (fun _ => nI lv) (sA 2 (fun _ => nI tp) g_m))))))) w_m)]) → ∀ (ls : Array Slot), lv_has ls 4 [(3, .int (nI rr)), (2, .int v2_273), (0, .ref (ad_m 0)), (1, .int wx)] → W p l e (headSpec (ws_ yX12_count cX12_count 4 (some .int)) ({ frames := 3, cells := 0, slots := 0, locals := 54 })).room s m ([.ref (ad_m 0), .int wx] : List Value).toArray below meth c H locs 0 0 (MQ below (va_Qi (fun (r : Int32) (u : (Nat → Int32) × (Int32) × (Nat → Int32)) => r = countO cn σ tp un tc hd wx) (zB D (fun (u : (Nat → Int32) × (Int32) × (Nat → Int32)) => (wj [(mw Y ad_m (sA 68 (fun _ => nI tc) (sA 64 (fun _ => nI un) (sA 62 u.2.2 (sA 61 (fun _ => u.2.1) (sA 60 u.1 (sA 18 (fun _ => nI lv) (sA 2 (fun _ => nI tp) g_m))))))) w_m)])) A) A) ([.ref (ad_m 0), .int wx] : List Value).toArray s 0 0 A) (F0 m 273 ls []) := by
      intro n
      induction n with
      | zero =>
        intro rr v2_273 hmz
        exact absurd hmz (Nat.not_lt_zero _)
      | succ n ih =>
        intro rr v2_273 hm_273 hi hv2 H locs hW ls hl
        have ih_273 := ih
        clear ih
        refine lv_iload_n hx hb dX12_count_273 rfl (lv_at hl 0 rfl) ?_
        refine lv_aload_n hx hb dX12_count_274 rfl (lv_at hl 2 rfl) ?_
        refine va_get (v := .ref (ad_m 30)) (C := RX12) (T := TX12) (N := 75) (ci := 11) hx hb hts in_X12 hown hK.1 hW.1 0 rfl rfl 30 (by decide) (hts _ q1666) (fun _ h9 => h9) rfl dX12_count_275 ?_
        refine lv_aload_n hx hb dX12_count_278 rfl (lv_at hl 2 rfl) ?_
        refine va_get (v := .int (nI lv)) (C := RX12) (T := TX12) (N := 75) (ci := 11) hx hb hts in_X12 hown hK.1 hW.1 0 rfl rfl 18 (by decide) (hts _ q1654) (fun _ h9 => h9) rfl dX12_count_279 ?_
        refine z_iald (v := nI (cn 2)) (f := g_m 30) (j := lv) hx hb hK.1 hW.1 17 0 rfl rfl (vp_in_nI (n := lv) (by omega) (by decide)) (nI_clamp (n := lv) (by omega)) (TM.c30 hTM) dX12_count_282 ?_
        refine lv_icmp_ge (tgt := 304) hx hb dX12_count_283 (by decide) (fun c_37 => ?_) (fun c_37 => ?_)
        · have c_37 : cn 2 ≤ rr := (nI_leI (a := cn 2) (b := rr) (by omega) (by omega)).mp c_37
          refine lv_iload_n hx hb dX12_count_304 rfl (lv_at hl 1 rfl) ?_
          refine z_ireti ((urow_28, ulots_29, ufarNow_30) : (Nat → Int32) × (Int32) × (Nat → Int32)) hx hb hr hlocks rfl hW rfl dX12_count_305 ?_
          show v2_273 = countO cn σ tp un tc hd wx
          have er : rr = cn 2 := by omega
          rw [hv2, er]
          simp [countO, c_25]
        · have c_37 : ¬ (cn 2 ≤ rr) := fun hz_ => c_37 ((nI_leI (a := cn 2) (b := rr) (by omega) (by omega)).mpr hz_)
          refine lv_iload_n hx hb dX12_count_286 rfl (lv_at hl 1 rfl) ?_
          refine lv_aload_n hx hb dX12_count_287 rfl (lv_at hl 2 rfl) ?_
          refine va_get (v := .ref (ad_m 60)) (C := RX12) (T := TX12) (N := 75) (ci := 11) hx hb hts in_X12 hown hK.1 hW.1 0 rfl rfl 60 (by decide) (hts _ q1696) (fun _ h9 => h9) rfl dX12_count_288 ?_
          refine lv_bipush (v := 58) hx hb dX12_count_291 (by decide) ?_
          refine lv_iload_n hx hb dX12_count_293 rfl (lv_at hl 0 rfl) ?_
          refine lv_iadd hx hb dX12_count_294 ?_
          refine lv_topi (nm_r (e' := nI (58 + rr)) (nI_add 58 rr) ?_)
          refine z_iald (v := σ 5 rr) (f := urow_28) (j := 58 + rr) hx hb hK.1 hW.1 43 0 rfl rfl (vp_in_nI (n := 58 + rr) (by omega) (by decide)) (nI_clamp (n := 58 + rr) (by omega)) (MR.r5 hp_27.1 (r := rr) (by omega)) dX12_count_295 ?_
          refine lv_iadd hx hb dX12_count_296 ?_
          refine lv_istore_n (lv' := [(2, .int (v2_273 + (σ 5 rr))), (3, .int (nI rr)), (0, .ref (ad_m 0)), (1, .int wx)]) hx hb dX12_count_297 rfl hl (by decide) rfl (fun ls hl => ?_)
          refine lv_iinc (v := nI (rr + 1)) (lv' := [(3, .int (nI (rr + 1))), (2, .int (v2_273 + (σ 5 rr))), (0, .ref (ad_m 0)), (1, .int wx)]) hx hb dX12_count_298 hl (k := 1) rfl (nI_add rr 1) (by decide) rfl (fun ls hl => ?_)
          refine lv_goto (tgt := 273) hx hb dX12_count_301 (by decide) ?_
          exact ih_273 (rr + 1) (v2_273 + (σ 5 rr)) (by omega) (by omega) (by simp only [carryTo]; rw [hv2]; exact Int32.add_assoc _ _ _) _ _ hW _ (lv_sub hl [0, 1, 2, 3] rfl)
    exact loop_273 _ 0 ((r_31 + r_33) + r_35) (Nat.lt_succ_self _) (by omega) (by rw [hp_32, hp_34, hp_36]; exact cnt_eq _ _ _) _ _ hW _ (lv_sub hl [0, 1, 2, 3] rfl)
  have hsw : wx.toInt < 0 ∨ 15 < wx.toInt := by
    have hc_1 := lv_neT c_1 (a := 0) (by decide)
    have hc_2 := lv_neT c_2 (a := 1) (by decide)
    have hc_3 := lv_neT c_3 (a := 2) (by decide)
    have hc_4 := lv_neT c_4 (a := 3) (by decide)
    have hc_5 := lv_neT c_5 (a := 4) (by decide)
    have hc_6 := lv_neT c_6 (a := 5) (by decide)
    have hc_7 := lv_neT c_7 (a := 6) (by decide)
    have hc_8 := lv_neT c_8 (a := 7) (by decide)
    have hc_9 := lv_neT c_9 (a := 8) (by decide)
    have hc_12 := lv_neT c_12 (a := 9) (by decide)
    have hc_13 := lv_neT c_13 (a := 10) (by decide)
    have hc_14 := lv_neT c_14 (a := 11) (by decide)
    have hc_15 := lv_neT c_15 (a := 12) (by decide)
    have hc_16 := lv_neT c_16 (a := 13) (by decide)
    have hc_17 := lv_neT c_17 (a := 14) (by decide)
    have hc_25 := lv_neT c_25 (a := 15) (by decide)
    omega
  refine lv_tableOut (tgt := 306) hx hb dX12_count_1 hsw (by decide) ?_
  refine lv_iconst (v := (-1)) hx hb dX12_count_306 (by decide) ?_
  refine z_ireti ((g_m 60, g_m 61 0, g_m 62) : (Nat → Int32) × (Int32) × (Nat → Int32)) hx hb hr hlocks rfl hW rfl dX12_count_307 ?_
  show (-1) = countO cn σ tp un tc hd wx
  simp [countO, c_1, c_2, c_3, c_4, c_5, c_6, c_7, c_8, c_9, c_12, c_13, c_14, c_15, c_16, c_17, c_25]
