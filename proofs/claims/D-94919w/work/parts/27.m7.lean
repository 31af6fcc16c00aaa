/-! the model: merchants, those who work, what is kept -/
set_option maxRecDepth 100000
set_option maxHeartbeats 4000000 in
set_option maxRecDepth 100000 in
theorem m_X12_wantedBy (l : Launch) (D : va_G) (Y : Nat → ClassId) (ad_m : Nat → Nat) (g_m : Nat → Nat → Int32) (w_m : Nat → Nat → Int64) (lv : Nat) (cn : Nat → Nat) (t : tab) (lw : Nat → Option LAW) (se : Int32) (gg : Nat) (sz : Nat) (hlv : lv < 2) (hTW : TW cn t lw) (hTM : TM lv cn t lw g_m) (hgg : gg < 6) : Met l yX12_wantedBy (ws_ yX12_wantedBy cX12_wantedBy 6 (some .int)) ({ frames := 1, cells := 0, slots := 0, locals := 12 }) (zPc D Y [.ref (ad_m 0), .int se, .int (nI gg)] sz (wj []) (wj [(mw Y ad_m (sA 18 (fun _ => nI lv) g_m) w_m)])) (va_Qi (fun (r : Int32) (u : Unit) => r = wantTo t se gg (cn 3)) (zB D (fun (u : Unit) => (wj [(mw Y ad_m (sA 18 (fun _ => nI lv) g_m) w_m)])) (va_A (wj [(mw Y ad_m (sA 18 (fun _ => nI lv) g_m) w_m)]) sz)) (va_A (wj [(mw Y ad_m (sA 18 (fun _ => nI lv) g_m) w_m)]) sz)) 0 0 (va_A (wj [(mw Y ad_m (sA 18 (fun _ => nI lv) g_m) w_m)]) sz) := by
  refine Met.ofW (cc := cX12_wantedBy) (maxL := 6) (ret := (some .int)) (by decide) rfl ?_
  intro p e s m args below meth c s₁ B hml hv
  obtain ⟨rfl, hsz, hW, hR, hK, hA⟩ := zEntry hv
  subst hsz
  have hx := B.exec
  have hb := B.bytes
  have hr := B.returns
  have hlocks := B.notSynchronized
  have hts : ∀ w ∈ lw_all, w.before _ s = true := fun w h => atoms_spec (ws := (ws_ yX12_wantedBy cX12_wantedBy 6 (some .int))) B.pre w (List.mem_cons_of_mem _ h)
  have hown : s.vm.findClass RX12 = some m.cls := findClass_of_methodNamed B.named
  generalize hAe : va_A (wj [(mw Y ad_m (sA 18 (fun _ => nI lv) g_m) w_m)]) s.heap.size = A at hW hR hA ⊢
  have hl := lv_entry ([.ref (ad_m 0), .int se, .int (nI gg)]) (n := 6) (Nat.le_of_ble_eq_true rfl)
  rw [lg_entry_eq]
  generalize (lg_sl ([.ref (ad_m 0), .int se, .int (nI gg)]) ++ List.replicate (6 - (lg_sl ([.ref (ad_m 0), .int se, .int (nI gg)])).length) Slot.unset).toArray = ls at hl ⊢
  have hl : lv_has ls 6 [(0, .ref (ad_m 0)), (1, .int se), (2, .int (nI gg))] := hl
  have hk8 := hTW.n2
  have hk6 := hTW.n1
  have hk60 := hTW.n0
  have hk5 := hTW.n3
  refine lv_iconst (v := 0) hx hb dX12_wantedBy_0 (by decide) ?_
  refine lv_istore_n (lv' := [(3, .int 0), (0, .ref (ad_m 0)), (1, .int se), (2, .int (nI gg))]) hx hb dX12_wantedBy_1 rfl hl (by decide) rfl (fun ls hl => ?_)
  refine lv_iconst (v := 0) hx hb dX12_wantedBy_2 (by decide) ?_
  refine lv_istore (lv' := [(4, .int 0), (3, .int 0), (0, .ref (ad_m 0)), (1, .int se), (2, .int (nI gg))]) hx hb dX12_wantedBy_3 hl (by decide) rfl (fun ls hl => ?_)
  have loop_5 : ∀ (n : Nat) (mm : Nat) (v3_5 : Int32), cn 3 - mm < n → (mm ≤ cn 3) → (v3_5 = wantTo t se gg mm) → ∀ (H : Heap) (locs : List Loc), zW D A s.heap H locs (wj [(mw Y ad_m (sA 18 (fun _ => nI lv) g_m) w_m)]) → ∀ (ls : Array Slot), lv_has ls 6 [(4, .int (nI mm)), (3, .int v3_5), (0, .ref (ad_m 0)), (1, .int se), (2, .int (nI gg))] → W p l e (headSpec (ws_ yX12_wantedBy cX12_wantedBy 6 (some .int)) ({ frames := 1, cells := 0, slots := 0, locals := 12 })).room s m ([.ref (ad_m 0), .int se, .int (nI gg)] : List Value).toArray below meth c H locs 0 0 (MQ below (va_Qi (fun (r : Int32) (u : Unit) => r = wantTo t se gg (cn 3)) (zB D (fun (u : Unit) => (wj [(mw Y ad_m (sA 18 (fun _ => nI lv) g_m) w_m)])) A) A) ([.ref (ad_m 0), .int se, .int (nI gg)] : List Value).toArray s 0 0 A) (F0 m 5 ls []) := by
    intro n
    induction n with
    | zero =>
      intro mm v3_5 hmz
      exact absurd hmz (Nat.not_lt_zero _)
    | succ n ih =>
      intro mm v3_5 hm_5 hi hv2 H locs hW ls hl
      have ih_5 := ih
      clear ih
      refine lv_iload hx hb dX12_wantedBy_5 (lv_at hl 0 rfl) ?_
      refine lv_aload_n hx hb dX12_wantedBy_7 rfl (lv_at hl 2 rfl) ?_
      refine va_get (v := .ref (ad_m 35)) (C := RX12) (T := TX12) (N := 75) (ci := 11) hx hb hts in_X12 hown hK.1 hW.1 0 rfl rfl 35 (by decide) (hts _ q1671) (fun _ h9 => h9) rfl dX12_wantedBy_8 ?_
      refine lv_aload_n hx hb dX12_wantedBy_11 rfl (lv_at hl 2 rfl) ?_
      refine va_get (v := .int (nI lv)) (C := RX12) (T := TX12) (N := 75) (ci := 11) hx hb hts in_X12 hown hK.1 hW.1 0 rfl rfl 18 (by decide) (hts _ q1654) (fun _ h9 => h9) rfl dX12_wantedBy_12 ?_
      refine z_iald (v := nI (cn 3)) (f := g_m 35) (j := lv) hx hb hK.1 hW.1 22 0 rfl rfl (vp_in_nI (n := lv) (by omega) (by decide)) (nI_clamp (n := lv) (by omega)) (TM.c35 hTM) dX12_wantedBy_15 ?_
      refine lv_icmp_ge (tgt := 110) hx hb dX12_wantedBy_16 (by decide) (fun c_1 => ?_) (fun c_1 => ?_)
      · have c_1 : cn 3 ≤ mm := (nI_leI (a := cn 3) (b := mm) (by omega) (by omega)).mp c_1
        refine lv_iload_n hx hb dX12_wantedBy_110 rfl (lv_at hl 1 rfl) ?_
        refine z_ireti (() : Unit) hx hb hr hlocks rfl hW rfl dX12_wantedBy_111 ?_
        show v3_5 = wantTo t se gg (cn 3)
        have e : mm = cn 3 := by omega
        rw [hv2, e]
      · have c_1 : ¬ (cn 3 ≤ mm) := fun hz_ => c_1 ((nI_leI (a := cn 3) (b := mm) (by omega) (by omega)).mpr hz_)
        refine lv_iload_n hx hb dX12_wantedBy_19 rfl (lv_at hl 3 rfl) ?_
        refine lv_iload hx hb dX12_wantedBy_20 (lv_at hl 0 rfl) ?_
        refine lv_ishr hx hb dX12_wantedBy_22 ?_
        refine lv_iconst (v := 1) hx hb dX12_wantedBy_23 (by decide) ?_
        refine lv_iand hx hb dX12_wantedBy_24 ?_
        refine lv_if_ne (tgt := 31) hx hb dX12_wantedBy_25 (by decide) (fun c_2 => ?_) (fun c_2 => ?_)
        · have hbt : bitP se mm := by unfold bitP; exact one_of_ne0 c_2
          obtain ⟨wn, hwn, ewn⟩ := vp_in_of (hTW.h9 (show mm < cn 3 by omega)) (by omega)
          have cwn := nI_clamp (show wn < 2 ^ 31 by omega)
          refine lv_iconst (v := 0) hx hb dX12_wantedBy_31 (by decide) ?_
          refine lv_istore (lv' := [(5, .int 0), (4, .int (nI mm)), (3, .int v3_5), (0, .ref (ad_m 0)), (1, .int se), (2, .int (nI gg))]) hx hb dX12_wantedBy_32 hl (by decide) rfl (fun ls hl => ?_)
          have loop_34 : ∀ (n : Nat) (ii : Nat) (v3_34 : Int32), wn - ii < n → (ii ≤ wn) → (v3_34 = want1 t mm gg (wantTo t se gg mm) ii) → ∀ (H : Heap) (locs : List Loc), zW D A s.heap H locs (wj [(mw Y ad_m (sA 18 (fun _ => nI lv) g_m) w_m)]) → ∀ (ls : Array Slot), lv_has ls 6 [(5, .int (nI ii)), (4, .int (nI mm)), (3, .int v3_34), (0, .ref (ad_m 0)), (1, .int se), (2, .int (nI gg))] → W p l e (headSpec (ws_ yX12_wantedBy cX12_wantedBy 6 (some .int)) ({ frames := 1, cells := 0, slots := 0, locals := 12 })).room s m ([.ref (ad_m 0), .int se, .int (nI gg)] : List Value).toArray below meth c H locs 0 0 (MQ below (va_Qi (fun (r : Int32) (u : Unit) => r = wantTo t se gg (cn 3)) (zB D (fun (u : Unit) => (wj [(mw Y ad_m (sA 18 (fun _ => nI lv) g_m) w_m)])) A) A) ([.ref (ad_m 0), .int se, .int (nI gg)] : List Value).toArray s 0 0 A) (F0 m 34 ls []) := by
            intro n
            induction n with
            | zero =>
              intro ii v3_34 hmz
              exact absurd hmz (Nat.not_lt_zero _)
            | succ n ih =>
              intro ii v3_34 hm_34 hii hv3 H locs hW ls hl
              have ih_34 := ih
              clear ih
              refine lv_iload hx hb dX12_wantedBy_34 (lv_at hl 0 rfl) ?_
              refine lv_aload_n hx hb dX12_wantedBy_36 rfl (lv_at hl 3 rfl) ?_
              refine va_get (v := .ref (ad_m 37)) (C := RX12) (T := TX12) (N := 75) (ci := 11) hx hb hts in_X12 hown hK.1 hW.1 0 rfl rfl 37 (by decide) (hts _ q1673) (fun _ h9 => h9) rfl dX12_wantedBy_37 ?_
              refine lv_iconst (v := 5) hx hb dX12_wantedBy_40 (by decide) ?_
              refine lv_aload_n hx hb dX12_wantedBy_41 rfl (lv_at hl 3 rfl) ?_
              refine va_get (v := .int (nI lv)) (C := RX12) (T := TX12) (N := 75) (ci := 11) hx hb hts in_X12 hown hK.1 hW.1 0 rfl rfl 18 (by decide) (hts _ q1654) (fun _ h9 => h9) rfl dX12_wantedBy_42 ?_
              refine lv_imul hx hb dX12_wantedBy_45 ?_
              refine lv_topi (nm_r (e' := nI (5 * lv)) (pk_mul 5 lv) ?_)
              refine lv_iload hx hb dX12_wantedBy_46 (lv_at hl 1 rfl) ?_
              refine lv_iadd hx hb dX12_wantedBy_48 ?_
              refine lv_topi (nm_r (e' := nI (5 * lv + mm)) (nI_add (5 * lv) mm) ?_)
              refine z_iald (v := nI wn) (f := g_m 37) (j := 5 * lv + mm) hx hb hK.1 hW.1 24 0 rfl rfl (vp_in_nI (n := 5 * lv + mm) (by omega) (by decide)) (nI_clamp (n := 5 * lv + mm) (by omega)) (Eq.trans (TM.c37 hTM (j := mm) (by omega)) ewn) dX12_wantedBy_49 ?_
              refine lv_icmp_ge (tgt := 104) hx hb dX12_wantedBy_50 (by decide) (fun c_3 => ?_) (fun c_3 => ?_)
              · have c_3 : wn ≤ ii := (nI_leI (a := wn) (b := ii) (by omega) (by omega)).mp c_3
                refine lv_iinc (v := nI (mm + 1)) (lv' := [(4, .int (nI (mm + 1))), (5, .int (nI ii)), (3, .int v3_34), (0, .ref (ad_m 0)), (1, .int se), (2, .int (nI gg))]) hx hb dX12_wantedBy_104 hl (k := 1) rfl (nI_add mm 1) (by decide) rfl (fun ls hl => ?_)
                refine lv_goto (tgt := 5) hx hb dX12_wantedBy_107 (by decide) ?_
                exact ih_5 (mm + 1) v3_34 (by omega) (by omega) (by first | exact (by rw [hv2]; exact (zi_f hbt _ _).symm) | exact (by rw [hv3, show ii = wn by omega]; simp only [wantTo]; rw [zi_t hbt, ewn, cwn])) _ _ hW _ (lv_sub hl [0, 2, 3, 4, 5] rfl)
              · have c_3 : ¬ (wn ≤ ii) := fun hz_ => c_3 ((nI_leI (a := wn) (b := ii) (by omega) (by omega)).mpr hz_)
                have hwi : ii < (t 9 mm).toNatClampNeg := by rw [ewn, cwn]; omega
                refine lv_aload_n hx hb dX12_wantedBy_53 rfl (lv_at hl 3 rfl) ?_
                refine va_get (v := .ref (ad_m 38)) (C := RX12) (T := TX12) (N := 75) (ci := 11) hx hb hts in_X12 hown hK.1 hW.1 0 rfl rfl 38 (by decide) (hts _ q1674) (fun _ h9 => h9) rfl dX12_wantedBy_54 ?_
                refine lv_iconst (v := 4) hx hb dX12_wantedBy_57 (by decide) ?_
                refine lv_iconst (v := 5) hx hb dX12_wantedBy_58 (by decide) ?_
                refine lv_aload_n hx hb dX12_wantedBy_59 rfl (lv_at hl 3 rfl) ?_
                refine va_get (v := .int (nI lv)) (C := RX12) (T := TX12) (N := 75) (ci := 11) hx hb hts in_X12 hown hK.1 hW.1 0 rfl rfl 18 (by decide) (hts _ q1654) (fun _ h9 => h9) rfl dX12_wantedBy_60 ?_
                refine lv_imul hx hb dX12_wantedBy_63 ?_
                refine lv_topi (nm_r (e' := nI (5 * lv)) (pk_mul 5 lv) ?_)
                refine lv_iload hx hb dX12_wantedBy_64 (lv_at hl 1 rfl) ?_
                refine lv_iadd hx hb dX12_wantedBy_66 ?_
                refine lv_topi (nm_r (e' := nI (5 * lv + mm)) (nI_add (5 * lv) mm) ?_)
                refine lv_imul hx hb dX12_wantedBy_67 ?_
                refine lv_topi (nm_r (e' := nI (4 * (5 * lv + mm))) (pk_mul 4 (5 * lv + mm)) ?_)
                refine lv_iload hx hb dX12_wantedBy_68 (lv_at hl 0 rfl) ?_
                refine lv_iadd hx hb dX12_wantedBy_70 ?_
                refine lv_topi (nm_r (e' := nI (4 * (5 * lv + mm) + ii)) (nI_add (4 * (5 * lv + mm)) ii) ?_)
                refine z_iald (v := t 10 (4 * mm + ii)) (f := g_m 38) (j := 4 * (5 * lv + mm) + ii) hx hb hK.1 hW.1 25 0 rfl rfl (vp_in_nI (n := 4 * (5 * lv + mm) + ii) (by omega) (by decide)) (nI_clamp (n := 4 * (5 * lv + mm) + ii) (by omega)) (TM.c38 hTM (j := mm) (i := ii) (by omega) (by omega)) dX12_wantedBy_71 ?_
                refine lv_iload_n hx hb dX12_wantedBy_72 rfl (lv_at hl 5 rfl) ?_
                refine lv_icmp_ne (tgt := 98) hx hb dX12_wantedBy_73 (by decide) (fun c_4 => ?_) (fun c_4 => ?_)
                · have hcg := c_4
                  refine lv_iinc (v := nI (ii + 1)) (lv' := [(5, .int (nI (ii + 1))), (4, .int (nI mm)), (3, .int v3_34), (0, .ref (ad_m 0)), (1, .int se), (2, .int (nI gg))]) hx hb dX12_wantedBy_98 hl (k := 0) rfl (nI_add ii 1) (by decide) rfl (fun ls hl => ?_)
                  refine lv_goto (tgt := 34) hx hb dX12_wantedBy_101 (by decide) ?_
                  exact ih_34 (ii + 1) v3_34 (by omega) (by omega) (by first | exact (by rw [hv3]; exact (if_pos hcg).symm) | exact (by rw [hv3]; exact (if_neg hcg).symm)) _ _ hW _ (lv_sub hl [0, 1, 2, 3, 4, 5] rfl)
                · have hcg := c_4
                  refine lv_iload_n hx hb dX12_wantedBy_76 rfl (lv_at hl 2 rfl) ?_
                  refine lv_aload_n hx hb dX12_wantedBy_77 rfl (lv_at hl 3 rfl) ?_
                  refine va_get (v := .ref (ad_m 39)) (C := RX12) (T := TX12) (N := 75) (ci := 11) hx hb hts in_X12 hown hK.1 hW.1 0 rfl rfl 39 (by decide) (hts _ q1675) (fun _ h9 => h9) rfl dX12_wantedBy_78 ?_
                  refine lv_iconst (v := 4) hx hb dX12_wantedBy_81 (by decide) ?_
                  refine lv_iconst (v := 5) hx hb dX12_wantedBy_82 (by decide) ?_
                  refine lv_aload_n hx hb dX12_wantedBy_83 rfl (lv_at hl 3 rfl) ?_
                  refine va_get (v := .int (nI lv)) (C := RX12) (T := TX12) (N := 75) (ci := 11) hx hb hts in_X12 hown hK.1 hW.1 0 rfl rfl 18 (by decide) (hts _ q1654) (fun _ h9 => h9) rfl dX12_wantedBy_84 ?_
                  refine lv_imul hx hb dX12_wantedBy_87 ?_
                  refine lv_topi (nm_r (e' := nI (5 * lv)) (pk_mul 5 lv) ?_)
                  refine lv_iload hx hb dX12_wantedBy_88 (lv_at hl 1 rfl) ?_
                  refine lv_iadd hx hb dX12_wantedBy_90 ?_
                  refine lv_topi (nm_r (e' := nI (5 * lv + mm)) (nI_add (5 * lv) mm) ?_)
                  refine lv_imul hx hb dX12_wantedBy_91 ?_
                  refine lv_topi (nm_r (e' := nI (4 * (5 * lv + mm))) (pk_mul 4 (5 * lv + mm)) ?_)
                  refine lv_iload hx hb dX12_wantedBy_92 (lv_at hl 0 rfl) ?_
                  refine lv_iadd hx hb dX12_wantedBy_94 ?_
                  refine lv_topi (nm_r (e' := nI (4 * (5 * lv + mm) + ii)) (nI_add (4 * (5 * lv + mm)) ii) ?_)
                  refine z_iald (v := t 11 (4 * mm + ii)) (f := g_m 39) (j := 4 * (5 * lv + mm) + ii) hx hb hK.1 hW.1 26 0 rfl rfl (vp_in_nI (n := 4 * (5 * lv + mm) + ii) (by omega) (by decide)) (nI_clamp (n := 4 * (5 * lv + mm) + ii) (by omega)) (TM.c39 hTM (j := mm) (i := ii) (by omega) (by omega)) dX12_wantedBy_95 ?_
                  refine lv_iadd hx hb dX12_wantedBy_96 ?_
                  refine lv_istore_n (lv' := [(3, .int (v3_34 + (t 11 (4 * mm + ii)))), (5, .int (nI ii)), (4, .int (nI mm)), (0, .ref (ad_m 0)), (1, .int se), (2, .int (nI gg))]) hx hb dX12_wantedBy_97 rfl hl (by decide) rfl (fun ls hl => ?_)
                  refine lv_iinc (v := nI (ii + 1)) (lv' := [(5, .int (nI (ii + 1))), (3, .int (v3_34 + (t 11 (4 * mm + ii)))), (4, .int (nI mm)), (0, .ref (ad_m 0)), (1, .int se), (2, .int (nI gg))]) hx hb dX12_wantedBy_98 hl (k := 1) rfl (nI_add ii 1) (by decide) rfl (fun ls hl => ?_)
                  refine lv_goto (tgt := 34) hx hb dX12_wantedBy_101 (by decide) ?_
                  exact ih_34 (ii + 1) (v3_34 + (t 11 (4 * mm + ii))) (by omega) (by omega) (by first | exact (by rw [hv3]; exact (if_pos hcg).symm) | exact (by rw [hv3]; exact (if_neg hcg).symm)) _ _ hW _ (lv_sub hl [0, 2, 1, 3, 4, 5] rfl)
          exact loop_34 _ 0 v3_5 (Nat.lt_succ_self _) (by omega) (by exact hv2) _ _ hW _ (lv_sub hl [0, 1, 2, 3, 4, 5] rfl)
        · have hbt : ¬ bitP se mm := by unfold bitP; rw [c_2]; decide
          refine lv_goto (tgt := 104) hx hb dX12_wantedBy_28 (by decide) ?_
          refine lv_iinc (v := nI (mm + 1)) (lv' := [(4, .int (nI (mm + 1))), (3, .int v3_5), (0, .ref (ad_m 0)), (1, .int se), (2, .int (nI gg))]) hx hb dX12_wantedBy_104 hl (k := 0) rfl (nI_add mm 1) (by decide) rfl (fun ls hl => ?_)
          refine lv_goto (tgt := 5) hx hb dX12_wantedBy_107 (by decide) ?_
          exact ih_5 (mm + 1) v3_5 (by omega) (by omega) (by first | exact (by rw [hv2]; exact (zi_f hbt _ _).symm) | exact (by rw [hv3, show ii = wn by omega]; simp only [wantTo]; rw [zi_t hbt, ewn, cwn])) _ _ hW _ (lv_sub hl [0, 1, 2, 3, 4] rfl)
  exact loop_5 _ 0 0 (Nat.lt_succ_self _) (by omega) (by rfl) _ _ hW _ (lv_sub hl [0, 1, 2, 3, 4] rfl)
set_option maxHeartbeats 4000000 in
set_option maxRecDepth 100000 in
theorem m_X12_isEnough (l : Launch) (D : va_G) (Y : Nat → ClassId) (ad_m : Nat → Nat) (g_m : Nat → Nat → Int32) (w_m : Nat → Nat → Int64) (lv : Nat) (cn : Nat → Nat) (t : tab) (lw : Nat → Option LAW) (σ : tab) (se : Int32) (sz : Nat) (hlv : lv < 2) (hTW : TW cn t lw) (hTM : TM lv cn t lw g_m) (hRS : RS cn σ (g_m 60) (g_m 62) (g_m 61 0)) : Met l yX12_isEnough (ws_ yX12_isEnough cX12_isEnough 5 (some .boolean)) ({ frames := 2, cells := 0, slots := 0, locals := 37 }) (zPc D Y [.ref (ad_m 0), .int se] sz (wj []) (wj [(mw Y ad_m (sA 18 (fun _ => nI lv) g_m) w_m)])) (va_Qi (fun (r : Int32) (u : Unit) => r = zb (enoughP cn t σ se)) (zB D (fun (u : Unit) => (wj [(mw Y ad_m (sA 18 (fun _ => nI lv) g_m) w_m)])) (va_A (wj [(mw Y ad_m (sA 18 (fun _ => nI lv) g_m) w_m)]) sz)) (va_A (wj [(mw Y ad_m (sA 18 (fun _ => nI lv) g_m) w_m)]) sz)) 0 0 (va_A (wj [(mw Y ad_m (sA 18 (fun _ => nI lv) g_m) w_m)]) sz) := by
  refine Met.ofW (cc := cX12_isEnough) (maxL := 5) (ret := (some .boolean)) (by decide) rfl ?_
  intro p e s m args below meth c s₁ B hml hv
  obtain ⟨rfl, hsz, hW, hR, hK, hA⟩ := zEntry hv
  subst hsz
  have hx := B.exec
  have hb := B.bytes
  have hr := B.returns
  have hlocks := B.notSynchronized
  have hts : ∀ w ∈ lw_all, w.before _ s = true := fun w h => atoms_spec (ws := (ws_ yX12_isEnough cX12_isEnough 5 (some .boolean))) B.pre w (List.mem_cons_of_mem _ h)
  have hown : s.vm.findClass RX12 = some m.cls := findClass_of_methodNamed B.named
  generalize hAe : va_A (wj [(mw Y ad_m (sA 18 (fun _ => nI lv) g_m) w_m)]) s.heap.size = A at hW hR hA ⊢
  have hl := lv_entry ([.ref (ad_m 0), .int se]) (n := 5) (Nat.le_of_ble_eq_true rfl)
  rw [lg_entry_eq]
  generalize (lg_sl ([.ref (ad_m 0), .int se]) ++ List.replicate (5 - (lg_sl ([.ref (ad_m 0), .int se])).length) Slot.unset).toArray = ls at hl ⊢
  have hl : lv_has ls 5 [(0, .ref (ad_m 0)), (1, .int se)] := hl
  have hLT := hRS.2.2
  have hk8 := hTW.n2
  have hk6 := hTW.n1
  have hk60 := hTW.n0
  have hk5 := hTW.n3
  refine lv_iconst (v := 0) hx hb dX12_isEnough_0 (by decide) ?_
  refine lv_istore_n (lv' := [(2, .int 0), (0, .ref (ad_m 0)), (1, .int se)]) hx hb dX12_isEnough_1 rfl hl (by decide) rfl (fun ls hl => ?_)
  have loop_2 : ∀ (n : Nat) (gg : Nat), 6 - gg < n → (gg ≤ 6) → (∀ j, j < gg → wantTo t se j (cn 3) ≤ ownTo t σ j (cn 1)) → ∀ (H : Heap) (locs : List Loc), zW D A s.heap H locs (wj [(mw Y ad_m (sA 18 (fun _ => nI lv) g_m) w_m)]) → ∀ (ls : Array Slot), lv_has ls 5 [(2, .int (nI gg)), (0, .ref (ad_m 0)), (1, .int se)] → W p l e (headSpec (ws_ yX12_isEnough cX12_isEnough 5 (some .boolean)) ({ frames := 2, cells := 0, slots := 0, locals := 37 })).room s m ([.ref (ad_m 0), .int se] : List Value).toArray below meth c H locs 0 0 (MQ below (va_Qi (fun (r : Int32) (u : Unit) => r = zb (enoughP cn t σ se)) (zB D (fun (u : Unit) => (wj [(mw Y ad_m (sA 18 (fun _ => nI lv) g_m) w_m)])) A) A) ([.ref (ad_m 0), .int se] : List Value).toArray s 0 0 A) (F0 m 2 ls []) := by
    intro n
    induction n with
    | zero =>
      intro gg hmz
      exact absurd hmz (Nat.not_lt_zero _)
    | succ n ih =>
      intro gg hm_2 hi he H locs hW ls hl
      have ih_2 := ih
      clear ih
      refine lv_iload_n hx hb dX12_isEnough_2 rfl (lv_at hl 0 rfl) ?_
      refine lv_bipush (v := 6) hx hb dX12_isEnough_3 (by decide) ?_
      refine lv_icmp_ge (tgt := 88) hx hb dX12_isEnough_5 (by decide) (fun c_1 => ?_) (fun c_1 => ?_)
      · have c_1 : 6 ≤ gg := (nI_leI (a := 6) (b := gg) (by omega) (by omega)).mp c_1
        refine lv_iconst (v := 1) hx hb dX12_isEnough_88 (by decide) ?_
        refine z_ireti (() : Unit) hx hb hr hlocks rfl hW rfl dX12_isEnough_89 ?_
        show 1 = zb (enoughP cn t σ se)
        exact zb_1 (fun j hj => he j (by omega))
      · have c_1 : ¬ (6 ≤ gg) := fun hz_ => c_1 ((nI_leI (a := 6) (b := gg) (by omega) (by omega)).mpr hz_)
        refine lv_iconst (v := 0) hx hb dX12_isEnough_8 (by decide) ?_
        refine lv_istore_n (lv' := [(3, .int 0), (2, .int (nI gg)), (0, .ref (ad_m 0)), (1, .int se)]) hx hb dX12_isEnough_9 rfl hl (by decide) rfl (fun ls hl => ?_)
        refine lv_iconst (v := 0) hx hb dX12_isEnough_10 (by decide) ?_
        refine lv_istore (lv' := [(4, .int 0), (3, .int 0), (2, .int (nI gg)), (0, .ref (ad_m 0)), (1, .int se)]) hx hb dX12_isEnough_11 hl (by decide) rfl (fun ls hl => ?_)
        have loop_13 : ∀ (n : Nat) (h : Nat) (v3_13 : Int32), cn 1 - h < n → (h ≤ cn 1) → (v3_13 = ownTo t σ gg h) → ∀ (H : Heap) (locs : List Loc), zW D A s.heap H locs (wj [(mw Y ad_m (sA 18 (fun _ => nI lv) g_m) w_m)]) → ∀ (ls : Array Slot), lv_has ls 5 [(4, .int (nI h)), (3, .int v3_13), (2, .int (nI gg)), (0, .ref (ad_m 0)), (1, .int se)] → W p l e (headSpec (ws_ yX12_isEnough cX12_isEnough 5 (some .boolean)) ({ frames := 2, cells := 0, slots := 0, locals := 37 })).room s m ([.ref (ad_m 0), .int se] : List Value).toArray below meth c H locs 0 0 (MQ below (va_Qi (fun (r : Int32) (u : Unit) => r = zb (enoughP cn t σ se)) (zB D (fun (u : Unit) => (wj [(mw Y ad_m (sA 18 (fun _ => nI lv) g_m) w_m)])) A) A) ([.ref (ad_m 0), .int se] : List Value).toArray s 0 0 A) (F0 m 13 ls []) := by
          intro n
          induction n with
          | zero =>
            intro h v3_13 hmz
            exact absurd hmz (Nat.not_lt_zero _)
          | succ n ih =>
            intro h v3_13 hm_13 hh hv3 H locs hW ls hl
            have ih_13 := ih
            clear ih
            refine lv_iload hx hb dX12_isEnough_13 (lv_at hl 0 rfl) ?_
            refine lv_aload_n hx hb dX12_isEnough_15 rfl (lv_at hl 3 rfl) ?_
            refine va_get (v := .ref (ad_m 27)) (C := RX12) (T := TX12) (N := 75) (ci := 11) hx hb hts in_X12 hown hK.1 hW.1 0 rfl rfl 27 (by decide) (hts _ q1663) (fun _ h9 => h9) rfl dX12_isEnough_16 ?_
            refine lv_aload_n hx hb dX12_isEnough_19 rfl (lv_at hl 3 rfl) ?_
            refine va_get (v := .int (nI lv)) (C := RX12) (T := TX12) (N := 75) (ci := 11) hx hb hts in_X12 hown hK.1 hW.1 0 rfl rfl 18 (by decide) (hts _ q1654) (fun _ h9 => h9) rfl dX12_isEnough_20 ?_
            refine z_iald (v := nI (cn 1)) (f := g_m 27) (j := lv) hx hb hK.1 hW.1 14 0 rfl rfl (vp_in_nI (n := lv) (by omega) (by decide)) (nI_clamp (n := lv) (by omega)) (TM.c27 hTM) dX12_isEnough_23 ?_
            refine lv_icmp_ge (tgt := 70) hx hb dX12_isEnough_24 (by decide) (fun c_2 => ?_) (fun c_2 => ?_)
            · have c_2 : cn 1 ≤ h := (nI_leI (a := cn 1) (b := h) (by omega) (by omega)).mp c_2
              refine lv_iload_n hx hb dX12_isEnough_70 rfl (lv_at hl 1 rfl) ?_
              refine lv_aload_n hx hb dX12_isEnough_71 rfl (lv_at hl 3 rfl) ?_
              refine lv_iload_n hx hb dX12_isEnough_72 rfl (lv_at hl 4 rfl) ?_
              refine lv_iload_n hx hb dX12_isEnough_73 rfl (lv_at hl 2 rfl) ?_
              refine z_calli (wc := wj [(mw Y ad_m (sA 18 (fun _ => nI lv) g_m) w_m)]) (wr := wj []) (va_runV (As := [.int se, .int (nI gg)]) (rest := [.int v3_13]) ⟨hx, hb, hml, hown, hts⟩ (m_X12_wantedBy l D Y ad_m (sA 18 (fun _ => nI lv) g_m) w_m lv cn t lw se gg H.size (show lv < 2 from by exact hlv) (show TW cn t lw from by exact hTW) (show TM lv cn t lw (sA 18 (fun _ => nI lv) g_m) from by exact hTM) (show gg < 6 from by first | assumption | omega | grind)) (cwV 2 hts (lw_V q2122 q2124 qs100 q133 q2125) rfl rfl rfl (by decide +kernel) ⟨Nat.le_of_ble_eq_true rfl, Nat.le_of_ble_eq_true rfl⟩) (zPreV hK hW hR (wj_split3 (B := [(mw Y ad_m (sA 18 (fun _ => nI lv) g_m) w_m)]) (R := []) (C := [(mw Y ad_m (sA 18 (fun _ => nI lv) g_m) w_m)]) (O := []) (X := []) (List.Perm.refl _)) (va_recv hK.1 hW.1 (ci := 11) (q0 := 0) rfl rfl)) rfl rfl hl.1 rfl (lv_room (Nat.le_of_ble_eq_true rfl)) dX12_isEnough_74 ⟨Nat.le_refl _, Nat.le_refl _⟩) hW hA (wj_split (B := [(mw Y ad_m (sA 18 (fun _ => nI lv) g_m) w_m)]) (C := [(mw Y ad_m (sA 18 (fun _ => nI lv) g_m) w_m)]) (R := []) (List.Perm.refl _)) (fun r_3 u H locs hp_4 hW => ?_)
              have hp_4 : r_3 = wantTo t se gg (cn 3) := hp_4
              have hW : zW D A s.heap H locs (wj [(mw Y ad_m (sA 18 (fun _ => nI lv) g_m) w_m)]) := hW.join
              refine lv_icmp_ge (tgt := 82) hx hb dX12_isEnough_77 (by decide) (fun c_5 => ?_) (fun c_5 => ?_)
              · have eh : h = cn 1 := by omega
                have hok : wantTo t se gg (cn 3) ≤ ownTo t σ gg (cn 1) := by rw [← eh, ← hv3, ← hp_4]; exact c_5
                refine lv_iinc (v := nI (gg + 1)) (lv' := [(2, .int (nI (gg + 1))), (4, .int (nI h)), (3, .int v3_13), (0, .ref (ad_m 0)), (1, .int se)]) hx hb dX12_isEnough_82 hl (k := 2) rfl (nI_add gg 1) (by decide) rfl (fun ls hl => ?_)
                refine lv_goto (tgt := 2) hx hb dX12_isEnough_85 (by decide) ?_
                exact ih_2 (gg + 1) (by omega) (by omega) (by intro j hj; rcases Nat.lt_or_ge j gg with q | q; exact he j q; rw [show j = gg by omega]; exact hok) _ _ hW _ (lv_sub hl [0, 3, 4] rfl)
              · have eh : h = cn 1 := by omega
                have hno : ¬ wantTo t se gg (cn 3) ≤ ownTo t σ gg (cn 1) := by rw [← eh, ← hv3, ← hp_4]; exact c_5
                refine lv_iconst (v := 0) hx hb dX12_isEnough_80 (by decide) ?_
                refine z_ireti (() : Unit) hx hb hr hlocks rfl hW rfl dX12_isEnough_81 ?_
                show 0 = zb (enoughP cn t σ se)
                exact zb_0 (fun q => hno (q gg (by omega)))
            · have c_2 : ¬ (cn 1 ≤ h) := fun hz_ => c_2 ((nI_leI (a := cn 1) (b := h) (by omega) (by omega)).mpr hz_)
              refine lv_aload_n hx hb dX12_isEnough_27 rfl (lv_at hl 3 rfl) ?_
              refine va_get (v := .ref (ad_m 29)) (C := RX12) (T := TX12) (N := 75) (ci := 11) hx hb hts in_X12 hown hK.1 hW.1 0 rfl rfl 29 (by decide) (hts _ q1665) (fun _ h9 => h9) rfl dX12_isEnough_28 ?_
              refine lv_bipush (v := 6) hx hb dX12_isEnough_31 (by decide) ?_
              refine lv_aload_n hx hb dX12_isEnough_33 rfl (lv_at hl 3 rfl) ?_
              refine va_get (v := .int (nI lv)) (C := RX12) (T := TX12) (N := 75) (ci := 11) hx hb hts in_X12 hown hK.1 hW.1 0 rfl rfl 18 (by decide) (hts _ q1654) (fun _ h9 => h9) rfl dX12_isEnough_34 ?_
              refine lv_imul hx hb dX12_isEnough_37 ?_
              refine lv_topi (nm_r (e' := nI (6 * lv)) (pk_mul 6 lv) ?_)
              refine lv_iload hx hb dX12_isEnough_38 (lv_at hl 0 rfl) ?_
              refine lv_iadd hx hb dX12_isEnough_40 ?_
              refine lv_topi (nm_r (e' := nI (6 * lv + h)) (nI_add (6 * lv) h) ?_)
              refine z_iald (v := t 3 h) (f := g_m 29) (j := 6 * lv + h) hx hb hK.1 hW.1 16 0 rfl rfl (vp_in_nI (n := 6 * lv + h) (by omega) (by decide)) (nI_clamp (n := 6 * lv + h) (by omega)) (TM.c29 hTM (j := h) (by omega)) dX12_isEnough_41 ?_
              refine lv_iload_n hx hb dX12_isEnough_42 rfl (lv_at hl 2 rfl) ?_
              refine lv_icmp_ne (tgt := 64) hx hb dX12_isEnough_43 (by decide) (fun c_6 => ?_) (fun c_6 => ?_)
              · have hcg := c_6
                refine lv_iinc (v := nI (h + 1)) (lv' := [(4, .int (nI (h + 1))), (3, .int v3_13), (2, .int (nI gg)), (0, .ref (ad_m 0)), (1, .int se)]) hx hb dX12_isEnough_64 hl (k := 0) rfl (nI_add h 1) (by decide) rfl (fun ls hl => ?_)
                refine lv_goto (tgt := 13) hx hb dX12_isEnough_67 (by decide) ?_
                exact ih_13 (h + 1) v3_13 (by omega) (by omega) (by first | exact (by rw [hv3]; exact (if_pos hcg).symm) | exact (by rw [hv3]; exact (if_neg hcg).symm)) _ _ hW _ (lv_sub hl [0, 1, 2, 3, 4] rfl)
              · have hcg := c_6
                refine lv_iload_n hx hb dX12_isEnough_46 rfl (lv_at hl 1 rfl) ?_
                refine lv_aload_n hx hb dX12_isEnough_47 rfl (lv_at hl 3 rfl) ?_
                refine va_get (v := .ref (ad_m 60)) (C := RX12) (T := TX12) (N := 75) (ci := 11) hx hb hts in_X12 hown hK.1 hW.1 0 rfl rfl 60 (by decide) (hts _ q1696) (fun _ h9 => h9) rfl dX12_isEnough_48 ?_
                refine lv_bipush (v := 6) hx hb dX12_isEnough_51 (by decide) ?_
                refine lv_bipush (v := 6) hx hb dX12_isEnough_53 (by decide) ?_
                refine lv_iload hx hb dX12_isEnough_55 (lv_at hl 0 rfl) ?_
                refine lv_imul hx hb dX12_isEnough_57 ?_
                refine lv_topi (nm_r (e' := nI (6 * h)) (pk_mul 6 h) ?_)
                refine lv_iadd hx hb dX12_isEnough_58 ?_
                refine lv_topi (nm_r (e' := nI (6 + 6 * h)) (nI_add 6 (6 * h)) ?_)
                refine lv_iload_n hx hb dX12_isEnough_59 rfl (lv_at hl 2 rfl) ?_
                refine lv_iadd hx hb dX12_isEnough_60 ?_
                refine lv_topi (nm_r (e' := nI (6 + 6 * h + gg)) (nI_add (6 + 6 * h) gg) ?_)
                refine z_iald (v := σ (30 + h) gg) (f := g_m 60) (j := 6 + 6 * h + gg) hx hb hK.1 hW.1 43 0 rfl rfl (vp_in_nI (n := 6 + 6 * h + gg) (by omega) (by decide)) (nI_clamp (n := 6 + 6 * h + gg) (by omega)) (MR.hole hRS.1 (a := h) (g := gg) (by omega) (by omega)) dX12_isEnough_61 ?_
                refine lv_iadd hx hb dX12_isEnough_62 ?_
                refine lv_istore_n (lv' := [(3, .int (v3_13 + (σ (30 + h) gg))), (4, .int (nI h)), (2, .int (nI gg)), (0, .ref (ad_m 0)), (1, .int se)]) hx hb dX12_isEnough_63 rfl hl (by decide) rfl (fun ls hl => ?_)
                refine lv_iinc (v := nI (h + 1)) (lv' := [(4, .int (nI (h + 1))), (3, .int (v3_13 + (σ (30 + h) gg))), (2, .int (nI gg)), (0, .ref (ad_m 0)), (1, .int se)]) hx hb dX12_isEnough_64 hl (k := 1) rfl (nI_add h 1) (by decide) rfl (fun ls hl => ?_)
                refine lv_goto (tgt := 13) hx hb dX12_isEnough_67 (by decide) ?_
                exact ih_13 (h + 1) (v3_13 + (σ (30 + h) gg)) (by omega) (by omega) (by first | exact (by rw [hv3]; exact (if_pos hcg).symm) | exact (by rw [hv3]; exact (if_neg hcg).symm)) _ _ hW _ (lv_sub hl [0, 1, 2, 3, 4] rfl)
        exact loop_13 _ 0 0 (Nat.lt_succ_self _) (by omega) (by rfl) _ _ hW _ (lv_sub hl [0, 1, 2, 3, 4] rfl)
  exact loop_2 _ 0 (Nat.lt_succ_self _) (by omega) (by intro j hj; omega) _ _ hW _ (lv_sub hl [0, 1, 2] rfl)
set_option maxHeartbeats 4000000 in
set_option maxRecDepth 100000 in
theorem m_X12_hires (l : Launch) (D : va_G) (Y : Nat → ClassId) (ad_m : Nat → Nat) (g_m : Nat → Nat → Int32) (w_m : Nat → Nat → Int64) (lv : Nat) (cn : Nat → Nat) (t : tab) (lw : Nat → Option LAW) (σ : tab) (se : Int32) (B_ : Int) (sz : Nat) (hlv : lv < 2) (hTW : TW cn t lw) (hTM : TM lv cn t lw g_m) (hRS : RS cn σ (g_m 60) (g_m 62) (g_m 61 0)) (hWF : WF cn B_ σ) : Met l yX12_hires (ws_ yX12_hires cX12_hires 4 none) ({ frames := 2, cells := 0, slots := 0, locals := 33 }) (zPc D Y [.ref (ad_m 0), .int se] sz (wj []) (wj [(mw Y ad_m (sA 18 (fun _ => nI lv) g_m) w_m)])) (va_Qv (fun (u : (Nat → Int32)) => RS cn (hiresTo σ se (cn 2)) u (g_m 62) (g_m 61 0)) (zB D (fun (u : (Nat → Int32)) => (wj [(mw Y ad_m (sA 60 u (sA 18 (fun _ => nI lv) g_m)) w_m)])) (va_A (wj [(mw Y ad_m (sA 18 (fun _ => nI lv) g_m) w_m)]) sz)) (va_A (wj [(mw Y ad_m (sA 18 (fun _ => nI lv) g_m) w_m)]) sz)) 0 0 (va_A (wj [(mw Y ad_m (sA 18 (fun _ => nI lv) g_m) w_m)]) sz) := by
  refine Met.ofW (cc := cX12_hires) (maxL := 4) (ret := none) (by decide) rfl ?_
  intro p e s m args below meth c s₁ B hml hv
  obtain ⟨rfl, hsz, hW, hR, hK, hA⟩ := zEntry hv
  subst hsz
  have hx := B.exec
  have hb := B.bytes
  have hr := B.returns
  have hlocks := B.notSynchronized
  have hts : ∀ w ∈ lw_all, w.before _ s = true := fun w h => atoms_spec (ws := (ws_ yX12_hires cX12_hires 4 none)) B.pre w (List.mem_cons_of_mem _ h)
  have hown : s.vm.findClass RX12 = some m.cls := findClass_of_methodNamed B.named
  generalize hAe : va_A (wj [(mw Y ad_m (sA 18 (fun _ => nI lv) g_m) w_m)]) s.heap.size = A at hW hR hA ⊢
  have hl := lv_entry ([.ref (ad_m 0), .int se]) (n := 4) (Nat.le_of_ble_eq_true rfl)
  rw [lg_entry_eq]
  generalize (lg_sl ([.ref (ad_m 0), .int se]) ++ List.replicate (4 - (lg_sl ([.ref (ad_m 0), .int se])).length) Slot.unset).toArray = ls at hl ⊢
  have hl : lv_has ls 4 [(0, .ref (ad_m 0)), (1, .int se)] := hl
  have hLT := hRS.2.2
  have hk8 := hTW.n2
  have hk6 := hTW.n1
  have hk60 := hTW.n0
  have hk5 := hTW.n3
  refine lv_iconst (v := 0) hx hb dX12_hires_0 (by decide) ?_
  refine lv_istore_n (lv' := [(2, .int 0), (0, .ref (ad_m 0)), (1, .int se)]) hx hb dX12_hires_1 rfl hl (by decide) rfl (fun ls hl => ?_)
  have loop_2 : ∀ (n : Nat) (rr : Nat) (x_row_2 : Nat → Int32) (τ : tab), cn 2 - rr < n → (rr ≤ cn 2) → (hiresTo σ se rr = τ) → (RS cn τ x_row_2 (g_m 62) (g_m 61 0)) → (WF cn B_ τ) → ∀ (H : Heap) (locs : List Loc), zW D A s.heap H locs (wj [(mw Y ad_m (sA 60 x_row_2 (sA 18 (fun _ => nI lv) g_m)) w_m)]) → ∀ (ls : Array Slot), lv_has ls 4 [(2, .int (nI rr)), (0, .ref (ad_m 0)), (1, .int se)] → W p l e (headSpec (ws_ yX12_hires cX12_hires 4 none) ({ frames := 2, cells := 0, slots := 0, locals := 33 })).room s m ([.ref (ad_m 0), .int se] : List Value).toArray below meth c H locs 0 0 (MQ below (va_Qv (fun (u : (Nat → Int32)) => RS cn (hiresTo σ se (cn 2)) u (g_m 62) (g_m 61 0)) (zB D (fun (u : (Nat → Int32)) => (wj [(mw Y ad_m (sA 60 u (sA 18 (fun _ => nI lv) g_m)) w_m)])) A) A) ([.ref (ad_m 0), .int se] : List Value).toArray s 0 0 A) (F0 m 2 ls []) := by
    intro n
    induction n with
    | zero =>
      intro rr x_row_2 τ hmz
      exact absurd hmz (Nat.not_lt_zero _)
    | succ n ih =>
      intro rr x_row_2 τ hm_2 hi hτ hRSr hWr H locs hW ls hl
      have ih_2 := ih
      clear ih
      refine lv_iload_n hx hb dX12_hires_2 rfl (lv_at hl 0 rfl) ?_
      refine lv_aload_n hx hb dX12_hires_3 rfl (lv_at hl 1 rfl) ?_
      refine va_get (v := .ref (ad_m 30)) (C := RX12) (T := TX12) (N := 75) (ci := 11) hx hb hts in_X12 hown hK.1 hW.1 0 rfl rfl 30 (by decide) (hts _ q1666) (fun _ h9 => h9) rfl dX12_hires_4 ?_
      refine lv_aload_n hx hb dX12_hires_7 rfl (lv_at hl 1 rfl) ?_
      refine va_get (v := .int (nI lv)) (C := RX12) (T := TX12) (N := 75) (ci := 11) hx hb hts in_X12 hown hK.1 hW.1 0 rfl rfl 18 (by decide) (hts _ q1654) (fun _ h9 => h9) rfl dX12_hires_8 ?_
      refine z_iald (v := nI (cn 2)) (f := g_m 30) (j := lv) hx hb hK.1 hW.1 17 0 rfl rfl (vp_in_nI (n := lv) (by omega) (by decide)) (nI_clamp (n := lv) (by omega)) (TM.c30 hTM) dX12_hires_11 ?_
      refine lv_icmp_ge (tgt := 85) hx hb dX12_hires_12 (by decide) (fun c_1 => ?_) (fun c_1 => ?_)
      · have c_1 : cn 2 ≤ rr := (nI_leI (a := cn 2) (b := rr) (by omega) (by omega)).mp c_1
        refine z_vret (x_row_2 : (Nat → Int32)) hx hb hr hlocks hW rfl dX12_hires_85 ?_
        show RS cn (hiresTo σ se (cn 2)) x_row_2 (g_m 62) (g_m 61 0)
        have er : rr = cn 2 := by omega
        have hfin : RS cn τ x_row_2 (g_m 62) (g_m 61 0) := hRSr
        have efin : hiresTo σ se (cn 2) = τ := by
          rw [← hτ, er]
        rw [efin]; exact hfin
      · have c_1 : ¬ (cn 2 ≤ rr) := fun hz_ => c_1 ((nI_leI (a := cn 2) (b := rr) (by omega) (by omega)).mpr hz_)
        refine lv_iload_n hx hb dX12_hires_15 rfl (lv_at hl 2 rfl) ?_
        refine lv_iload_n hx hb dX12_hires_16 rfl (lv_at hl 0 rfl) ?_
        refine lv_ishr hx hb dX12_hires_17 ?_
        refine lv_iconst (v := 1) hx hb dX12_hires_18 (by decide) ?_
        refine lv_iand hx hb dX12_hires_19 ?_
        refine lv_iconst (v := 1) hx hb dX12_hires_20 (by decide) ?_
        refine lv_icmp_ne (tgt := 28) hx hb dX12_hires_21 (by decide) (fun c_2 => ?_) (fun c_2 => ?_)
        · have hbt : ¬ bitP se rr := c_2
          refine lv_iconst (v := 0) hx hb dX12_hires_28 (by decide) ?_
          refine lv_istore_n (lv' := [(3, .int 0), (2, .int (nI rr)), (0, .ref (ad_m 0)), (1, .int se)]) hx hb dX12_hires_29 rfl hl (by decide) rfl (fun ls hl => ?_)
          refine lv_iload_n hx hb dX12_hires_30 rfl (lv_at hl 0 rfl) ?_
          refine lv_if_eq (tgt := 57) hx hb dX12_hires_31 (by decide) (fun c_3 => ?_) (fun c_3 => by first | exact absurd c_3 (by decide) | exact absurd (by decide) c_3)
          refine lv_iload_n hx hb dX12_hires_57 rfl (lv_at hl 0 rfl) ?_
          refine lv_if_ne (tgt := 79) hx hb dX12_hires_58 (by decide) (fun c_4 => by first | exact absurd c_4 (by decide) | exact absurd (by decide) c_4) (fun c_4 => ?_)
          refine lv_aload_n hx hb dX12_hires_61 rfl (lv_at hl 2 rfl) ?_
          refine va_get (v := .ref (ad_m 60)) (C := RX12) (T := TX12) (N := 75) (ci := 11) hx hb hts in_X12 hown hK.1 hW.1 0 rfl rfl 60 (by decide) (hts _ q1696) (fun _ h9 => h9) rfl dX12_hires_62 ?_
          refine lv_bipush (v := 42) hx hb dX12_hires_65 (by decide) ?_
          refine lv_iload_n hx hb dX12_hires_67 rfl (lv_at hl 1 rfl) ?_
          refine lv_iadd hx hb dX12_hires_68 ?_
          refine lv_topi (nm_r (e' := nI (42 + rr)) (nI_add 42 rr) ?_)
          refine z_iald (v := τ 3 rr) (f := x_row_2) (j := 42 + rr) hx hb hK.1 hW.1 43 0 rfl rfl (vp_in_nI (n := 42 + rr) (by omega) (by decide)) (nI_clamp (n := 42 + rr) (by omega)) (MR.r3 hRSr.1 (r := rr) (by omega)) dX12_hires_69 ?_
          refine lv_iconst (v := 3) hx hb dX12_hires_70 (by decide) ?_
          refine lv_icmp_eq (tgt := 79) hx hb dX12_hires_71 (by decide) (fun c_5 => ?_) (fun c_5 => ?_)
          · have h33 := c_5
            refine lv_iinc (v := nI (rr + 1)) (lv' := [(2, .int (nI (rr + 1))), (3, .int 0), (0, .ref (ad_m 0)), (1, .int se)]) hx hb dX12_hires_79 hl (k := 1) rfl (nI_add rr 1) (by decide) rfl (fun ls hl => ?_)
            refine lv_goto (tgt := 2) hx hb dX12_hires_82 (by decide) ?_
            have hRSn : RS cn τ x_row_2 (g_m 62) (g_m 61 0) := by
              have e_6 : τ = τ := by
                rfl
              rw [e_6]; exact hRSr
            exact ih_2 (rr + 1) x_row_2 τ (by omega) (by omega) (by simp only [hiresTo]; rw [hτ]; first | (rw [zi_t hbt, if_pos h33]) | (rw [zi_t hbt, if_neg h33n]) | (rw [zi_f hbt, if_pos h33]) | (rw [zi_f hbt, if_neg h33n])) (by exact hRSn) (by exact hWr) _ _ hW _ (lv_sub hl [0, 2, 3] rfl)
          · have h33n := c_5
            refine lv_aload_n hx hb dX12_hires_74 rfl (lv_at hl 2 rfl) ?_
            refine lv_iload_n hx hb dX12_hires_75 rfl (lv_at hl 1 rfl) ?_
            refine z_callv (wc := wj [(mw Y ad_m (sA 60 x_row_2 (sA 18 (fun _ => nI lv) g_m)) w_m)]) (wr := wj []) (va_runV (As := [.int (nI rr)]) (rest := []) ⟨hx, hb, hml, hown, hts⟩ (m_X12_goesHome l D Y ad_m (sA 60 x_row_2 (sA 18 (fun _ => nI lv) g_m)) w_m lv cn t lw τ rr H.size (show lv < 2 from by exact hlv) (show TW cn t lw from by exact hTW) (show TM lv cn t lw (sA 60 x_row_2 (sA 18 (fun _ => nI lv) g_m)) from by exact hTM) (show RS cn τ x_row_2 (g_m 62) (g_m 61 0) from by exact hRSr) (show rr < cn 2 from by omega) (show ¬ τ 5 rr ≤ 0 → vp_in (τ 6 rr) 6 from by exact fun q => vp_mono (hWr.w5 (by omega) q).2 hk60)) (cwV 1 hts (lw_V q2106 q2108 qs98 q133 q2109) rfl rfl rfl (by decide +kernel) ⟨Nat.le_of_ble_eq_true rfl, Nat.le_of_ble_eq_true rfl⟩) (zPreV hK hW hR (wj_split3 (B := [(mw Y ad_m (sA 60 x_row_2 (sA 18 (fun _ => nI lv) g_m)) w_m)]) (R := []) (C := [(mw Y ad_m (sA 60 x_row_2 (sA 18 (fun _ => nI lv) g_m)) w_m)]) (O := []) (X := []) (List.Perm.refl _)) (va_recv hK.1 hW.1 (ci := 11) (q0 := 0) rfl rfl)) rfl rfl hl.1 rfl (lv_room (Nat.le_of_ble_eq_true rfl)) dX12_hires_76 ⟨Nat.le_refl _, Nat.le_refl _⟩) hW hA (wj_split (B := [(mw Y ad_m (sA 60 x_row_2 (sA 18 (fun _ => nI lv) g_m)) w_m)]) (C := [(mw Y ad_m (sA 60 x_row_2 (sA 18 (fun _ => nI lv) g_m)) w_m)]) (R := []) (List.Perm.refl _)) (fun  u H locs hp_8 hW => ?_)
            obtain ⟨urow_9, rfl⟩ : ∃ z, z = u := ⟨_, rfl⟩
            have hp_8 : RS cn (homeP τ rr) urow_9 (g_m 62) (g_m 61 0) := hp_8
            have hW : zW D A s.heap H locs (wj [(mw Y ad_m (sA 60 urow_9 (sA 18 (fun _ => nI lv) g_m)) w_m)]) := hW.join
            refine lv_iinc (v := nI (rr + 1)) (lv' := [(2, .int (nI (rr + 1))), (3, .int 0), (0, .ref (ad_m 0)), (1, .int se)]) hx hb dX12_hires_79 hl (k := 1) rfl (nI_add rr 1) (by decide) rfl (fun ls hl => ?_)
            refine lv_goto (tgt := 2) hx hb dX12_hires_82 (by decide) ?_
            have hRSn : RS cn (homeP τ rr) urow_9 (g_m 62) (g_m 61 0) := by
              have e_10 : (homeP τ rr) = homeP τ rr := by
                rfl
              rw [e_10]; exact hp_8
            exact ih_2 (rr + 1) urow_9 (homeP τ rr) (by omega) (by omega) (by simp only [hiresTo]; rw [hτ]; first | (rw [zi_t hbt, if_pos h33]) | (rw [zi_t hbt, if_neg h33n]) | (rw [zi_f hbt, if_pos h33]) | (rw [zi_f hbt, if_neg h33n])) (by exact hRSn) (by exact WF.home hTW hWr (by omega)) _ _ hW _ (lv_sub hl [0, 2, 3] rfl)
        · have hbt : bitP se rr := c_2
          refine lv_iconst (v := 1) hx hb dX12_hires_24 (by decide) ?_
          refine lv_goto (tgt := 29) hx hb dX12_hires_25 (by decide) ?_
          refine lv_istore_n (lv' := [(3, .int 1), (2, .int (nI rr)), (0, .ref (ad_m 0)), (1, .int se)]) hx hb dX12_hires_29 rfl hl (by decide) rfl (fun ls hl => ?_)
          refine lv_iload_n hx hb dX12_hires_30 rfl (lv_at hl 0 rfl) ?_
          refine lv_if_eq (tgt := 57) hx hb dX12_hires_31 (by decide) (fun c_11 => by first | exact absurd c_11 (by decide) | exact absurd (by decide) c_11) (fun c_11 => ?_)
          refine lv_aload_n hx hb dX12_hires_34 rfl (lv_at hl 2 rfl) ?_
          refine va_get (v := .ref (ad_m 60)) (C := RX12) (T := TX12) (N := 75) (ci := 11) hx hb hts in_X12 hown hK.1 hW.1 0 rfl rfl 60 (by decide) (hts _ q1696) (fun _ h9 => h9) rfl dX12_hires_35 ?_
          refine lv_bipush (v := 42) hx hb dX12_hires_38 (by decide) ?_
          refine lv_iload_n hx hb dX12_hires_40 rfl (lv_at hl 1 rfl) ?_
          refine lv_iadd hx hb dX12_hires_41 ?_
          refine lv_topi (nm_r (e' := nI (42 + rr)) (nI_add 42 rr) ?_)
          refine z_iald (v := τ 3 rr) (f := x_row_2) (j := 42 + rr) hx hb hK.1 hW.1 43 0 rfl rfl (vp_in_nI (n := 42 + rr) (by omega) (by decide)) (nI_clamp (n := 42 + rr) (by omega)) (MR.r3 hRSr.1 (r := rr) (by omega)) dX12_hires_42 ?_
          refine lv_iconst (v := 3) hx hb dX12_hires_43 (by decide) ?_
          refine lv_icmp_ne (tgt := 57) hx hb dX12_hires_44 (by decide) (fun c_12 => ?_) (fun c_12 => ?_)
          · have h33n := c_12
            refine lv_iload_n hx hb dX12_hires_57 rfl (lv_at hl 0 rfl) ?_
            refine lv_if_ne (tgt := 79) hx hb dX12_hires_58 (by decide) (fun c_13 => ?_) (fun c_13 => by first | exact absurd c_13 (by decide) | exact absurd (by decide) c_13)
            refine lv_iinc (v := nI (rr + 1)) (lv' := [(2, .int (nI (rr + 1))), (3, .int 1), (0, .ref (ad_m 0)), (1, .int se)]) hx hb dX12_hires_79 hl (k := 1) rfl (nI_add rr 1) (by decide) rfl (fun ls hl => ?_)
            refine lv_goto (tgt := 2) hx hb dX12_hires_82 (by decide) ?_
            have hRSn : RS cn τ x_row_2 (g_m 62) (g_m 61 0) := by
              have e_14 : τ = τ := by
                rfl
              rw [e_14]; exact hRSr
            exact ih_2 (rr + 1) x_row_2 τ (by omega) (by omega) (by simp only [hiresTo]; rw [hτ]; first | (rw [zi_t hbt, if_pos h33]) | (rw [zi_t hbt, if_neg h33n]) | (rw [zi_f hbt, if_pos h33]) | (rw [zi_f hbt, if_neg h33n])) (by exact hRSn) (by exact hWr) _ _ hW _ (lv_sub hl [0, 2, 3] rfl)
          · have h33 := c_12
            refine lv_aload_n hx hb dX12_hires_47 rfl (lv_at hl 2 rfl) ?_
            refine va_get (v := .ref (ad_m 60)) (C := RX12) (T := TX12) (N := 75) (ci := 11) hx hb hts in_X12 hown hK.1 hW.1 0 rfl rfl 60 (by decide) (hts _ q1696) (fun _ h9 => h9) rfl dX12_hires_48 ?_
            refine lv_bipush (v := 42) hx hb dX12_hires_51 (by decide) ?_
            refine lv_iload_n hx hb dX12_hires_53 rfl (lv_at hl 1 rfl) ?_
            refine lv_iadd hx hb dX12_hires_54 ?_
            refine lv_topi (nm_r (e' := nI (42 + rr)) (nI_add 42 rr) ?_)
            refine lv_iconst (v := 0) hx hb dX12_hires_55 (by decide) ?_
            refine z_iast (x := 0) (f := x_row_2) (j := 42 + rr) (wn := (wj [(mw Y ad_m (sA 60 (upd x_row_2 (42 + rr) 0) (sA 18 (fun _ => nI lv) g_m)) w_m)])) hx hb hK.1 hW 43 0 rfl rfl (vp_in_nI (n := 42 + rr) (by omega) (by decide)) (nI_clamp (n := 42 + rr) (by omega)) dX12_hires_56 rfl (fun H locs hW => ?_)
            refine lv_iload_n hx hb dX12_hires_57 rfl (lv_at hl 0 rfl) ?_
            refine lv_if_ne (tgt := 79) hx hb dX12_hires_58 (by decide) (fun c_15 => ?_) (fun c_15 => by first | exact absurd c_15 (by decide) | exact absurd (by decide) c_15)
            refine lv_iinc (v := nI (rr + 1)) (lv' := [(2, .int (nI (rr + 1))), (3, .int 1), (0, .ref (ad_m 0)), (1, .int se)]) hx hb dX12_hires_79 hl (k := 1) rfl (nI_add rr 1) (by decide) rfl (fun ls hl => ?_)
            refine lv_goto (tgt := 2) hx hb dX12_hires_82 (by decide) ?_
            have hRSn : RS cn (sU 3 rr 0 τ) (upd x_row_2 (42 + rr) 0) (g_m 62) (g_m 61 0) := by
              have e_16 : (sU 3 rr 0 τ) = sU 3 rr 0 τ := by
                rfl
              rw [e_16]; exact (RS.mk' hRSr (MR.u3 hk8 hRSr.1 (r := rr) (by omega) 0) (by rw [sU_ne (by omega)]) (by rw [sU_ne (by omega)]))
            exact ih_2 (rr + 1) (upd x_row_2 (42 + rr) 0) (sU 3 rr 0 τ) (by omega) (by omega) (by simp only [hiresTo]; rw [hτ]; first | (rw [zi_t hbt, if_pos h33]) | (rw [zi_t hbt, if_neg h33n]) | (rw [zi_f hbt, if_pos h33]) | (rw [zi_f hbt, if_neg h33n])) (by exact hRSn) (by exact WF.back hWr (by omega) h33) _ _ hW _ (lv_sub hl [0, 2, 3] rfl)
  exact loop_2 _ 0 (g_m 60) σ (Nat.lt_succ_self _) (by omega) (by rfl) (by exact hRS) (by exact hWF) _ _ hW _ (lv_sub hl [0, 1, 2] rfl)
