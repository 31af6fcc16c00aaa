/-! the model: terms, laws, minutes -/
set_option maxRecDepth 100000
set_option maxHeartbeats 4000000 in
set_option maxRecDepth 100000 in
theorem m_X12_termOf (l : Launch) (D : va_G) (Y : Nat → ClassId) (ad_m : Nat → Nat) (g_m : Nat → Nat → Int32) (w_m : Nat → Nat → Int64) (i0 : Nat) (i1 : Nat) (cc : RPN) (v : Nat → Int32) (sz : Nat) (hc : codeAt (g_m 52) (g_m 53) i0 i1 cc) (hln : cc.length ≤ 400) (hi1 : i1 ≤ 840) (hok : rpOK cc) (hvv : ∀ j, j < 7 → (g_m 56) j = v j) : Met l yX12_termOf (ws_ yX12_termOf cX12_termOf 8 (some .int)) ({ frames := 1, cells := 0, slots := 0, locals := 12 }) (zPc D Y [.ref (ad_m 0), .int (nI i0), .int (nI i1)] sz (wj []) (wj [(mw Y ad_m g_m w_m)])) (va_Qi (fun (r : Int32) (u : (Nat → Int32) × (Int32)) => r = (if (tv v cc).2 = true then 0 else (tv v cc).1) ∧ u.2 = (if (tv v cc).2 = true then 1 else (g_m 58 0))) (zB D (fun (u : (Nat → Int32) × (Int32)) => (wj [(mw Y ad_m (sA 58 (fun _ => u.2) (sA 57 u.1 g_m)) w_m)])) (va_A (wj [(mw Y ad_m g_m w_m)]) sz)) (va_A (wj [(mw Y ad_m g_m w_m)]) sz)) 0 0 (va_A (wj [(mw Y ad_m g_m w_m)]) sz) := by
  refine Met.ofW (cc := cX12_termOf) (maxL := 8) (ret := (some .int)) (by decide) rfl ?_
  intro p e s m args below meth c s₁ B hml hv
  obtain ⟨rfl, hsz, hW, hR, hK, hA⟩ := zEntry hv
  subst hsz
  have hx := B.exec
  have hb := B.bytes
  have hr := B.returns
  have hlocks := B.notSynchronized
  have hts : ∀ w ∈ lw_all, w.before _ s = true := fun w h => atoms_spec (ws := (ws_ yX12_termOf cX12_termOf 8 (some .int))) B.pre w (List.mem_cons_of_mem _ h)
  have hown : s.vm.findClass RX12 = some m.cls := findClass_of_methodNamed B.named
  generalize hAe : va_A (wj [(mw Y ad_m g_m w_m)]) s.heap.size = A at hW hR hA ⊢
  have hl := lv_entry ([.ref (ad_m 0), .int (nI i0), .int (nI i1)]) (n := 8) (Nat.le_of_ble_eq_true rfl)
  rw [lg_entry_eq]
  generalize (lg_sl ([.ref (ad_m 0), .int (nI i0), .int (nI i1)]) ++ List.replicate (8 - (lg_sl ([.ref (ad_m 0), .int (nI i0), .int (nI i1)])).length) Slot.unset).toArray = ls at hl ⊢
  have hl : lv_has ls 8 [(0, .ref (ad_m 0)), (1, .int (nI i0)), (2, .int (nI i1))] := hl
  refine lv_iconst (v := 0) hx hb dX12_termOf_0 (by decide) ?_
  refine lv_istore_n (lv' := [(3, .int 0), (0, .ref (ad_m 0)), (1, .int (nI i0)), (2, .int (nI i1))]) hx hb dX12_termOf_1 rfl hl (by decide) rfl (fun ls hl => ?_)
  refine lv_iload_n hx hb dX12_termOf_2 rfl (lv_at hl 2 rfl) ?_
  refine lv_istore (lv' := [(4, .int (nI i0)), (3, .int 0), (0, .ref (ad_m 0)), (1, .int (nI i0)), (2, .int (nI i1))]) hx hb dX12_termOf_3 hl (by decide) rfl (fun ls hl => ?_)
  have loop_5 : ∀ (n : Nat) (ci : Nat) (tp : Nat) (x_pile_5 : Nat → Int32) (cr : RPN) (st : List Int32), cr.length < n → (codeFrom (g_m 52) (g_m 53) ci cr) → (ci + cr.length = i1) → (rpD cr tp = some 1) → (st.length = tp) → (tp + cr.length ≤ 400) → (pileAt x_pile_5 st) → (rpn v cc ([], false) = rpn v cr (st, false)) → ∀ (H : Heap) (locs : List Loc), zW D A s.heap H locs (wj [(mw Y ad_m (sA 57 x_pile_5 g_m) w_m)]) → ∀ (ls : Array Slot), lv_has ls 8 [(4, .int (nI ci)), (3, .int (nI tp)), (0, .ref (ad_m 0)), (1, .int (nI i0)), (2, .int (nI i1))] → W p l e (headSpec (ws_ yX12_termOf cX12_termOf 8 (some .int)) ({ frames := 1, cells := 0, slots := 0, locals := 12 })).room s m ([.ref (ad_m 0), .int (nI i0), .int (nI i1)] : List Value).toArray below meth c H locs 0 0 (MQ below (va_Qi (fun (r : Int32) (u : (Nat → Int32) × (Int32)) => r = (if (tv v cc).2 = true then 0 else (tv v cc).1) ∧ u.2 = (if (tv v cc).2 = true then 1 else (g_m 58 0))) (zB D (fun (u : (Nat → Int32) × (Int32)) => (wj [(mw Y ad_m (sA 58 (fun _ => u.2) (sA 57 u.1 g_m)) w_m)])) A) A) ([.ref (ad_m 0), .int (nI i0), .int (nI i1)] : List Value).toArray s 0 0 A) (F0 m 5 ls []) := by
    intro n
    induction n with
    | zero =>
      intro ci tp x_pile_5 cr st hmz
      exact absurd hmz (Nat.not_lt_zero _)
    | succ n ih =>
      intro ci tp x_pile_5 cr st hm_5 h1 h2 h3 h4 h5 h6 h7 H locs hW ls hl
      have ih_5 := ih
      clear ih
      refine lv_iload hx hb dX12_termOf_5 (lv_at hl 0 rfl) ?_
      refine lv_iload_n hx hb dX12_termOf_7 rfl (lv_at hl 4 rfl) ?_
      refine lv_icmp_ge (tgt := 165) hx hb dX12_termOf_8 (by decide) (fun c_1 => ?_) (fun c_1 => ?_)
      · have c_1 : i1 ≤ ci := (nI_leI (a := i1) (b := ci) (by omega) (by omega)).mp c_1
        have hcr : cr = [] := List.eq_nil_of_length_eq_zero (by omega)
        subst hcr
        simp only [rpD, Option.some.injEq] at h3
        obtain ⟨z, rfl⟩ : ∃ z, st = [z] := by
          match st, h4 with
          | [z], _ => exact ⟨z, rfl⟩
          | [], h4 => simp only [List.length_nil] at h4; omega
          | _ :: _ :: _, h4 => simp only [List.length_cons] at h4; omega
        refine lv_aload_n hx hb dX12_termOf_165 rfl (lv_at hl 2 rfl) ?_
        refine va_get (v := .ref (ad_m 57)) (C := RX12) (T := TX12) (N := 75) (ci := 11) hx hb hts in_X12 hown hK.1 hW.1 0 rfl rfl 57 (by decide) (hts _ q1693) (fun _ h9 => h9) rfl dX12_termOf_166 ?_
        refine lv_iconst (v := 0) hx hb dX12_termOf_169 (by decide) ?_
        refine z_iald (v := z) (f := x_pile_5) (j := 0) hx hb hK.1 hW.1 41 0 rfl rfl (vp_in_nI (n := 0) (by omega) (by decide)) (by decide) h6.1 dX12_termOf_170 ?_
        refine z_ireti ((x_pile_5, g_m 58 0) : (Nat → Int32) × (Int32)) hx hb hr hlocks rfl hW rfl dX12_termOf_171 ?_
        show z = (if (tv v cc).2 = true then 0 else (tv v cc).1) ∧ (g_m 58 0) = (if (tv v cc).2 = true then 1 else (g_m 58 0))
        have e : tv v cc = (z, false) := by unfold tv; rw [h7]; rfl
        rw [e]
        exact ⟨rfl, rfl⟩
      · have c_1 : ¬ (i1 ≤ ci) := fun hz_ => c_1 ((nI_leI (a := i1) (b := ci) (by omega) (by omega)).mpr hz_)
        obtain ⟨q, cr2, rfl⟩ : ∃ q cr2, cr = q :: cr2 := by
          cases cr with
          | nil => simp only [List.length_nil] at h2; omega
          | cons q cr2 => exact ⟨q, cr2, rfl⟩
        obtain ⟨hq1, hq2, hq3, hq4⟩ := codeFrom_hd h1
        simp only [List.length_cons] at h2 h5 hm_5
        refine lv_aload_n hx hb dX12_termOf_11 rfl (lv_at hl 2 rfl) ?_
        refine va_get (v := .ref (ad_m 52)) (C := RX12) (T := TX12) (N := 75) (ci := 11) hx hb hts in_X12 hown hK.1 hW.1 0 rfl rfl 52 (by decide) (hts _ q1688) (fun _ h9 => h9) rfl dX12_termOf_12 ?_
        refine lv_iload hx hb dX12_termOf_15 (lv_at hl 0 rfl) ?_
        refine z_iald (v := nI q.1) (f := g_m 52) (j := ci) hx hb hK.1 hW.1 37 0 rfl rfl (vp_in_nI (n := ci) (by omega) (by decide)) (nI_clamp (n := ci) (by omega)) hq2 dX12_termOf_17 ?_
        refine lv_istore (lv' := [(5, .int (nI q.1)), (4, .int (nI ci)), (3, .int (nI tp)), (0, .ref (ad_m 0)), (1, .int (nI i0)), (2, .int (nI i1))]) hx hb dX12_termOf_18 hl (by decide) rfl (fun ls hl => ?_)
        refine lv_iload hx hb dX12_termOf_20 (lv_at hl 0 rfl) ?_
        refine lv_iconst (v := 2) hx hb dX12_termOf_22 (by decide) ?_
        refine lv_icmp_ge (tgt := 65) hx hb dX12_termOf_23 (by decide) (fun c_2 => ?_) (fun c_2 => ?_)
        · have c_2 : 2 ≤ q.1 := (nI_leI (a := 2) (b := q.1) (by omega) (by omega)).mp c_2
          have hge : ¬ q.1 ≤ 1 := by omega
          have h3a : 2 ≤ tp ∧ rpD cr2 (tp - 1) = some 1 := by
            simp only [rpD, if_neg hge] at h3
            split at h3
            · exact ⟨by assumption, h3⟩
            · cases h3
          obtain ⟨hd2, h3b⟩ := h3a
          obtain ⟨y, x, st2, rfl⟩ : ∃ y x st2, st = y :: x :: st2 := by
            rcases st with _ | ⟨y, _ | ⟨x, st2⟩⟩
            · simp only [List.length_nil] at h4; omega
            · simp only [List.length_cons, List.length_nil] at h4; omega
            · exact ⟨y, x, st2, rfl⟩
          simp only [List.length_cons] at h4
          have hpy : x_pile_5 (tp - 1) = y := by rw [← h6.1]; congr 1; simp only [List.length_cons]; omega
          have hpx : x_pile_5 (tp - 1 - 1) = x := by rw [← h6.2.1]; congr 1; omega
          refine lv_iinc (v := nI (tp - 1)) (lv' := [(3, .int (nI (tp - 1))), (5, .int (nI q.1)), (4, .int (nI ci)), (0, .ref (ad_m 0)), (1, .int (nI i0)), (2, .int (nI i1))]) hx hb dX12_termOf_65 hl (k := 2) rfl (z_dec tp 1 (by omega)) (by decide) rfl (fun ls hl => ?_)
          refine lv_aload_n hx hb dX12_termOf_68 rfl (lv_at hl 3 rfl) ?_
          refine va_get (v := .ref (ad_m 57)) (C := RX12) (T := TX12) (N := 75) (ci := 11) hx hb hts in_X12 hown hK.1 hW.1 0 rfl rfl 57 (by decide) (hts _ q1693) (fun _ h9 => h9) rfl dX12_termOf_69 ?_
          refine lv_iload_n hx hb dX12_termOf_72 rfl (lv_at hl 0 rfl) ?_
          refine lv_iconst (v := 1) hx hb dX12_termOf_73 (by decide) ?_
          refine lv_isub hx hb dX12_termOf_74 ?_
          refine lv_topi (nm_r (e' := nI (tp - 1 - 1)) (pk_sub (a := tp - 1) (b := 1) (by omega)) ?_)
          refine z_iald (v := x) (f := x_pile_5) (j := tp - 1 - 1) hx hb hK.1 hW.1 41 0 rfl rfl (vp_in_nI (n := tp - 1 - 1) (by omega) (by decide)) (nI_clamp (n := tp - 1 - 1) (by omega)) hpx dX12_termOf_75 ?_
          refine lv_istore (lv' := [(6, .int x), (3, .int (nI (tp - 1))), (5, .int (nI q.1)), (4, .int (nI ci)), (0, .ref (ad_m 0)), (1, .int (nI i0)), (2, .int (nI i1))]) hx hb dX12_termOf_76 hl (by decide) rfl (fun ls hl => ?_)
          refine lv_aload_n hx hb dX12_termOf_78 rfl (lv_at hl 4 rfl) ?_
          refine va_get (v := .ref (ad_m 57)) (C := RX12) (T := TX12) (N := 75) (ci := 11) hx hb hts in_X12 hown hK.1 hW.1 0 rfl rfl 57 (by decide) (hts _ q1693) (fun _ h9 => h9) rfl dX12_termOf_79 ?_
          refine lv_iload_n hx hb dX12_termOf_82 rfl (lv_at hl 1 rfl) ?_
          refine z_iald (v := y) (f := x_pile_5) (j := tp - 1) hx hb hK.1 hW.1 41 0 rfl rfl (vp_in_nI (n := tp - 1) (by omega) (by decide)) (nI_clamp (n := tp - 1) (by omega)) hpy dX12_termOf_83 ?_
          refine lv_istore (lv' := [(7, .int y), (6, .int x), (3, .int (nI (tp - 1))), (5, .int (nI q.1)), (4, .int (nI ci)), (0, .ref (ad_m 0)), (1, .int (nI i0)), (2, .int (nI i1))]) hx hb dX12_termOf_84 hl (by decide) rfl (fun ls hl => ?_)
          refine lv_iload hx hb dX12_termOf_86 (lv_at hl 3 rfl) ?_
          refine lv_iconst (v := 5) hx hb dX12_termOf_88 (by decide) ?_
          refine lv_icmp_ne (tgt := 104) hx hb dX12_termOf_89 (by decide) (fun c_3 => ?_) (fun c_3 => ?_)
          · have c_3 : ¬ (q.1 = 5) := fun hz_ => c_3 ((nI_eq (a := q.1) (b := 5) (by omega) (by omega)).mpr hz_)
            refine lv_aload_n hx hb dX12_termOf_104 rfl (lv_at hl 5 rfl) ?_
            refine va_get (v := .ref (ad_m 57)) (C := RX12) (T := TX12) (N := 75) (ci := 11) hx hb hts in_X12 hown hK.1 hW.1 0 rfl rfl 57 (by decide) (hts _ q1693) (fun _ h9 => h9) rfl dX12_termOf_105 ?_
            refine lv_iload_n hx hb dX12_termOf_108 rfl (lv_at hl 2 rfl) ?_
            refine lv_iconst (v := 1) hx hb dX12_termOf_109 (by decide) ?_
            refine lv_isub hx hb dX12_termOf_110 ?_
            refine lv_topi (nm_r (e' := nI (tp - 1 - 1)) (pk_sub (a := tp - 1) (b := 1) (by omega)) ?_)
            refine lv_iload hx hb dX12_termOf_111 (lv_at hl 3 rfl) ?_
            refine lv_iconst (v := 2) hx hb dX12_termOf_113 (by decide) ?_
            refine lv_icmp_ne (tgt := 125) hx hb dX12_termOf_114 (by decide) (fun c_4 => ?_) (fun c_4 => ?_)
            · have c_4 : ¬ (q.1 = 2) := fun hz_ => c_4 ((nI_eq (a := q.1) (b := 2) (by omega) (by omega)).mpr hz_)
              refine lv_iload hx hb dX12_termOf_125 (lv_at hl 3 rfl) ?_
              refine lv_iconst (v := 3) hx hb dX12_termOf_127 (by decide) ?_
              refine lv_icmp_ne (tgt := 139) hx hb dX12_termOf_128 (by decide) (fun c_5 => ?_) (fun c_5 => ?_)
              · have c_5 : ¬ (q.1 = 3) := fun hz_ => c_5 ((nI_eq (a := q.1) (b := 3) (by omega) (by omega)).mpr hz_)
                refine lv_iload hx hb dX12_termOf_139 (lv_at hl 3 rfl) ?_
                refine lv_iconst (v := 4) hx hb dX12_termOf_141 (by decide) ?_
                refine lv_icmp_ne (tgt := 153) hx hb dX12_termOf_142 (by decide) (fun c_6 => ?_) (fun c_6 => ?_)
                · have c_6 : ¬ (q.1 = 4) := fun hz_ => c_6 ((nI_eq (a := q.1) (b := 4) (by omega) (by omega)).mpr hz_)
                  refine lv_iload hx hb dX12_termOf_153 (lv_at hl 1 rfl) ?_
                  refine lv_iload hx hb dX12_termOf_155 (lv_at hl 0 rfl) ?_
                  refine lv_idiv hx hb dX12_termOf_157 (by first | assumption | (exfalso; omega)) ?_
                  refine z_iast (x := x / y) (f := x_pile_5) (j := tp - 1 - 1) (wn := (wj [(mw Y ad_m (sA 57 (upd x_pile_5 (tp - 1 - 1) (x / y)) g_m) w_m)])) hx hb hK.1 hW 41 0 rfl rfl (vp_in_nI (n := tp - 1 - 1) (by omega) (by decide)) (nI_clamp (n := tp - 1 - 1) (by omega)) dX12_termOf_158 rfl (fun H locs hW => ?_)
                  refine lv_iinc (v := nI (ci + 1)) (lv' := [(4, .int (nI (ci + 1))), (7, .int y), (6, .int x), (3, .int (nI (tp - 1))), (5, .int (nI q.1)), (0, .ref (ad_m 0)), (1, .int (nI i0)), (2, .int (nI i1))]) hx hb dX12_termOf_159 hl (k := 4) rfl (nI_add ci 1) (by decide) rfl (fun ls hl => ?_)
                  refine lv_goto (tgt := 5) hx hb dX12_termOf_162 (by decide) ?_
                  exact ih_5 (ci + 1) (tp - 1) (upd x_pile_5 (tp - 1 - 1) (x / y)) cr2 ((x / y) :: st2) (by omega) (by exact codeFrom_tl h1) (by omega) (by first | exact h3b | (rw [show tp - 1 - 1 + 1 = tp - 1 by omega]; exact h3b)) (by simp only [List.length_cons]; omega) (by omega) (by first | exact pileAt_push h6 h4 | exact pileAt_push h6.2.2 (by omega)) (by rw [h7]; show rpn v cr2 (rpStep v q _) = _; first | (exfalso; omega) | (congr 1; simp [rpStep, *]; done) | (congr 1; have e0 : ¬ q.1 = 0 := by omega; have e1 : ¬ q.1 = 1 := by omega; simp [rpStep, *]; done) | (congr 1; simp only [rpStep]; grind)) _ _ hW _ (lv_sub hl [0, 3, 5, 6, 7] rfl)
                · have c_6 : q.1 = 4 := (nI_eq (a := q.1) (b := 4) (by omega) (by omega)).mp c_6
                  refine lv_iload hx hb dX12_termOf_145 (lv_at hl 1 rfl) ?_
                  refine lv_iload hx hb dX12_termOf_147 (lv_at hl 0 rfl) ?_
                  refine lv_imul hx hb dX12_termOf_149 ?_
                  refine lv_goto (tgt := 158) hx hb dX12_termOf_150 (by decide) ?_
                  refine z_iast (x := x * y) (f := x_pile_5) (j := tp - 1 - 1) (wn := (wj [(mw Y ad_m (sA 57 (upd x_pile_5 (tp - 1 - 1) (x * y)) g_m) w_m)])) hx hb hK.1 hW 41 0 rfl rfl (vp_in_nI (n := tp - 1 - 1) (by omega) (by decide)) (nI_clamp (n := tp - 1 - 1) (by omega)) dX12_termOf_158 rfl (fun H locs hW => ?_)
                  refine lv_iinc (v := nI (ci + 1)) (lv' := [(4, .int (nI (ci + 1))), (7, .int y), (6, .int x), (3, .int (nI (tp - 1))), (5, .int (nI q.1)), (0, .ref (ad_m 0)), (1, .int (nI i0)), (2, .int (nI i1))]) hx hb dX12_termOf_159 hl (k := 4) rfl (nI_add ci 1) (by decide) rfl (fun ls hl => ?_)
                  refine lv_goto (tgt := 5) hx hb dX12_termOf_162 (by decide) ?_
                  exact ih_5 (ci + 1) (tp - 1) (upd x_pile_5 (tp - 1 - 1) (x * y)) cr2 ((x * y) :: st2) (by omega) (by exact codeFrom_tl h1) (by omega) (by first | exact h3b | (rw [show tp - 1 - 1 + 1 = tp - 1 by omega]; exact h3b)) (by simp only [List.length_cons]; omega) (by omega) (by first | exact pileAt_push h6 h4 | exact pileAt_push h6.2.2 (by omega)) (by rw [h7]; show rpn v cr2 (rpStep v q _) = _; first | (exfalso; omega) | (congr 1; simp [rpStep, *]; done) | (congr 1; have e0 : ¬ q.1 = 0 := by omega; have e1 : ¬ q.1 = 1 := by omega; simp [rpStep, *]; done) | (congr 1; simp only [rpStep]; grind)) _ _ hW _ (lv_sub hl [0, 3, 5, 6, 7] rfl)
              · have c_5 : q.1 = 3 := (nI_eq (a := q.1) (b := 3) (by omega) (by omega)).mp c_5
                refine lv_iload hx hb dX12_termOf_131 (lv_at hl 1 rfl) ?_
                refine lv_iload hx hb dX12_termOf_133 (lv_at hl 0 rfl) ?_
                refine lv_isub hx hb dX12_termOf_135 ?_
                refine lv_goto (tgt := 158) hx hb dX12_termOf_136 (by decide) ?_
                refine z_iast (x := x - y) (f := x_pile_5) (j := tp - 1 - 1) (wn := (wj [(mw Y ad_m (sA 57 (upd x_pile_5 (tp - 1 - 1) (x - y)) g_m) w_m)])) hx hb hK.1 hW 41 0 rfl rfl (vp_in_nI (n := tp - 1 - 1) (by omega) (by decide)) (nI_clamp (n := tp - 1 - 1) (by omega)) dX12_termOf_158 rfl (fun H locs hW => ?_)
                refine lv_iinc (v := nI (ci + 1)) (lv' := [(4, .int (nI (ci + 1))), (7, .int y), (6, .int x), (3, .int (nI (tp - 1))), (5, .int (nI q.1)), (0, .ref (ad_m 0)), (1, .int (nI i0)), (2, .int (nI i1))]) hx hb dX12_termOf_159 hl (k := 4) rfl (nI_add ci 1) (by decide) rfl (fun ls hl => ?_)
                refine lv_goto (tgt := 5) hx hb dX12_termOf_162 (by decide) ?_
                exact ih_5 (ci + 1) (tp - 1) (upd x_pile_5 (tp - 1 - 1) (x - y)) cr2 ((x - y) :: st2) (by omega) (by exact codeFrom_tl h1) (by omega) (by first | exact h3b | (rw [show tp - 1 - 1 + 1 = tp - 1 by omega]; exact h3b)) (by simp only [List.length_cons]; omega) (by omega) (by first | exact pileAt_push h6 h4 | exact pileAt_push h6.2.2 (by omega)) (by rw [h7]; show rpn v cr2 (rpStep v q _) = _; first | (exfalso; omega) | (congr 1; simp [rpStep, *]; done) | (congr 1; have e0 : ¬ q.1 = 0 := by omega; have e1 : ¬ q.1 = 1 := by omega; simp [rpStep, *]; done) | (congr 1; simp only [rpStep]; grind)) _ _ hW _ (lv_sub hl [0, 3, 5, 6, 7] rfl)
            · have c_4 : q.1 = 2 := (nI_eq (a := q.1) (b := 2) (by omega) (by omega)).mp c_4
              refine lv_iload hx hb dX12_termOf_117 (lv_at hl 1 rfl) ?_
              refine lv_iload hx hb dX12_termOf_119 (lv_at hl 0 rfl) ?_
              refine lv_iadd hx hb dX12_termOf_121 ?_
              refine lv_goto (tgt := 158) hx hb dX12_termOf_122 (by decide) ?_
              refine z_iast (x := x + y) (f := x_pile_5) (j := tp - 1 - 1) (wn := (wj [(mw Y ad_m (sA 57 (upd x_pile_5 (tp - 1 - 1) (x + y)) g_m) w_m)])) hx hb hK.1 hW 41 0 rfl rfl (vp_in_nI (n := tp - 1 - 1) (by omega) (by decide)) (nI_clamp (n := tp - 1 - 1) (by omega)) dX12_termOf_158 rfl (fun H locs hW => ?_)
              refine lv_iinc (v := nI (ci + 1)) (lv' := [(4, .int (nI (ci + 1))), (7, .int y), (6, .int x), (3, .int (nI (tp - 1))), (5, .int (nI q.1)), (0, .ref (ad_m 0)), (1, .int (nI i0)), (2, .int (nI i1))]) hx hb dX12_termOf_159 hl (k := 4) rfl (nI_add ci 1) (by decide) rfl (fun ls hl => ?_)
              refine lv_goto (tgt := 5) hx hb dX12_termOf_162 (by decide) ?_
              exact ih_5 (ci + 1) (tp - 1) (upd x_pile_5 (tp - 1 - 1) (x + y)) cr2 ((x + y) :: st2) (by omega) (by exact codeFrom_tl h1) (by omega) (by first | exact h3b | (rw [show tp - 1 - 1 + 1 = tp - 1 by omega]; exact h3b)) (by simp only [List.length_cons]; omega) (by omega) (by first | exact pileAt_push h6 h4 | exact pileAt_push h6.2.2 (by omega)) (by rw [h7]; show rpn v cr2 (rpStep v q _) = _; first | (exfalso; omega) | (congr 1; simp [rpStep, *]; done) | (congr 1; have e0 : ¬ q.1 = 0 := by omega; have e1 : ¬ q.1 = 1 := by omega; simp [rpStep, *]; done) | (congr 1; simp only [rpStep]; grind)) _ _ hW _ (lv_sub hl [0, 3, 5, 6, 7] rfl)
          · have c_3 : q.1 = 5 := (nI_eq (a := q.1) (b := 5) (by omega) (by omega)).mp c_3
            refine lv_iload hx hb dX12_termOf_92 (lv_at hl 0 rfl) ?_
            refine lv_if_ne (tgt := 104) hx hb dX12_termOf_94 (by decide) (fun c_7 => ?_) (fun c_7 => ?_)
            · refine lv_aload_n hx hb dX12_termOf_104 rfl (lv_at hl 5 rfl) ?_
              refine va_get (v := .ref (ad_m 57)) (C := RX12) (T := TX12) (N := 75) (ci := 11) hx hb hts in_X12 hown hK.1 hW.1 0 rfl rfl 57 (by decide) (hts _ q1693) (fun _ h9 => h9) rfl dX12_termOf_105 ?_
              refine lv_iload_n hx hb dX12_termOf_108 rfl (lv_at hl 2 rfl) ?_
              refine lv_iconst (v := 1) hx hb dX12_termOf_109 (by decide) ?_
              refine lv_isub hx hb dX12_termOf_110 ?_
              refine lv_topi (nm_r (e' := nI (tp - 1 - 1)) (pk_sub (a := tp - 1) (b := 1) (by omega)) ?_)
              refine lv_iload hx hb dX12_termOf_111 (lv_at hl 3 rfl) ?_
              refine lv_iconst (v := 2) hx hb dX12_termOf_113 (by decide) ?_
              refine lv_icmp_ne (tgt := 125) hx hb dX12_termOf_114 (by decide) (fun c_8 => ?_) (fun c_8 => ?_)
              · have c_8 : ¬ (q.1 = 2) := fun hz_ => c_8 ((nI_eq (a := q.1) (b := 2) (by omega) (by omega)).mpr hz_)
                refine lv_iload hx hb dX12_termOf_125 (lv_at hl 3 rfl) ?_
                refine lv_iconst (v := 3) hx hb dX12_termOf_127 (by decide) ?_
                refine lv_icmp_ne (tgt := 139) hx hb dX12_termOf_128 (by decide) (fun c_9 => ?_) (fun c_9 => ?_)
                · have c_9 : ¬ (q.1 = 3) := fun hz_ => c_9 ((nI_eq (a := q.1) (b := 3) (by omega) (by omega)).mpr hz_)
                  refine lv_iload hx hb dX12_termOf_139 (lv_at hl 3 rfl) ?_
                  refine lv_iconst (v := 4) hx hb dX12_termOf_141 (by decide) ?_
                  refine lv_icmp_ne (tgt := 153) hx hb dX12_termOf_142 (by decide) (fun c_10 => ?_) (fun c_10 => ?_)
                  · have c_10 : ¬ (q.1 = 4) := fun hz_ => c_10 ((nI_eq (a := q.1) (b := 4) (by omega) (by omega)).mpr hz_)
                    refine lv_iload hx hb dX12_termOf_153 (lv_at hl 1 rfl) ?_
                    refine lv_iload hx hb dX12_termOf_155 (lv_at hl 0 rfl) ?_
                    refine lv_idiv hx hb dX12_termOf_157 (by first | assumption | (exfalso; omega)) ?_
                    refine z_iast (x := x / y) (f := x_pile_5) (j := tp - 1 - 1) (wn := (wj [(mw Y ad_m (sA 57 (upd x_pile_5 (tp - 1 - 1) (x / y)) g_m) w_m)])) hx hb hK.1 hW 41 0 rfl rfl (vp_in_nI (n := tp - 1 - 1) (by omega) (by decide)) (nI_clamp (n := tp - 1 - 1) (by omega)) dX12_termOf_158 rfl (fun H locs hW => ?_)
                    refine lv_iinc (v := nI (ci + 1)) (lv' := [(4, .int (nI (ci + 1))), (7, .int y), (6, .int x), (3, .int (nI (tp - 1))), (5, .int (nI q.1)), (0, .ref (ad_m 0)), (1, .int (nI i0)), (2, .int (nI i1))]) hx hb dX12_termOf_159 hl (k := 4) rfl (nI_add ci 1) (by decide) rfl (fun ls hl => ?_)
                    refine lv_goto (tgt := 5) hx hb dX12_termOf_162 (by decide) ?_
                    exact ih_5 (ci + 1) (tp - 1) (upd x_pile_5 (tp - 1 - 1) (x / y)) cr2 ((x / y) :: st2) (by omega) (by exact codeFrom_tl h1) (by omega) (by first | exact h3b | (rw [show tp - 1 - 1 + 1 = tp - 1 by omega]; exact h3b)) (by simp only [List.length_cons]; omega) (by omega) (by first | exact pileAt_push h6 h4 | exact pileAt_push h6.2.2 (by omega)) (by rw [h7]; show rpn v cr2 (rpStep v q _) = _; first | (exfalso; omega) | (congr 1; simp [rpStep, *]; done) | (congr 1; have e0 : ¬ q.1 = 0 := by omega; have e1 : ¬ q.1 = 1 := by omega; simp [rpStep, *]; done) | (congr 1; simp only [rpStep]; grind)) _ _ hW _ (lv_sub hl [0, 3, 5, 6, 7] rfl)
                  · have c_10 : q.1 = 4 := (nI_eq (a := q.1) (b := 4) (by omega) (by omega)).mp c_10
                    refine lv_iload hx hb dX12_termOf_145 (lv_at hl 1 rfl) ?_
                    refine lv_iload hx hb dX12_termOf_147 (lv_at hl 0 rfl) ?_
                    refine lv_imul hx hb dX12_termOf_149 ?_
                    refine lv_goto (tgt := 158) hx hb dX12_termOf_150 (by decide) ?_
                    refine z_iast (x := x * y) (f := x_pile_5) (j := tp - 1 - 1) (wn := (wj [(mw Y ad_m (sA 57 (upd x_pile_5 (tp - 1 - 1) (x * y)) g_m) w_m)])) hx hb hK.1 hW 41 0 rfl rfl (vp_in_nI (n := tp - 1 - 1) (by omega) (by decide)) (nI_clamp (n := tp - 1 - 1) (by omega)) dX12_termOf_158 rfl (fun H locs hW => ?_)
                    refine lv_iinc (v := nI (ci + 1)) (lv' := [(4, .int (nI (ci + 1))), (7, .int y), (6, .int x), (3, .int (nI (tp - 1))), (5, .int (nI q.1)), (0, .ref (ad_m 0)), (1, .int (nI i0)), (2, .int (nI i1))]) hx hb dX12_termOf_159 hl (k := 4) rfl (nI_add ci 1) (by decide) rfl (fun ls hl => ?_)
                    refine lv_goto (tgt := 5) hx hb dX12_termOf_162 (by decide) ?_
                    exact ih_5 (ci + 1) (tp - 1) (upd x_pile_5 (tp - 1 - 1) (x * y)) cr2 ((x * y) :: st2) (by omega) (by exact codeFrom_tl h1) (by omega) (by first | exact h3b | (rw [show tp - 1 - 1 + 1 = tp - 1 by omega]; exact h3b)) (by simp only [List.length_cons]; omega) (by omega) (by first | exact pileAt_push h6 h4 | exact pileAt_push h6.2.2 (by omega)) (by rw [h7]; show rpn v cr2 (rpStep v q _) = _; first | (exfalso; omega) | (congr 1; simp [rpStep, *]; done) | (congr 1; have e0 : ¬ q.1 = 0 := by omega; have e1 : ¬ q.1 = 1 := by omega; simp [rpStep, *]; done) | (congr 1; simp only [rpStep]; grind)) _ _ hW _ (lv_sub hl [0, 3, 5, 6, 7] rfl)
                · have c_9 : q.1 = 3 := (nI_eq (a := q.1) (b := 3) (by omega) (by omega)).mp c_9
                  refine lv_iload hx hb dX12_termOf_131 (lv_at hl 1 rfl) ?_
                  refine lv_iload hx hb dX12_termOf_133 (lv_at hl 0 rfl) ?_
                  refine lv_isub hx hb dX12_termOf_135 ?_
                  refine lv_goto (tgt := 158) hx hb dX12_termOf_136 (by decide) ?_
                  refine z_iast (x := x - y) (f := x_pile_5) (j := tp - 1 - 1) (wn := (wj [(mw Y ad_m (sA 57 (upd x_pile_5 (tp - 1 - 1) (x - y)) g_m) w_m)])) hx hb hK.1 hW 41 0 rfl rfl (vp_in_nI (n := tp - 1 - 1) (by omega) (by decide)) (nI_clamp (n := tp - 1 - 1) (by omega)) dX12_termOf_158 rfl (fun H locs hW => ?_)
                  refine lv_iinc (v := nI (ci + 1)) (lv' := [(4, .int (nI (ci + 1))), (7, .int y), (6, .int x), (3, .int (nI (tp - 1))), (5, .int (nI q.1)), (0, .ref (ad_m 0)), (1, .int (nI i0)), (2, .int (nI i1))]) hx hb dX12_termOf_159 hl (k := 4) rfl (nI_add ci 1) (by decide) rfl (fun ls hl => ?_)
                  refine lv_goto (tgt := 5) hx hb dX12_termOf_162 (by decide) ?_
                  exact ih_5 (ci + 1) (tp - 1) (upd x_pile_5 (tp - 1 - 1) (x - y)) cr2 ((x - y) :: st2) (by omega) (by exact codeFrom_tl h1) (by omega) (by first | exact h3b | (rw [show tp - 1 - 1 + 1 = tp - 1 by omega]; exact h3b)) (by simp only [List.length_cons]; omega) (by omega) (by first | exact pileAt_push h6 h4 | exact pileAt_push h6.2.2 (by omega)) (by rw [h7]; show rpn v cr2 (rpStep v q _) = _; first | (exfalso; omega) | (congr 1; simp [rpStep, *]; done) | (congr 1; have e0 : ¬ q.1 = 0 := by omega; have e1 : ¬ q.1 = 1 := by omega; simp [rpStep, *]; done) | (congr 1; simp only [rpStep]; grind)) _ _ hW _ (lv_sub hl [0, 3, 5, 6, 7] rfl)
              · have c_8 : q.1 = 2 := (nI_eq (a := q.1) (b := 2) (by omega) (by omega)).mp c_8
                refine lv_iload hx hb dX12_termOf_117 (lv_at hl 1 rfl) ?_
                refine lv_iload hx hb dX12_termOf_119 (lv_at hl 0 rfl) ?_
                refine lv_iadd hx hb dX12_termOf_121 ?_
                refine lv_goto (tgt := 158) hx hb dX12_termOf_122 (by decide) ?_
                refine z_iast (x := x + y) (f := x_pile_5) (j := tp - 1 - 1) (wn := (wj [(mw Y ad_m (sA 57 (upd x_pile_5 (tp - 1 - 1) (x + y)) g_m) w_m)])) hx hb hK.1 hW 41 0 rfl rfl (vp_in_nI (n := tp - 1 - 1) (by omega) (by decide)) (nI_clamp (n := tp - 1 - 1) (by omega)) dX12_termOf_158 rfl (fun H locs hW => ?_)
                refine lv_iinc (v := nI (ci + 1)) (lv' := [(4, .int (nI (ci + 1))), (7, .int y), (6, .int x), (3, .int (nI (tp - 1))), (5, .int (nI q.1)), (0, .ref (ad_m 0)), (1, .int (nI i0)), (2, .int (nI i1))]) hx hb dX12_termOf_159 hl (k := 4) rfl (nI_add ci 1) (by decide) rfl (fun ls hl => ?_)
                refine lv_goto (tgt := 5) hx hb dX12_termOf_162 (by decide) ?_
                exact ih_5 (ci + 1) (tp - 1) (upd x_pile_5 (tp - 1 - 1) (x + y)) cr2 ((x + y) :: st2) (by omega) (by exact codeFrom_tl h1) (by omega) (by first | exact h3b | (rw [show tp - 1 - 1 + 1 = tp - 1 by omega]; exact h3b)) (by simp only [List.length_cons]; omega) (by omega) (by first | exact pileAt_push h6 h4 | exact pileAt_push h6.2.2 (by omega)) (by rw [h7]; show rpn v cr2 (rpStep v q _) = _; first | (exfalso; omega) | (congr 1; simp [rpStep, *]; done) | (congr 1; have e0 : ¬ q.1 = 0 := by omega; have e1 : ¬ q.1 = 1 := by omega; simp [rpStep, *]; done) | (congr 1; simp only [rpStep]; grind)) _ _ hW _ (lv_sub hl [0, 3, 5, 6, 7] rfl)
            · refine lv_aload_n hx hb dX12_termOf_97 rfl (lv_at hl 5 rfl) ?_
              refine lv_iconst (v := 1) hx hb dX12_termOf_98 (by decide) ?_
              refine z_put (v := .int 1) (C := RX12) (T := TX12) (N := 75) (ci := 11) (wn := (wj [(mw Y ad_m (sA 58 (fun _ => 1) (sA 57 x_pile_5 g_m)) w_m)])) hx hb hts in_X12 tyX12 tyX12_ok nmX12 hown hK.1 hW 0 rfl rfl 58 (by decide) (hts _ q1694) (fun _ h9 => h9) rfl rfl rfl (Nat.le_of_ble_eq_true rfl) dX12_termOf_99 rfl (fun H locs hW => ?_)
              refine lv_iconst (v := 0) hx hb dX12_termOf_102 (by decide) ?_
              refine z_ireti ((x_pile_5, 1) : (Nat → Int32) × (Int32)) hx hb hr hlocks rfl hW rfl dX12_termOf_103 ?_
              show 0 = (if (tv v cc).2 = true then 0 else (tv v cc).1) ∧ 1 = (if (tv v cc).2 = true then 1 else (g_m 58 0))
              have e : (tv v cc).2 = true := by
                unfold tv; rw [h7]
                show (rpn v cr2 (rpStep v q (y :: x :: st2, false))).2 = true
                rw [show rpStep v q (y :: x :: st2, false) = (0 :: st2, true) by simp [rpStep, *]]
                exact (rpn_fl v cr2 _).1
              rw [e]
              exact ⟨rfl, rfl⟩
        · have c_2 : ¬ (2 ≤ q.1) := fun hz_ => c_2 ((nI_leI (a := 2) (b := q.1) (by omega) (by omega)).mpr hz_)
          refine lv_aload_n hx hb dX12_termOf_26 rfl (lv_at hl 3 rfl) ?_
          refine va_get (v := .ref (ad_m 57)) (C := RX12) (T := TX12) (N := 75) (ci := 11) hx hb hts in_X12 hown hK.1 hW.1 0 rfl rfl 57 (by decide) (hts _ q1693) (fun _ h9 => h9) rfl dX12_termOf_27 ?_
          refine lv_iload_n hx hb dX12_termOf_30 rfl (lv_at hl 2 rfl) ?_
          refine lv_iload hx hb dX12_termOf_31 (lv_at hl 0 rfl) ?_
          refine lv_if_ne (tgt := 46) hx hb dX12_termOf_33 (by decide) (fun c_11 => ?_) (fun c_11 => ?_)
          · have c_11 : ¬ (q.1 = 0) := fun hz_ => c_11 ((nI_eq (a := q.1) (b := 0) (by omega) (by omega)).mpr hz_)
            have h3b : rpD cr2 (tp + 1) = some 1 := by simpa only [rpD, if_pos (show q.1 ≤ 1 by omega)] using h3
            obtain ⟨jv, hjv, ejv⟩ := vp_in_of (hq4 (by omega)) (by omega)
            have cjv := nI_clamp (show jv < 2 ^ 31 by omega)
            refine lv_aload_n hx hb dX12_termOf_46 rfl (lv_at hl 3 rfl) ?_
            refine va_get (v := .ref (ad_m 56)) (C := RX12) (T := TX12) (N := 75) (ci := 11) hx hb hts in_X12 hown hK.1 hW.1 0 rfl rfl 56 (by decide) (hts _ q1692) (fun _ h9 => h9) rfl dX12_termOf_47 ?_
            refine lv_aload_n hx hb dX12_termOf_50 rfl (lv_at hl 3 rfl) ?_
            refine va_get (v := .ref (ad_m 53)) (C := RX12) (T := TX12) (N := 75) (ci := 11) hx hb hts in_X12 hown hK.1 hW.1 0 rfl rfl 53 (by decide) (hts _ q1689) (fun _ h9 => h9) rfl dX12_termOf_51 ?_
            refine lv_iload hx hb dX12_termOf_54 (lv_at hl 1 rfl) ?_
            refine z_iald (v := nI jv) (f := g_m 53) (j := ci) hx hb hK.1 hW.1 38 0 rfl rfl (vp_in_nI (n := ci) (by omega) (by decide)) (nI_clamp (n := ci) (by omega)) (Eq.trans hq3 ejv) dX12_termOf_56 ?_
            refine z_iald (v := v jv) (f := g_m 56) (j := jv) hx hb hK.1 hW.1 40 0 rfl rfl (vp_in_nI (n := jv) (by omega) (by decide)) (nI_clamp (n := jv) (by omega)) (hvv jv hjv) dX12_termOf_57 ?_
            refine z_iast (x := v jv) (f := x_pile_5) (j := tp) (wn := (wj [(mw Y ad_m (sA 57 (upd x_pile_5 tp (v jv)) g_m) w_m)])) hx hb hK.1 hW 41 0 rfl rfl (vp_in_nI (n := tp) (by omega) (by decide)) (nI_clamp (n := tp) (by omega)) dX12_termOf_58 rfl (fun H locs hW => ?_)
            refine lv_iinc (v := nI (tp + 1)) (lv' := [(3, .int (nI (tp + 1))), (5, .int (nI q.1)), (4, .int (nI ci)), (0, .ref (ad_m 0)), (1, .int (nI i0)), (2, .int (nI i1))]) hx hb dX12_termOf_59 hl (k := 2) rfl (nI_add tp 1) (by decide) rfl (fun ls hl => ?_)
            refine lv_goto (tgt := 159) hx hb dX12_termOf_62 (by decide) ?_
            refine lv_iinc (v := nI (ci + 1)) (lv' := [(4, .int (nI (ci + 1))), (3, .int (nI (tp + 1))), (5, .int (nI q.1)), (0, .ref (ad_m 0)), (1, .int (nI i0)), (2, .int (nI i1))]) hx hb dX12_termOf_159 hl (k := 2) rfl (nI_add ci 1) (by decide) rfl (fun ls hl => ?_)
            refine lv_goto (tgt := 5) hx hb dX12_termOf_162 (by decide) ?_
            exact ih_5 (ci + 1) (tp + 1) (upd x_pile_5 tp (v jv)) cr2 (v jv :: st) (by omega) (by exact codeFrom_tl h1) (by omega) (by first | exact h3b | (rw [show tp - 1 - 1 + 1 = tp - 1 by omega]; exact h3b)) (by simp only [List.length_cons]; omega) (by omega) (by first | exact pileAt_push h6 h4 | exact pileAt_push h6.2.2 (by omega)) (by rw [h7]; show rpn v cr2 (rpStep v q _) = _; first | (exfalso; omega) | (congr 1; simp [rpStep, *]; done) | (congr 1; have e0 : ¬ q.1 = 0 := by omega; have e1 : ¬ q.1 = 1 := by omega; simp [rpStep, *]; done) | (congr 1; simp only [rpStep]; grind)) _ _ hW _ (lv_sub hl [0, 1, 3, 4, 5] rfl)
          · have c_11 : q.1 = 0 := (nI_eq (a := q.1) (b := 0) (by omega) (by omega)).mp c_11
            have h3b : rpD cr2 (tp + 1) = some 1 := by simpa only [rpD, if_pos (show q.1 ≤ 1 by omega)] using h3
            refine lv_aload_n hx hb dX12_termOf_36 rfl (lv_at hl 3 rfl) ?_
            refine va_get (v := .ref (ad_m 53)) (C := RX12) (T := TX12) (N := 75) (ci := 11) hx hb hts in_X12 hown hK.1 hW.1 0 rfl rfl 53 (by decide) (hts _ q1689) (fun _ h9 => h9) rfl dX12_termOf_37 ?_
            refine lv_iload hx hb dX12_termOf_40 (lv_at hl 1 rfl) ?_
            refine z_iald (v := q.2) (f := g_m 53) (j := ci) hx hb hK.1 hW.1 38 0 rfl rfl (vp_in_nI (n := ci) (by omega) (by decide)) (nI_clamp (n := ci) (by omega)) hq3 dX12_termOf_42 ?_
            refine lv_goto (tgt := 58) hx hb dX12_termOf_43 (by decide) ?_
            refine z_iast (x := q.2) (f := x_pile_5) (j := tp) (wn := (wj [(mw Y ad_m (sA 57 (upd x_pile_5 tp q.2) g_m) w_m)])) hx hb hK.1 hW 41 0 rfl rfl (vp_in_nI (n := tp) (by omega) (by decide)) (nI_clamp (n := tp) (by omega)) dX12_termOf_58 rfl (fun H locs hW => ?_)
            refine lv_iinc (v := nI (tp + 1)) (lv' := [(3, .int (nI (tp + 1))), (5, .int (nI q.1)), (4, .int (nI ci)), (0, .ref (ad_m 0)), (1, .int (nI i0)), (2, .int (nI i1))]) hx hb dX12_termOf_59 hl (k := 2) rfl (nI_add tp 1) (by decide) rfl (fun ls hl => ?_)
            refine lv_goto (tgt := 159) hx hb dX12_termOf_62 (by decide) ?_
            refine lv_iinc (v := nI (ci + 1)) (lv' := [(4, .int (nI (ci + 1))), (3, .int (nI (tp + 1))), (5, .int (nI q.1)), (0, .ref (ad_m 0)), (1, .int (nI i0)), (2, .int (nI i1))]) hx hb dX12_termOf_159 hl (k := 2) rfl (nI_add ci 1) (by decide) rfl (fun ls hl => ?_)
            refine lv_goto (tgt := 5) hx hb dX12_termOf_162 (by decide) ?_
            exact ih_5 (ci + 1) (tp + 1) (upd x_pile_5 tp q.2) cr2 (q.2 :: st) (by omega) (by exact codeFrom_tl h1) (by omega) (by first | exact h3b | (rw [show tp - 1 - 1 + 1 = tp - 1 by omega]; exact h3b)) (by simp only [List.length_cons]; omega) (by omega) (by first | exact pileAt_push h6 h4 | exact pileAt_push h6.2.2 (by omega)) (by rw [h7]; show rpn v cr2 (rpStep v q _) = _; first | (exfalso; omega) | (congr 1; simp [rpStep, *]; done) | (congr 1; have e0 : ¬ q.1 = 0 := by omega; have e1 : ¬ q.1 = 1 := by omega; simp [rpStep, *]; done) | (congr 1; simp only [rpStep]; grind)) _ _ hW _ (lv_sub hl [0, 1, 3, 4, 5] rfl)
  exact loop_5 _ i0 0 (g_m 57) cc [] (Nat.lt_succ_self _) (by exact hc.2) (by exact hc.1.symm) (by exact hok) (by rfl) (by omega) (by trivial) (by rfl) _ _ hW _ (lv_sub hl [0, 1, 2, 3, 4] rfl)
set_option maxHeartbeats 4000000 in
set_option maxRecDepth 100000 in
theorem m_X12_tells (l : Launch) (D : va_G) (Y : Nat → ClassId) (ad_m : Nat → Nat) (g_m : Nat → Nat → Int32) (w_m : Nat → Nat → Int64) (lv : Nat) (cn : Nat → Nat) (t : tab) (lw : Nat → Option LAW) (σ : tab) (kk : Nat) (rr : Nat) (much : Int32) (pl : Int32) (lo : Int32) (hi : Int32) (sz : Nat) (hlv : lv < 2) (hTW : TW cn t lw) (hTM : TM lv cn t lw g_m) (hRS : RS cn σ (g_m 60) (g_m 62) (g_m 61 0)) (hkk : kk < 3) (hrr : rr < cn 2) (hpl : f_held pl lo hi = pl) : Met l yX12_tells (ws_ yX12_tells cX12_tells 13 (some .int)) ({ frames := 2, cells := 0, slots := 0, locals := 39 }) (zPc D Y [.ref (ad_m 0), .int (nI kk), .int (nI rr), .int much, .int pl, .int lo, .int hi] sz (wj []) (wj [(mw Y ad_m (sA 18 (fun _ => nI lv) g_m) w_m)])) (va_Qi (fun (r : Int32) (u : (Nat → Int32) × (Nat → Int32) × (Int32)) => r = f_held (asksP (lw kk) pl (varsP t σ rr much)) lo hi) (zB D (fun (u : (Nat → Int32) × (Nat → Int32) × (Int32)) => (wj [(mw Y ad_m (sA 58 (fun _ => u.2.2) (sA 57 u.2.1 (sA 56 u.1 (sA 18 (fun _ => nI lv) g_m)))) w_m)])) (va_A (wj [(mw Y ad_m (sA 18 (fun _ => nI lv) g_m) w_m)]) sz)) (va_A (wj [(mw Y ad_m (sA 18 (fun _ => nI lv) g_m) w_m)]) sz)) 0 0 (va_A (wj [(mw Y ad_m (sA 18 (fun _ => nI lv) g_m) w_m)]) sz) := by
  refine Met.ofW (cc := cX12_tells) (maxL := 13) (ret := (some .int)) (by decide) rfl ?_
  intro p e s m args below meth c s₁ B hml hv
  obtain ⟨rfl, hsz, hW, hR, hK, hA⟩ := zEntry hv
  subst hsz
  have hx := B.exec
  have hb := B.bytes
  have hr := B.returns
  have hlocks := B.notSynchronized
  have hts : ∀ w ∈ lw_all, w.before _ s = true := fun w h => atoms_spec (ws := (ws_ yX12_tells cX12_tells 13 (some .int))) B.pre w (List.mem_cons_of_mem _ h)
  have hown : s.vm.findClass RX12 = some m.cls := findClass_of_methodNamed B.named
  generalize hAe : va_A (wj [(mw Y ad_m (sA 18 (fun _ => nI lv) g_m) w_m)]) s.heap.size = A at hW hR hA ⊢
  have hl := lv_entry ([.ref (ad_m 0), .int (nI kk), .int (nI rr), .int much, .int pl, .int lo, .int hi]) (n := 13) (Nat.le_of_ble_eq_true rfl)
  rw [lg_entry_eq]
  generalize (lg_sl ([.ref (ad_m 0), .int (nI kk), .int (nI rr), .int much, .int pl, .int lo, .int hi]) ++ List.replicate (13 - (lg_sl ([.ref (ad_m 0), .int (nI kk), .int (nI rr), .int much, .int pl, .int lo, .int hi])).length) Slot.unset).toArray = ls at hl ⊢
  have hl : lv_has ls 13 [(0, .ref (ad_m 0)), (1, .int (nI kk)), (2, .int (nI rr)), (3, .int much), (4, .int pl), (5, .int lo), (6, .int hi)] := hl
  have hLT := hRS.2.2
  have hk8 := hTW.n2
  have hk6 := hTW.n1
  have hk60 := hTW.n0
  have hk5 := hTW.n3
  refine lv_iconst (v := 3) hx hb dX12_tells_0 (by decide) ?_
  refine lv_aload_n hx hb dX12_tells_1 rfl (lv_at hl 0 rfl) ?_
  refine va_get (v := .int (nI lv)) (C := RX12) (T := TX12) (N := 75) (ci := 11) hx hb hts in_X12 hown hK.1 hW.1 0 rfl rfl 18 (by decide) (hts _ q1654) (fun _ h9 => h9) rfl dX12_tells_2 ?_
  refine lv_imul hx hb dX12_tells_5 ?_
  refine lv_topi (nm_r (e' := nI (3 * lv)) (pk_mul 3 lv) ?_)
  refine lv_iload_n hx hb dX12_tells_6 rfl (lv_at hl 1 rfl) ?_
  refine lv_iadd hx hb dX12_tells_7 ?_
  refine lv_topi (nm_r (e' := nI (3 * lv + kk)) (nI_add (3 * lv) kk) ?_)
  refine lv_istore (lv' := [(7, .int (nI (3 * lv + kk))), (0, .ref (ad_m 0)), (1, .int (nI kk)), (2, .int (nI rr)), (3, .int much), (4, .int pl), (5, .int lo), (6, .int hi)]) hx hb dX12_tells_8 hl (by decide) rfl (fun ls hl => ?_)
  refine lv_aload_n hx hb dX12_tells_10 rfl (lv_at hl 1 rfl) ?_
  refine va_get (v := .ref (ad_m 43)) (C := RX12) (T := TX12) (N := 75) (ci := 11) hx hb hts in_X12 hown hK.1 hW.1 0 rfl rfl 43 (by decide) (hts _ q1679) (fun _ h9 => h9) rfl dX12_tells_11 ?_
  refine lv_iload hx hb dX12_tells_14 (lv_at hl 0 rfl) ?_
  refine z_iald (v := (g_m 43) (3 * lv + kk)) (f := g_m 43) (j := 3 * lv + kk) hx hb hK.1 hW.1 30 0 rfl rfl (vp_in_nI (n := 3 * lv + kk) (by omega) (by decide)) (nI_clamp (n := 3 * lv + kk) (by omega)) rfl dX12_tells_16 ?_
  refine lv_aload_n hx hb dX12_tells_17 rfl (lv_at hl 1 rfl) ?_
  refine va_get (v := .ref (ad_m 44)) (C := RX12) (T := TX12) (N := 75) (ci := 11) hx hb hts in_X12 hown hK.1 hW.1 0 rfl rfl 44 (by decide) (hts _ q1680) (fun _ h9 => h9) rfl dX12_tells_18 ?_
  refine lv_iload hx hb dX12_tells_21 (lv_at hl 0 rfl) ?_
  refine z_iald (v := (g_m 44) (3 * lv + kk)) (f := g_m 44) (j := 3 * lv + kk) hx hb hK.1 hW.1 31 0 rfl rfl (vp_in_nI (n := 3 * lv + kk) (by omega) (by decide)) (nI_clamp (n := 3 * lv + kk) (by omega)) rfl dX12_tells_23 ?_
  refine lv_icmp_ne (tgt := 30) hx hb dX12_tells_24 (by decide) (fun c_1 => ?_) (fun c_1 => ?_)
  · obtain ⟨L, e0, b0, hlw, hb43, hb44, hb260, hbr, hel0, hel⟩ := lawAt_ne (hTM.lawk hkk) c_1
    obtain ⟨ho, hho, eho⟩ := vp_in_of (hTW.h5 hrr) (by omega)
    have cho := nI_clamp (show ho < 2 ^ 31 by omega)
    have hlo := hTW.law kk
    rw [hlw] at hlo
    refine lv_aload_n hx hb dX12_tells_30 rfl (lv_at hl 1 rfl) ?_
    refine va_get (v := .ref (ad_m 40)) (C := RX12) (T := TX12) (N := 75) (ci := 11) hx hb hts in_X12 hown hK.1 hW.1 0 rfl rfl 40 (by decide) (hts _ q1676) (fun _ h9 => h9) rfl dX12_tells_31 ?_
    refine lv_aload_n hx hb dX12_tells_34 rfl (lv_at hl 1 rfl) ?_
    refine va_get (v := .int (nI lv)) (C := RX12) (T := TX12) (N := 75) (ci := 11) hx hb hts in_X12 hown hK.1 hW.1 0 rfl rfl 18 (by decide) (hts _ q1654) (fun _ h9 => h9) rfl dX12_tells_35 ?_
    refine z_iald (v := t 12 0) (f := g_m 40) (j := lv) hx hb hK.1 hW.1 27 0 rfl rfl (vp_in_nI (n := lv) (by omega) (by decide)) (nI_clamp (n := lv) (by omega)) (TM.c40 hTM) dX12_tells_38 ?_
    refine lv_aload_n hx hb dX12_tells_39 rfl (lv_at hl 1 rfl) ?_
    refine va_get (v := .ref (ad_m 60)) (C := RX12) (T := TX12) (N := 75) (ci := 11) hx hb hts in_X12 hown hK.1 hW.1 0 rfl rfl 60 (by decide) (hts _ q1696) (fun _ h9 => h9) rfl dX12_tells_40 ?_
    refine lv_bipush (v := 114) hx hb dX12_tells_43 (by decide) ?_
    refine z_iald (v := σ 13 0) (f := g_m 60) (j := 114) hx hb hK.1 hW.1 43 0 rfl rfl (vp_in_nI (n := 114) (by omega) (by decide)) (by decide) (MR.s13 hRS.1) dX12_tells_45 ?_
    refine lv_isub hx hb dX12_tells_46 ?_
    refine lv_istore (lv' := [(8, .int ((t 12 0) - (σ 13 0))), (7, .int (nI (3 * lv + kk))), (0, .ref (ad_m 0)), (1, .int (nI kk)), (2, .int (nI rr)), (3, .int much), (4, .int pl), (5, .int lo), (6, .int hi)]) hx hb dX12_tells_47 hl (by decide) rfl (fun ls hl => ?_)
    refine lv_aload_n hx hb dX12_tells_49 rfl (lv_at hl 2 rfl) ?_
    refine va_get (v := .ref (ad_m 56)) (C := RX12) (T := TX12) (N := 75) (ci := 11) hx hb hts in_X12 hown hK.1 hW.1 0 rfl rfl 56 (by decide) (hts _ q1692) (fun _ h9 => h9) rfl dX12_tells_50 ?_
    refine lv_iconst (v := 0) hx hb dX12_tells_53 (by decide) ?_
    refine lv_aload_n hx hb dX12_tells_54 rfl (lv_at hl 2 rfl) ?_
    refine va_get (v := .ref (ad_m 60)) (C := RX12) (T := TX12) (N := 75) (ci := 11) hx hb hts in_X12 hown hK.1 hW.1 0 rfl rfl 60 (by decide) (hts _ q1696) (fun _ h9 => h9) rfl dX12_tells_55 ?_
    refine lv_bipush (v := 74) hx hb dX12_tells_58 (by decide) ?_
    refine lv_iload_n hx hb dX12_tells_60 rfl (lv_at hl 4 rfl) ?_
    refine lv_iadd hx hb dX12_tells_61 ?_
    refine lv_topi (nm_r (e' := nI (74 + rr)) (nI_add 74 rr) ?_)
    refine z_iald (v := σ 8 rr) (f := g_m 60) (j := 74 + rr) hx hb hK.1 hW.1 43 0 rfl rfl (vp_in_nI (n := 74 + rr) (by omega) (by decide)) (nI_clamp (n := 74 + rr) (by omega)) (MR.r8 hRS.1 (r := rr) (by omega)) dX12_tells_62 ?_
    refine z_iast (x := σ 8 rr) (f := g_m 56) (j := 0) (wn := (wj [(mw Y ad_m (sA 56 (upd (g_m 56) 0 (σ 8 rr)) (sA 18 (fun _ => nI lv) g_m)) w_m)])) hx hb hK.1 hW 40 0 rfl rfl (vp_in_nI (n := 0) (by omega) (by decide)) (by decide) dX12_tells_63 rfl (fun H locs hW => ?_)
    refine lv_aload_n hx hb dX12_tells_64 rfl (lv_at hl 2 rfl) ?_
    refine va_get (v := .ref (ad_m 56)) (C := RX12) (T := TX12) (N := 75) (ci := 11) hx hb hts in_X12 hown hK.1 hW.1 0 rfl rfl 56 (by decide) (hts _ q1692) (fun _ h9 => h9) rfl dX12_tells_65 ?_
    refine lv_iconst (v := 1) hx hb dX12_tells_68 (by decide) ?_
    refine lv_aload_n hx hb dX12_tells_69 rfl (lv_at hl 2 rfl) ?_
    refine va_get (v := .ref (ad_m 60)) (C := RX12) (T := TX12) (N := 75) (ci := 11) hx hb hts in_X12 hown hK.1 hW.1 0 rfl rfl 60 (by decide) (hts _ q1696) (fun _ h9 => h9) rfl dX12_tells_70 ?_
    refine lv_bipush (v := 82) hx hb dX12_tells_73 (by decide) ?_
    refine lv_iload_n hx hb dX12_tells_75 rfl (lv_at hl 4 rfl) ?_
    refine lv_iadd hx hb dX12_tells_76 ?_
    refine lv_topi (nm_r (e' := nI (82 + rr)) (nI_add 82 rr) ?_)
    refine z_iald (v := σ 9 rr) (f := g_m 60) (j := 82 + rr) hx hb hK.1 hW.1 43 0 rfl rfl (vp_in_nI (n := 82 + rr) (by omega) (by decide)) (nI_clamp (n := 82 + rr) (by omega)) (MR.r9 hRS.1 (r := rr) (by omega)) dX12_tells_77 ?_
    refine z_iast (x := σ 9 rr) (f := upd (g_m 56) 0 (σ 8 rr)) (j := 1) (wn := (wj [(mw Y ad_m (sA 56 (upd (upd (g_m 56) 0 (σ 8 rr)) 1 (σ 9 rr)) (sA 18 (fun _ => nI lv) g_m)) w_m)])) hx hb hK.1 hW 40 0 rfl rfl (vp_in_nI (n := 1) (by omega) (by decide)) (by decide) dX12_tells_78 rfl (fun H locs hW => ?_)
    refine lv_aload_n hx hb dX12_tells_79 rfl (lv_at hl 2 rfl) ?_
    refine va_get (v := .ref (ad_m 56)) (C := RX12) (T := TX12) (N := 75) (ci := 11) hx hb hts in_X12 hown hK.1 hW.1 0 rfl rfl 56 (by decide) (hts _ q1692) (fun _ h9 => h9) rfl dX12_tells_80 ?_
    refine lv_iconst (v := 2) hx hb dX12_tells_83 (by decide) ?_
    refine lv_iload_n hx hb dX12_tells_84 rfl (lv_at hl 5 rfl) ?_
    refine z_iast (x := much) (f := upd (upd (g_m 56) 0 (σ 8 rr)) 1 (σ 9 rr)) (j := 2) (wn := (wj [(mw Y ad_m (sA 56 (upd (upd (upd (g_m 56) 0 (σ 8 rr)) 1 (σ 9 rr)) 2 much) (sA 18 (fun _ => nI lv) g_m)) w_m)])) hx hb hK.1 hW 40 0 rfl rfl (vp_in_nI (n := 2) (by omega) (by decide)) (by decide) dX12_tells_85 rfl (fun H locs hW => ?_)
    refine lv_aload_n hx hb dX12_tells_86 rfl (lv_at hl 2 rfl) ?_
    refine va_get (v := .ref (ad_m 56)) (C := RX12) (T := TX12) (N := 75) (ci := 11) hx hb hts in_X12 hown hK.1 hW.1 0 rfl rfl 56 (by decide) (hts _ q1692) (fun _ h9 => h9) rfl dX12_tells_87 ?_
    refine lv_iconst (v := 3) hx hb dX12_tells_90 (by decide) ?_
    refine lv_iload hx hb dX12_tells_91 (lv_at hl 0 rfl) ?_
    have join_102 : ∀ (st0_102 : Int32), (st0_102 = if 0 < t 12 0 - σ 13 0 then t 12 0 - σ 13 0 else 0) → ∀ (H : Heap) (locs : List Loc), zW D A s.heap H locs (wj [(mw Y ad_m (sA 56 (upd (upd (upd (g_m 56) 0 (σ 8 rr)) 1 (σ 9 rr)) 2 much) (sA 18 (fun _ => nI lv) g_m)) w_m)]) → ∀ (ls : Array Slot), lv_has ls 13 [(8, .int ((t 12 0) - (σ 13 0))), (7, .int (nI (3 * lv + kk))), (0, .ref (ad_m 0)), (1, .int (nI kk)), (2, .int (nI rr)), (3, .int much), (4, .int pl), (5, .int lo), (6, .int hi)] → W p l e (headSpec (ws_ yX12_tells cX12_tells 13 (some .int)) ({ frames := 2, cells := 0, slots := 0, locals := 39 })).room s m ([.ref (ad_m 0), .int (nI kk), .int (nI rr), .int much, .int pl, .int lo, .int hi] : List Value).toArray below meth c H locs 0 0 (MQ below (va_Qi (fun (r : Int32) (u : (Nat → Int32) × (Nat → Int32) × (Int32)) => r = f_held (asksP (lw kk) pl (varsP t σ rr much)) lo hi) (zB D (fun (u : (Nat → Int32) × (Nat → Int32) × (Int32)) => (wj [(mw Y ad_m (sA 58 (fun _ => u.2.2) (sA 57 u.2.1 (sA 56 u.1 (sA 18 (fun _ => nI lv) g_m)))) w_m)])) A) A) ([.ref (ad_m 0), .int (nI kk), .int (nI rr), .int much, .int pl, .int lo, .int hi] : List Value).toArray s 0 0 A) (F0 m 102 ls [.int st0_102, .int 3, .ref (ad_m 56)]) := by
      intro st0_102 hst H locs hW ls hl
      refine z_iast (x := st0_102) (f := upd (upd (upd (g_m 56) 0 (σ 8 rr)) 1 (σ 9 rr)) 2 much) (j := 3) (wn := (wj [(mw Y ad_m (sA 56 (upd (upd (upd (upd (g_m 56) 0 (σ 8 rr)) 1 (σ 9 rr)) 2 much) 3 st0_102) (sA 18 (fun _ => nI lv) g_m)) w_m)])) hx hb hK.1 hW 40 0 rfl rfl (vp_in_nI (n := 3) (by omega) (by decide)) (by decide) dX12_tells_102 rfl (fun H locs hW => ?_)
      refine lv_aload_n hx hb dX12_tells_103 rfl (lv_at hl 2 rfl) ?_
      refine va_get (v := .ref (ad_m 56)) (C := RX12) (T := TX12) (N := 75) (ci := 11) hx hb hts in_X12 hown hK.1 hW.1 0 rfl rfl 56 (by decide) (hts _ q1692) (fun _ h9 => h9) rfl dX12_tells_104 ?_
      refine lv_iconst (v := 4) hx hb dX12_tells_107 (by decide) ?_
      refine lv_aload_n hx hb dX12_tells_108 rfl (lv_at hl 2 rfl) ?_
      refine va_get (v := .ref (ad_m 62)) (C := RX12) (T := TX12) (N := 75) (ci := 11) hx hb hts in_X12 hown hK.1 hW.1 0 rfl rfl 62 (by decide) (hts _ q1698) (fun _ h9 => h9) rfl dX12_tells_109 ?_
      refine lv_aload_n hx hb dX12_tells_112 rfl (lv_at hl 2 rfl) ?_
      refine va_get (v := .ref (ad_m 32)) (C := RX12) (T := TX12) (N := 75) (ci := 11) hx hb hts in_X12 hown hK.1 hW.1 0 rfl rfl 32 (by decide) (hts _ q1668) (fun _ h9 => h9) rfl dX12_tells_113 ?_
      refine lv_bipush (v := 8) hx hb dX12_tells_116 (by decide) ?_
      refine lv_aload_n hx hb dX12_tells_118 rfl (lv_at hl 2 rfl) ?_
      refine va_get (v := .int (nI lv)) (C := RX12) (T := TX12) (N := 75) (ci := 11) hx hb hts in_X12 hown hK.1 hW.1 0 rfl rfl 18 (by decide) (hts _ q1654) (fun _ h9 => h9) rfl dX12_tells_119 ?_
      refine lv_imul hx hb dX12_tells_122 ?_
      refine lv_topi (nm_r (e' := nI (8 * lv)) (pk_mul 8 lv) ?_)
      refine lv_iload_n hx hb dX12_tells_123 rfl (lv_at hl 4 rfl) ?_
      refine lv_iadd hx hb dX12_tells_124 ?_
      refine lv_topi (nm_r (e' := nI (8 * lv + rr)) (nI_add (8 * lv) rr) ?_)
      refine z_iald (v := nI ho) (f := g_m 32) (j := 8 * lv + rr) hx hb hK.1 hW.1 19 0 rfl rfl (vp_in_nI (n := 8 * lv + rr) (by omega) (by decide)) (nI_clamp (n := 8 * lv + rr) (by omega)) (Eq.trans (TM.c32 hTM (j := rr) (by omega)) eho) dX12_tells_125 ?_
      refine z_iald (v := σ 1 ho) (f := g_m 62) (j := ho) hx hb hK.1 hW.1 44 0 rfl rfl (vp_in_nI (n := ho) (by omega) (by decide)) (nI_clamp (n := ho) (by omega)) (hRS.2.1 ho (by omega)) dX12_tells_126 ?_
      refine z_iast (x := σ 1 ho) (f := upd (upd (upd (upd (g_m 56) 0 (σ 8 rr)) 1 (σ 9 rr)) 2 much) 3 st0_102) (j := 4) (wn := (wj [(mw Y ad_m (sA 56 (upd (upd (upd (upd (upd (g_m 56) 0 (σ 8 rr)) 1 (σ 9 rr)) 2 much) 3 st0_102) 4 (σ 1 ho)) (sA 18 (fun _ => nI lv) g_m)) w_m)])) hx hb hK.1 hW 40 0 rfl rfl (vp_in_nI (n := 4) (by omega) (by decide)) (by decide) dX12_tells_127 rfl (fun H locs hW => ?_)
      refine lv_aload_n hx hb dX12_tells_128 rfl (lv_at hl 2 rfl) ?_
      refine va_get (v := .ref (ad_m 56)) (C := RX12) (T := TX12) (N := 75) (ci := 11) hx hb hts in_X12 hown hK.1 hW.1 0 rfl rfl 56 (by decide) (hts _ q1692) (fun _ h9 => h9) rfl dX12_tells_129 ?_
      refine lv_iconst (v := 5) hx hb dX12_tells_132 (by decide) ?_
      refine lv_aload_n hx hb dX12_tells_133 rfl (lv_at hl 2 rfl) ?_
      refine va_get (v := .ref (ad_m 60)) (C := RX12) (T := TX12) (N := 75) (ci := 11) hx hb hts in_X12 hown hK.1 hW.1 0 rfl rfl 60 (by decide) (hts _ q1696) (fun _ h9 => h9) rfl dX12_tells_134 ?_
      refine lv_bipush (v := 90) hx hb dX12_tells_137 (by decide) ?_
      refine lv_iload_n hx hb dX12_tells_139 rfl (lv_at hl 4 rfl) ?_
      refine lv_iadd hx hb dX12_tells_140 ?_
      refine lv_topi (nm_r (e' := nI (90 + rr)) (nI_add 90 rr) ?_)
      refine z_iald (v := σ 10 rr) (f := g_m 60) (j := 90 + rr) hx hb hK.1 hW.1 43 0 rfl rfl (vp_in_nI (n := 90 + rr) (by omega) (by decide)) (nI_clamp (n := 90 + rr) (by omega)) (MR.r10 hRS.1 (r := rr) (by omega)) dX12_tells_141 ?_
      refine z_iast (x := σ 10 rr) (f := upd (upd (upd (upd (upd (g_m 56) 0 (σ 8 rr)) 1 (σ 9 rr)) 2 much) 3 st0_102) 4 (σ 1 ho)) (j := 5) (wn := (wj [(mw Y ad_m (sA 56 (upd (upd (upd (upd (upd (upd (g_m 56) 0 (σ 8 rr)) 1 (σ 9 rr)) 2 much) 3 st0_102) 4 (σ 1 ho)) 5 (σ 10 rr)) (sA 18 (fun _ => nI lv) g_m)) w_m)])) hx hb hK.1 hW 40 0 rfl rfl (vp_in_nI (n := 5) (by omega) (by decide)) (by decide) dX12_tells_142 rfl (fun H locs hW => ?_)
      refine lv_aload_n hx hb dX12_tells_143 rfl (lv_at hl 2 rfl) ?_
      refine va_get (v := .ref (ad_m 56)) (C := RX12) (T := TX12) (N := 75) (ci := 11) hx hb hts in_X12 hown hK.1 hW.1 0 rfl rfl 56 (by decide) (hts _ q1692) (fun _ h9 => h9) rfl dX12_tells_144 ?_
      refine lv_bipush (v := 6) hx hb dX12_tells_147 (by decide) ?_
      refine lv_aload_n hx hb dX12_tells_149 rfl (lv_at hl 2 rfl) ?_
      refine va_get (v := .ref (ad_m 60)) (C := RX12) (T := TX12) (N := 75) (ci := 11) hx hb hts in_X12 hown hK.1 hW.1 0 rfl rfl 60 (by decide) (hts _ q1696) (fun _ h9 => h9) rfl dX12_tells_150 ?_
      refine lv_bipush (v := 98) hx hb dX12_tells_153 (by decide) ?_
      refine lv_iload_n hx hb dX12_tells_155 rfl (lv_at hl 4 rfl) ?_
      refine lv_iadd hx hb dX12_tells_156 ?_
      refine lv_topi (nm_r (e' := nI (98 + rr)) (nI_add 98 rr) ?_)
      refine z_iald (v := σ 11 rr) (f := g_m 60) (j := 98 + rr) hx hb hK.1 hW.1 43 0 rfl rfl (vp_in_nI (n := 98 + rr) (by omega) (by decide)) (nI_clamp (n := 98 + rr) (by omega)) (MR.r11 hRS.1 (r := rr) (by omega)) dX12_tells_157 ?_
      refine z_iast (x := σ 11 rr) (f := upd (upd (upd (upd (upd (upd (g_m 56) 0 (σ 8 rr)) 1 (σ 9 rr)) 2 much) 3 st0_102) 4 (σ 1 ho)) 5 (σ 10 rr)) (j := 6) (wn := (wj [(mw Y ad_m (sA 56 (upd (upd (upd (upd (upd (upd (upd (g_m 56) 0 (σ 8 rr)) 1 (σ 9 rr)) 2 much) 3 st0_102) 4 (σ 1 ho)) 5 (σ 10 rr)) 6 (σ 11 rr)) (sA 18 (fun _ => nI lv) g_m)) w_m)])) hx hb hK.1 hW 40 0 rfl rfl (vp_in_nI (n := 6) (by omega) (by decide)) (by decide) dX12_tells_158 rfl (fun H locs hW => ?_)
      have hvc : ∀ j, j < 7 → (upd (upd (upd (upd (upd (upd (upd (g_m 56) 0 (σ 8 rr)) 1 (σ 9 rr)) 2 much) 3 st0_102) 4 (σ 1 ho)) 5 (σ 10 rr)) 6 (σ 11 rr)) j = varsP t σ rr much j := by
        intro j hj
        match j, hj with
        | 0, _ => simp [upd, varsP]
        | 1, _ => simp [upd, varsP]
        | 2, _ => simp [upd, varsP]
        | 3, _ => simp [upd, varsP, hst]
        | 4, _ => simp [upd, varsP, eho, cho]
        | 5, _ => simp [upd, varsP]
        | 6, _ => simp [upd, varsP]
      refine lv_aload_n hx hb dX12_tells_159 rfl (lv_at hl 2 rfl) ?_
      refine lv_iconst (v := 0) hx hb dX12_tells_160 (by decide) ?_
      refine z_put (v := .int 0) (C := RX12) (T := TX12) (N := 75) (ci := 11) (wn := (wj [(mw Y ad_m (sA 58 (fun _ => 0) (sA 56 (upd (upd (upd (upd (upd (upd (upd (g_m 56) 0 (σ 8 rr)) 1 (σ 9 rr)) 2 much) 3 st0_102) 4 (σ 1 ho)) 5 (σ 10 rr)) 6 (σ 11 rr)) (sA 18 (fun _ => nI lv) g_m))) w_m)])) hx hb hts in_X12 tyX12 tyX12_ok nmX12 hown hK.1 hW 0 rfl rfl 58 (by decide) (hts _ q1694) (fun _ h9 => h9) rfl rfl rfl (Nat.le_of_ble_eq_true rfl) dX12_tells_161 rfl (fun H locs hW => ?_)
      refine lv_aload_n hx hb dX12_tells_164 rfl (lv_at hl 2 rfl) ?_
      refine va_get (v := .ref (ad_m 43)) (C := RX12) (T := TX12) (N := 75) (ci := 11) hx hb hts in_X12 hown hK.1 hW.1 0 rfl rfl 43 (by decide) (hts _ q1679) (fun _ h9 => h9) rfl dX12_tells_165 ?_
      refine lv_iload hx hb dX12_tells_168 (lv_at hl 1 rfl) ?_
      refine z_iald (v := nI b0) (f := g_m 43) (j := 3 * lv + kk) hx hb hK.1 hW.1 30 0 rfl rfl (vp_in_nI (n := 3 * lv + kk) (by omega) (by decide)) (nI_clamp (n := 3 * lv + kk) (by omega)) hb43 dX12_tells_170 ?_
      refine lv_istore (lv' := [(9, .int (nI b0)), (8, .int ((t 12 0) - (σ 13 0))), (7, .int (nI (3 * lv + kk))), (0, .ref (ad_m 0)), (1, .int (nI kk)), (2, .int (nI rr)), (3, .int much), (4, .int pl), (5, .int lo), (6, .int hi)]) hx hb dX12_tells_171 hl (by decide) rfl (fun ls hl => ?_)
      have loop_173 : ∀ (n : Nat) (b : Nat) (x_pile_173 : Nat → Int32) (x_isBroken_173 : Int32) (Lr : List (RPN × RPN × RPN)), Lr.length + 1 < n → (brL g_m b Lr) → (b + Lr.length = b0 + L.length) → (lawV (varsP t σ rr much) L e0 = lawV (varsP t σ rr much) Lr e0) → (x_isBroken_173 = 0) → (∀ x, x ∈ Lr → x ∈ L) → ∀ (H : Heap) (locs : List Loc), zW D A s.heap H locs (wj [(mw Y ad_m (sA 58 (fun _ => x_isBroken_173) (sA 57 x_pile_173 (sA 56 (upd (upd (upd (upd (upd (upd (upd (g_m 56) 0 (σ 8 rr)) 1 (σ 9 rr)) 2 much) 3 st0_102) 4 (σ 1 ho)) 5 (σ 10 rr)) 6 (σ 11 rr)) (sA 18 (fun _ => nI lv) g_m)))) w_m)]) → ∀ (ls : Array Slot), lv_has ls 13 [(9, .int (nI b)), (8, .int ((t 12 0) - (σ 13 0))), (7, .int (nI (3 * lv + kk))), (0, .ref (ad_m 0)), (1, .int (nI kk)), (2, .int (nI rr)), (3, .int much), (4, .int pl), (5, .int lo), (6, .int hi)] → W p l e (headSpec (ws_ yX12_tells cX12_tells 13 (some .int)) ({ frames := 2, cells := 0, slots := 0, locals := 39 })).room s m ([.ref (ad_m 0), .int (nI kk), .int (nI rr), .int much, .int pl, .int lo, .int hi] : List Value).toArray below meth c H locs 0 0 (MQ below (va_Qi (fun (r : Int32) (u : (Nat → Int32) × (Nat → Int32) × (Int32)) => r = f_held (asksP (lw kk) pl (varsP t σ rr much)) lo hi) (zB D (fun (u : (Nat → Int32) × (Nat → Int32) × (Int32)) => (wj [(mw Y ad_m (sA 58 (fun _ => u.2.2) (sA 57 u.2.1 (sA 56 u.1 (sA 18 (fun _ => nI lv) g_m)))) w_m)])) A) A) ([.ref (ad_m 0), .int (nI kk), .int (nI rr), .int much, .int pl, .int lo, .int hi] : List Value).toArray s 0 0 A) (F0 m 173 ls []) := by
        intro n
        induction n with
        | zero =>
          intro b x_pile_173 x_isBroken_173 Lr hmz
          exact absurd hmz (Nat.not_lt_zero _)
        | succ n ih =>
          intro b x_pile_173 x_isBroken_173 Lr hm_173 hq1 hq2 hq3 hq4 hqm H locs hW ls hl
          have ih_173 := ih
          clear ih
          refine lv_iload hx hb dX12_tells_173 (lv_at hl 0 rfl) ?_
          refine lv_aload_n hx hb dX12_tells_175 rfl (lv_at hl 3 rfl) ?_
          refine va_get (v := .ref (ad_m 44)) (C := RX12) (T := TX12) (N := 75) (ci := 11) hx hb hts in_X12 hown hK.1 hW.1 0 rfl rfl 44 (by decide) (hts _ q1680) (fun _ h9 => h9) rfl dX12_tells_176 ?_
          refine lv_iload hx hb dX12_tells_179 (lv_at hl 2 rfl) ?_
          refine z_iald (v := nI (b0 + L.length + 1)) (f := g_m 44) (j := 3 * lv + kk) hx hb hK.1 hW.1 31 0 rfl rfl (vp_in_nI (n := 3 * lv + kk) (by omega) (by decide)) (nI_clamp (n := 3 * lv + kk) (by omega)) hb44 dX12_tells_181 ?_
          refine lv_icmp_ge (tgt := 326) hx hb dX12_tells_182 (by decide) (fun c_3 => ?_) (fun c_3 => ?_)
          · have c_3 : b0 + L.length + 1 ≤ b := (nI_leI (a := b0 + L.length + 1) (b := b) (by omega) (by omega)).mp c_3
            refine lv_iconst (v := 0) hx hb dX12_tells_326 (by decide) ?_
            refine lv_iload hx hb dX12_tells_327 (lv_at hl 8 rfl) ?_
            refine lv_iload hx hb dX12_tells_329 (lv_at hl 9 rfl) ?_
            refine z_calli (wc := wj []) (wr := wj [(mw Y ad_m (sA 58 (fun _ => x_isBroken_173) (sA 57 x_pile_173 (sA 56 (upd (upd (upd (upd (upd (upd (upd (g_m 56) 0 (σ 8 rr)) 1 (σ 9 rr)) 2 much) 3 st0_102) 4 (σ 1 ho)) 5 (σ 10 rr)) 6 (σ 11 rr)) (sA 18 (fun _ => nI lv) g_m)))) w_m)]) (va_runS (As := [.int 0, .int lo, .int hi]) (rest := []) ⟨hx, hb, hml, hown, hts⟩ (m_X12_held l D Y 0 lo hi H.size) (va_cwS 3 hts (lw_S q2063 q2064 q133 q2065) rfl rfl rfl (by decide +kernel) ⟨Nat.le_of_ble_eq_true rfl, Nat.le_of_ble_eq_true rfl⟩) (zPre hK hW hR (wj_split3 (B := [(mw Y ad_m (sA 58 (fun _ => x_isBroken_173) (sA 57 x_pile_173 (sA 56 (upd (upd (upd (upd (upd (upd (upd (g_m 56) 0 (σ 8 rr)) 1 (σ 9 rr)) 2 much) 3 st0_102) 4 (σ 1 ho)) 5 (σ 10 rr)) 6 (σ 11 rr)) (sA 18 (fun _ => nI lv) g_m)))) w_m)]) (R := []) (C := []) (O := []) (X := [(mw Y ad_m (sA 58 (fun _ => x_isBroken_173) (sA 57 x_pile_173 (sA 56 (upd (upd (upd (upd (upd (upd (upd (g_m 56) 0 (σ 8 rr)) 1 (σ 9 rr)) 2 much) 3 st0_102) 4 (σ 1 ho)) 5 (σ 10 rr)) 6 (σ 11 rr)) (sA 18 (fun _ => nI lv) g_m)))) w_m)]) (List.Perm.refl _))) rfl rfl hl.1 rfl (lv_room (Nat.le_of_ble_eq_true rfl)) dX12_tells_331 ⟨Nat.le_refl _, Nat.le_refl _⟩) hW hA (wj_split (B := [(mw Y ad_m (sA 58 (fun _ => x_isBroken_173) (sA 57 x_pile_173 (sA 56 (upd (upd (upd (upd (upd (upd (upd (g_m 56) 0 (σ 8 rr)) 1 (σ 9 rr)) 2 much) 3 st0_102) 4 (σ 1 ho)) 5 (σ 10 rr)) 6 (σ 11 rr)) (sA 18 (fun _ => nI lv) g_m)))) w_m)]) (C := []) (R := [(mw Y ad_m (sA 58 (fun _ => x_isBroken_173) (sA 57 x_pile_173 (sA 56 (upd (upd (upd (upd (upd (upd (upd (g_m 56) 0 (σ 8 rr)) 1 (σ 9 rr)) 2 much) 3 st0_102) 4 (σ 1 ho)) 5 (σ 10 rr)) 6 (σ 11 rr)) (sA 18 (fun _ => nI lv) g_m)))) w_m)]) (List.Perm.refl _)) (fun r_4 u H locs hp_5 hW => ?_)
            have hp_5 : r_4 = f_held 0 lo hi := hp_5
            have hW : zW D A s.heap H locs (wj [(mw Y ad_m (sA 58 (fun _ => x_isBroken_173) (sA 57 x_pile_173 (sA 56 (upd (upd (upd (upd (upd (upd (upd (g_m 56) 0 (σ 8 rr)) 1 (σ 9 rr)) 2 much) 3 st0_102) 4 (σ 1 ho)) 5 (σ 10 rr)) 6 (σ 11 rr)) (sA 18 (fun _ => nI lv) g_m)))) w_m)]) := hW.join
            refine z_ireti ((upd (upd (upd (upd (upd (upd (upd (g_m 56) 0 (σ 8 rr)) 1 (σ 9 rr)) 2 much) 3 st0_102) 4 (σ 1 ho)) 5 (σ 10 rr)) 6 (σ 11 rr), x_pile_173, x_isBroken_173) : (Nat → Int32) × (Nat → Int32) × (Int32)) hx hb hr hlocks rfl hW rfl dX12_tells_334 ?_
            show r_4 = f_held (asksP (lw kk) pl (varsP t σ rr much)) lo hi
            exfalso; omega
          · have c_3 : ¬ (b0 + L.length + 1 ≤ b) := fun hz_ => c_3 ((nI_leI (a := b0 + L.length + 1) (b := b) (by omega) (by omega)).mpr hz_)
            refine lv_iconst (v := 0) hx hb dX12_tells_185 (by decide) ?_
            refine lv_istore (lv' := [(10, .int 0), (9, .int (nI b)), (8, .int ((t 12 0) - (σ 13 0))), (7, .int (nI (3 * lv + kk))), (0, .ref (ad_m 0)), (1, .int (nI kk)), (2, .int (nI rr)), (3, .int much), (4, .int pl), (5, .int lo), (6, .int hi)]) hx hb dX12_tells_186 hl (by decide) rfl (fun ls hl => ?_)
            refine lv_iconst (v := 1) hx hb dX12_tells_188 (by decide) ?_
            refine lv_istore (lv' := [(11, .int 1), (10, .int 0), (9, .int (nI b)), (8, .int ((t 12 0) - (σ 13 0))), (7, .int (nI (3 * lv + kk))), (0, .ref (ad_m 0)), (1, .int (nI kk)), (2, .int (nI rr)), (3, .int much), (4, .int pl), (5, .int lo), (6, .int hi)]) hx hb dX12_tells_189 hl (by decide) rfl (fun ls hl => ?_)
            rcases Lr with _ | ⟨x, Lr2⟩
            · simp only [List.length_nil] at hq2
              have ebb : b = b0 + L.length := by omega
              have hz46 : g_m 46 b = 0 := by rw [ebb]; exact hel0
              obtain ⟨i2, i3, hi2, hi3, hi840, hce⟩ := hel
              rw [← ebb] at hi2 hi3
              have hokt := hlo.2.1
              have hlnt := hlo.2.2
              refine lv_aload_n hx hb dX12_tells_191 rfl (lv_at hl 5 rfl) ?_
              refine va_get (v := .ref (ad_m 46)) (C := RX12) (T := TX12) (N := 75) (ci := 11) hx hb hts in_X12 hown hK.1 hW.1 0 rfl rfl 46 (by decide) (hts _ q1682) (fun _ h9 => h9) rfl dX12_tells_192 ?_
              refine lv_iload hx hb dX12_tells_195 (lv_at hl 2 rfl) ?_
              refine z_zald (v := 0) (f := g_m 46) (j := b) hx hb hK.1 hW.1 32 2 rfl rfl (vp_in_nI (n := b) (by omega) (by decide)) (nI_clamp (n := b) (by omega)) hz46 dX12_tells_197 ?_
              refine lv_if_eq (tgt := 255) hx hb dX12_tells_198 (by decide) (fun c_6 => ?_) (fun c_6 => by first | exact absurd c_6 (by decide) | exact absurd (by decide) c_6)
              refine lv_aload_n hx hb dX12_tells_255 rfl (lv_at hl 5 rfl) ?_
              refine va_get (v := .int x_isBroken_173) (C := RX12) (T := TX12) (N := 75) (ci := 11) hx hb hts in_X12 hown hK.1 hW.1 0 rfl rfl 58 (by decide) (hts _ q1694) (fun _ h9 => h9) rfl dX12_tells_256 ?_
              refine lv_if_eq (tgt := 271) hx hb dX12_tells_259 (by decide) (fun c_7 => ?_) (fun c_7 => ?_)
              · refine lv_iload hx hb dX12_tells_271 (lv_at hl 0 rfl) ?_
                refine lv_if_ne (tgt := 279) hx hb dX12_tells_273 (by decide) (fun c_8 => ?_) (fun c_8 => by first | exact absurd c_8 (by decide) | exact absurd (by decide) c_8)
                refine lv_aload_n hx hb dX12_tells_279 rfl (lv_at hl 5 rfl) ?_
                refine lv_aload_n hx hb dX12_tells_280 rfl (lv_at hl 5 rfl) ?_
                refine va_get (v := .ref (ad_m 49)) (C := RX12) (T := TX12) (N := 75) (ci := 11) hx hb hts in_X12 hown hK.1 hW.1 0 rfl rfl 49 (by decide) (hts _ q1685) (fun _ h9 => h9) rfl dX12_tells_281 ?_
                refine lv_iload hx hb dX12_tells_284 (lv_at hl 2 rfl) ?_
                refine z_iald (v := nI i2) (f := g_m 49) (j := b) hx hb hK.1 hW.1 35 0 rfl rfl (vp_in_nI (n := b) (by omega) (by decide)) (nI_clamp (n := b) (by omega)) hi2 dX12_tells_286 ?_
                refine lv_aload_n hx hb dX12_tells_287 rfl (lv_at hl 5 rfl) ?_
                refine va_get (v := .ref (ad_m 50)) (C := RX12) (T := TX12) (N := 75) (ci := 11) hx hb hts in_X12 hown hK.1 hW.1 0 rfl rfl 50 (by decide) (hts _ q1686) (fun _ h9 => h9) rfl dX12_tells_288 ?_
                refine lv_iload hx hb dX12_tells_291 (lv_at hl 2 rfl) ?_
                refine z_iald (v := nI i3) (f := g_m 50) (j := b) hx hb hK.1 hW.1 36 0 rfl rfl (vp_in_nI (n := b) (by omega) (by decide)) (nI_clamp (n := b) (by omega)) hi3 dX12_tells_293 ?_
                refine z_calli (wc := wj [(mw Y ad_m (sA 58 (fun _ => x_isBroken_173) (sA 57 x_pile_173 (sA 56 (upd (upd (upd (upd (upd (upd (upd (g_m 56) 0 (σ 8 rr)) 1 (σ 9 rr)) 2 much) 3 st0_102) 4 (σ 1 ho)) 5 (σ 10 rr)) 6 (σ 11 rr)) (sA 18 (fun _ => nI lv) g_m)))) w_m)]) (wr := wj []) (va_runV (As := [.int (nI i2), .int (nI i3)]) (rest := []) ⟨hx, hb, hml, hown, hts⟩ (m_X12_termOf l D Y ad_m (sA 58 (fun _ => x_isBroken_173) (sA 57 x_pile_173 (sA 56 (upd (upd (upd (upd (upd (upd (upd (g_m 56) 0 (σ 8 rr)) 1 (σ 9 rr)) 2 much) 3 st0_102) 4 (σ 1 ho)) 5 (σ 10 rr)) 6 (σ 11 rr)) (sA 18 (fun _ => nI lv) g_m)))) w_m i2 i3 e0 (varsP t σ rr much) H.size (show codeAt (g_m 52) (g_m 53) i2 i3 e0 from by first | exact hc2 | exact hce) (show e0.length ≤ 400 from by first | exact hxl.2.2.2.2.2 | exact hlnt) (show i3 ≤ 840 from by first | assumption | omega | grind) (show rpOK e0 from by first | exact hxl.2.2.1 | exact hokt) (show ∀ j, j < 7 → (upd (upd (upd (upd (upd (upd (upd (g_m 56) 0 (σ 8 rr)) 1 (σ 9 rr)) 2 much) 3 st0_102) 4 (σ 1 ho)) 5 (σ 10 rr)) 6 (σ 11 rr)) j = (varsP t σ rr much) j from by exact hvc)) (cwV 2 hts (lw_V q2059 q2061 qs93 q133 q2062) rfl rfl rfl (by decide +kernel) ⟨Nat.le_of_ble_eq_true rfl, Nat.le_of_ble_eq_true rfl⟩) (zPreV hK hW hR (wj_split3 (B := [(mw Y ad_m (sA 58 (fun _ => x_isBroken_173) (sA 57 x_pile_173 (sA 56 (upd (upd (upd (upd (upd (upd (upd (g_m 56) 0 (σ 8 rr)) 1 (σ 9 rr)) 2 much) 3 st0_102) 4 (σ 1 ho)) 5 (σ 10 rr)) 6 (σ 11 rr)) (sA 18 (fun _ => nI lv) g_m)))) w_m)]) (R := []) (C := [(mw Y ad_m (sA 58 (fun _ => x_isBroken_173) (sA 57 x_pile_173 (sA 56 (upd (upd (upd (upd (upd (upd (upd (g_m 56) 0 (σ 8 rr)) 1 (σ 9 rr)) 2 much) 3 st0_102) 4 (σ 1 ho)) 5 (σ 10 rr)) 6 (σ 11 rr)) (sA 18 (fun _ => nI lv) g_m)))) w_m)]) (O := []) (X := []) (List.Perm.refl _)) (va_recv hK.1 hW.1 (ci := 11) (q0 := 0) rfl rfl)) rfl rfl hl.1 rfl (lv_room (Nat.le_of_ble_eq_true rfl)) dX12_tells_294 ⟨Nat.le_refl _, Nat.le_refl _⟩) hW hA (wj_split (B := [(mw Y ad_m (sA 58 (fun _ => x_isBroken_173) (sA 57 x_pile_173 (sA 56 (upd (upd (upd (upd (upd (upd (upd (g_m 56) 0 (σ 8 rr)) 1 (σ 9 rr)) 2 much) 3 st0_102) 4 (σ 1 ho)) 5 (σ 10 rr)) 6 (σ 11 rr)) (sA 18 (fun _ => nI lv) g_m)))) w_m)]) (C := [(mw Y ad_m (sA 58 (fun _ => x_isBroken_173) (sA 57 x_pile_173 (sA 56 (upd (upd (upd (upd (upd (upd (upd (g_m 56) 0 (σ 8 rr)) 1 (σ 9 rr)) 2 much) 3 st0_102) 4 (σ 1 ho)) 5 (σ 10 rr)) 6 (σ 11 rr)) (sA 18 (fun _ => nI lv) g_m)))) w_m)]) (R := []) (List.Perm.refl _)) (fun r_9 u H locs hp_10 hW => ?_)
                obtain ⟨upile_11, uisBroken_12⟩ := u
                have hp_10 : r_9 = (if (tv (varsP t σ rr much) e0).2 = true then 0 else (tv (varsP t σ rr much) e0).1) ∧ uisBroken_12 = (if (tv (varsP t σ rr much) e0).2 = true then 1 else x_isBroken_173) := hp_10
                have hW : zW D A s.heap H locs (wj [(mw Y ad_m (sA 58 (fun _ => uisBroken_12) (sA 57 upile_11 (sA 56 (upd (upd (upd (upd (upd (upd (upd (g_m 56) 0 (σ 8 rr)) 1 (σ 9 rr)) 2 much) 3 st0_102) 4 (σ 1 ho)) 5 (σ 10 rr)) 6 (σ 11 rr)) (sA 18 (fun _ => nI lv) g_m)))) w_m)]) := hW.join
                refine lv_istore (lv' := [(12, .int r_9), (11, .int 1), (10, .int 0), (9, .int (nI b)), (8, .int ((t 12 0) - (σ 13 0))), (7, .int (nI (3 * lv + kk))), (0, .ref (ad_m 0)), (1, .int (nI kk)), (2, .int (nI rr)), (3, .int much), (4, .int pl), (5, .int lo), (6, .int hi)]) hx hb dX12_tells_297 hl (by decide) rfl (fun ls hl => ?_)
                refine lv_aload_n hx hb dX12_tells_299 rfl (lv_at hl 6 rfl) ?_
                refine va_get (v := .int uisBroken_12) (C := RX12) (T := TX12) (N := 75) (ci := 11) hx hb hts in_X12 hown hK.1 hW.1 0 rfl rfl 58 (by decide) (hts _ q1694) (fun _ h9 => h9) rfl dX12_tells_300 ?_
                refine lv_if_eq (tgt := 310) hx hb dX12_tells_303 (by decide) (fun c_13 => ?_) (fun c_13 => ?_)
                · refine lv_iload hx hb dX12_tells_310 (lv_at hl 0 rfl) ?_
                  refine lv_iload hx hb dX12_tells_312 (lv_at hl 11 rfl) ?_
                  refine lv_iload hx hb dX12_tells_314 (lv_at hl 12 rfl) ?_
                  refine z_calli (wc := wj []) (wr := wj [(mw Y ad_m (sA 58 (fun _ => uisBroken_12) (sA 57 upile_11 (sA 56 (upd (upd (upd (upd (upd (upd (upd (g_m 56) 0 (σ 8 rr)) 1 (σ 9 rr)) 2 much) 3 st0_102) 4 (σ 1 ho)) 5 (σ 10 rr)) 6 (σ 11 rr)) (sA 18 (fun _ => nI lv) g_m)))) w_m)]) (va_runS (As := [.int r_9, .int lo, .int hi]) (rest := []) ⟨hx, hb, hml, hown, hts⟩ (m_X12_held l D Y r_9 lo hi H.size) (va_cwS 3 hts (lw_S q2063 q2064 q133 q2065) rfl rfl rfl (by decide +kernel) ⟨Nat.le_of_ble_eq_true rfl, Nat.le_of_ble_eq_true rfl⟩) (zPre hK hW hR (wj_split3 (B := [(mw Y ad_m (sA 58 (fun _ => uisBroken_12) (sA 57 upile_11 (sA 56 (upd (upd (upd (upd (upd (upd (upd (g_m 56) 0 (σ 8 rr)) 1 (σ 9 rr)) 2 much) 3 st0_102) 4 (σ 1 ho)) 5 (σ 10 rr)) 6 (σ 11 rr)) (sA 18 (fun _ => nI lv) g_m)))) w_m)]) (R := []) (C := []) (O := []) (X := [(mw Y ad_m (sA 58 (fun _ => uisBroken_12) (sA 57 upile_11 (sA 56 (upd (upd (upd (upd (upd (upd (upd (g_m 56) 0 (σ 8 rr)) 1 (σ 9 rr)) 2 much) 3 st0_102) 4 (σ 1 ho)) 5 (σ 10 rr)) 6 (σ 11 rr)) (sA 18 (fun _ => nI lv) g_m)))) w_m)]) (List.Perm.refl _))) rfl rfl hl.1 rfl (lv_room (Nat.le_of_ble_eq_true rfl)) dX12_tells_316 ⟨Nat.le_refl _, Nat.le_refl _⟩) hW hA (wj_split (B := [(mw Y ad_m (sA 58 (fun _ => uisBroken_12) (sA 57 upile_11 (sA 56 (upd (upd (upd (upd (upd (upd (upd (g_m 56) 0 (σ 8 rr)) 1 (σ 9 rr)) 2 much) 3 st0_102) 4 (σ 1 ho)) 5 (σ 10 rr)) 6 (σ 11 rr)) (sA 18 (fun _ => nI lv) g_m)))) w_m)]) (C := []) (R := [(mw Y ad_m (sA 58 (fun _ => uisBroken_12) (sA 57 upile_11 (sA 56 (upd (upd (upd (upd (upd (upd (upd (g_m 56) 0 (σ 8 rr)) 1 (σ 9 rr)) 2 much) 3 st0_102) 4 (σ 1 ho)) 5 (σ 10 rr)) 6 (σ 11 rr)) (sA 18 (fun _ => nI lv) g_m)))) w_m)]) (List.Perm.refl _)) (fun r_14 u H locs hp_15 hW => ?_)
                  have hp_15 : r_14 = f_held r_9 lo hi := hp_15
                  have hW : zW D A s.heap H locs (wj [(mw Y ad_m (sA 58 (fun _ => uisBroken_12) (sA 57 upile_11 (sA 56 (upd (upd (upd (upd (upd (upd (upd (g_m 56) 0 (σ 8 rr)) 1 (σ 9 rr)) 2 much) 3 st0_102) 4 (σ 1 ho)) 5 (σ 10 rr)) 6 (σ 11 rr)) (sA 18 (fun _ => nI lv) g_m)))) w_m)]) := hW.join
                  refine z_ireti ((upd (upd (upd (upd (upd (upd (upd (g_m 56) 0 (σ 8 rr)) 1 (σ 9 rr)) 2 much) 3 st0_102) 4 (σ 1 ho)) 5 (σ 10 rr)) 6 (σ 11 rr), upile_11, uisBroken_12) : (Nat → Int32) × (Nat → Int32) × (Int32)) hx hb hr hlocks rfl hW rfl dX12_tells_319 ?_
                  show r_14 = f_held (asksP (lw kk) pl (varsP t σ rr much)) lo hi
                  simp only [hlw, asksP, hq3, lawV]
                  grind
                · refine lv_iconst (v := 0) hx hb dX12_tells_306 (by decide) ?_
                  refine lv_goto (tgt := 312) hx hb dX12_tells_307 (by decide) ?_
                  refine lv_iload hx hb dX12_tells_312 (lv_at hl 11 rfl) ?_
                  refine lv_iload hx hb dX12_tells_314 (lv_at hl 12 rfl) ?_
                  refine z_calli (wc := wj []) (wr := wj [(mw Y ad_m (sA 58 (fun _ => uisBroken_12) (sA 57 upile_11 (sA 56 (upd (upd (upd (upd (upd (upd (upd (g_m 56) 0 (σ 8 rr)) 1 (σ 9 rr)) 2 much) 3 st0_102) 4 (σ 1 ho)) 5 (σ 10 rr)) 6 (σ 11 rr)) (sA 18 (fun _ => nI lv) g_m)))) w_m)]) (va_runS (As := [.int 0, .int lo, .int hi]) (rest := []) ⟨hx, hb, hml, hown, hts⟩ (m_X12_held l D Y 0 lo hi H.size) (va_cwS 3 hts (lw_S q2063 q2064 q133 q2065) rfl rfl rfl (by decide +kernel) ⟨Nat.le_of_ble_eq_true rfl, Nat.le_of_ble_eq_true rfl⟩) (zPre hK hW hR (wj_split3 (B := [(mw Y ad_m (sA 58 (fun _ => uisBroken_12) (sA 57 upile_11 (sA 56 (upd (upd (upd (upd (upd (upd (upd (g_m 56) 0 (σ 8 rr)) 1 (σ 9 rr)) 2 much) 3 st0_102) 4 (σ 1 ho)) 5 (σ 10 rr)) 6 (σ 11 rr)) (sA 18 (fun _ => nI lv) g_m)))) w_m)]) (R := []) (C := []) (O := []) (X := [(mw Y ad_m (sA 58 (fun _ => uisBroken_12) (sA 57 upile_11 (sA 56 (upd (upd (upd (upd (upd (upd (upd (g_m 56) 0 (σ 8 rr)) 1 (σ 9 rr)) 2 much) 3 st0_102) 4 (σ 1 ho)) 5 (σ 10 rr)) 6 (σ 11 rr)) (sA 18 (fun _ => nI lv) g_m)))) w_m)]) (List.Perm.refl _))) rfl rfl hl.1 rfl (lv_room (Nat.le_of_ble_eq_true rfl)) dX12_tells_316 ⟨Nat.le_refl _, Nat.le_refl _⟩) hW hA (wj_split (B := [(mw Y ad_m (sA 58 (fun _ => uisBroken_12) (sA 57 upile_11 (sA 56 (upd (upd (upd (upd (upd (upd (upd (g_m 56) 0 (σ 8 rr)) 1 (σ 9 rr)) 2 much) 3 st0_102) 4 (σ 1 ho)) 5 (σ 10 rr)) 6 (σ 11 rr)) (sA 18 (fun _ => nI lv) g_m)))) w_m)]) (C := []) (R := [(mw Y ad_m (sA 58 (fun _ => uisBroken_12) (sA 57 upile_11 (sA 56 (upd (upd (upd (upd (upd (upd (upd (g_m 56) 0 (σ 8 rr)) 1 (σ 9 rr)) 2 much) 3 st0_102) 4 (σ 1 ho)) 5 (σ 10 rr)) 6 (σ 11 rr)) (sA 18 (fun _ => nI lv) g_m)))) w_m)]) (List.Perm.refl _)) (fun r_16 u H locs hp_17 hW => ?_)
                  have hp_17 : r_16 = f_held 0 lo hi := hp_17
                  have hW : zW D A s.heap H locs (wj [(mw Y ad_m (sA 58 (fun _ => uisBroken_12) (sA 57 upile_11 (sA 56 (upd (upd (upd (upd (upd (upd (upd (g_m 56) 0 (σ 8 rr)) 1 (σ 9 rr)) 2 much) 3 st0_102) 4 (σ 1 ho)) 5 (σ 10 rr)) 6 (σ 11 rr)) (sA 18 (fun _ => nI lv) g_m)))) w_m)]) := hW.join
                  refine z_ireti ((upd (upd (upd (upd (upd (upd (upd (g_m 56) 0 (σ 8 rr)) 1 (σ 9 rr)) 2 much) 3 st0_102) 4 (σ 1 ho)) 5 (σ 10 rr)) 6 (σ 11 rr), upile_11, uisBroken_12) : (Nat → Int32) × (Nat → Int32) × (Int32)) hx hb hr hlocks rfl hW rfl dX12_tells_319 ?_
                  show r_16 = f_held (asksP (lw kk) pl (varsP t σ rr much)) lo hi
                  simp only [hlw, asksP, hq3, lawV]
                  grind
              · refine lv_iconst (v := 0) hx hb dX12_tells_262 (by decide) ?_
                refine lv_iload hx hb dX12_tells_263 (lv_at hl 10 rfl) ?_
                refine lv_iload hx hb dX12_tells_265 (lv_at hl 11 rfl) ?_
                refine z_calli (wc := wj []) (wr := wj [(mw Y ad_m (sA 58 (fun _ => x_isBroken_173) (sA 57 x_pile_173 (sA 56 (upd (upd (upd (upd (upd (upd (upd (g_m 56) 0 (σ 8 rr)) 1 (σ 9 rr)) 2 much) 3 st0_102) 4 (σ 1 ho)) 5 (σ 10 rr)) 6 (σ 11 rr)) (sA 18 (fun _ => nI lv) g_m)))) w_m)]) (va_runS (As := [.int 0, .int lo, .int hi]) (rest := []) ⟨hx, hb, hml, hown, hts⟩ (m_X12_held l D Y 0 lo hi H.size) (va_cwS 3 hts (lw_S q2063 q2064 q133 q2065) rfl rfl rfl (by decide +kernel) ⟨Nat.le_of_ble_eq_true rfl, Nat.le_of_ble_eq_true rfl⟩) (zPre hK hW hR (wj_split3 (B := [(mw Y ad_m (sA 58 (fun _ => x_isBroken_173) (sA 57 x_pile_173 (sA 56 (upd (upd (upd (upd (upd (upd (upd (g_m 56) 0 (σ 8 rr)) 1 (σ 9 rr)) 2 much) 3 st0_102) 4 (σ 1 ho)) 5 (σ 10 rr)) 6 (σ 11 rr)) (sA 18 (fun _ => nI lv) g_m)))) w_m)]) (R := []) (C := []) (O := []) (X := [(mw Y ad_m (sA 58 (fun _ => x_isBroken_173) (sA 57 x_pile_173 (sA 56 (upd (upd (upd (upd (upd (upd (upd (g_m 56) 0 (σ 8 rr)) 1 (σ 9 rr)) 2 much) 3 st0_102) 4 (σ 1 ho)) 5 (σ 10 rr)) 6 (σ 11 rr)) (sA 18 (fun _ => nI lv) g_m)))) w_m)]) (List.Perm.refl _))) rfl rfl hl.1 rfl (lv_room (Nat.le_of_ble_eq_true rfl)) dX12_tells_267 ⟨Nat.le_refl _, Nat.le_refl _⟩) hW hA (wj_split (B := [(mw Y ad_m (sA 58 (fun _ => x_isBroken_173) (sA 57 x_pile_173 (sA 56 (upd (upd (upd (upd (upd (upd (upd (g_m 56) 0 (σ 8 rr)) 1 (σ 9 rr)) 2 much) 3 st0_102) 4 (σ 1 ho)) 5 (σ 10 rr)) 6 (σ 11 rr)) (sA 18 (fun _ => nI lv) g_m)))) w_m)]) (C := []) (R := [(mw Y ad_m (sA 58 (fun _ => x_isBroken_173) (sA 57 x_pile_173 (sA 56 (upd (upd (upd (upd (upd (upd (upd (g_m 56) 0 (σ 8 rr)) 1 (σ 9 rr)) 2 much) 3 st0_102) 4 (σ 1 ho)) 5 (σ 10 rr)) 6 (σ 11 rr)) (sA 18 (fun _ => nI lv) g_m)))) w_m)]) (List.Perm.refl _)) (fun r_18 u H locs hp_19 hW => ?_)
                have hp_19 : r_18 = f_held 0 lo hi := hp_19
                have hW : zW D A s.heap H locs (wj [(mw Y ad_m (sA 58 (fun _ => x_isBroken_173) (sA 57 x_pile_173 (sA 56 (upd (upd (upd (upd (upd (upd (upd (g_m 56) 0 (σ 8 rr)) 1 (σ 9 rr)) 2 much) 3 st0_102) 4 (σ 1 ho)) 5 (σ 10 rr)) 6 (σ 11 rr)) (sA 18 (fun _ => nI lv) g_m)))) w_m)]) := hW.join
                refine z_ireti ((upd (upd (upd (upd (upd (upd (upd (g_m 56) 0 (σ 8 rr)) 1 (σ 9 rr)) 2 much) 3 st0_102) 4 (σ 1 ho)) 5 (σ 10 rr)) 6 (σ 11 rr), x_pile_173, x_isBroken_173) : (Nat → Int32) × (Nat → Int32) × (Int32)) hx hb hr hlocks rfl hW rfl dX12_tells_270 ?_
                show r_18 = f_held (asksP (lw kk) pl (varsP t σ rr much)) lo hi
                simp only [hlw, asksP, hq3, lawV]
                grind
            · simp only [List.length_cons] at hq2 hm_173
              obtain ⟨hz46, j0, j1, j2, j3, hj0, hj1, hj2, hj3, hj840, hc0, hc1, hc2⟩ := brL_hd hq1
              have hxl := hlo.1 x (hqm x List.mem_cons_self)
              have hl1 := hc1.1
              have hl2 := hc2.1
              refine lv_aload_n hx hb dX12_tells_191 rfl (lv_at hl 5 rfl) ?_
              refine va_get (v := .ref (ad_m 46)) (C := RX12) (T := TX12) (N := 75) (ci := 11) hx hb hts in_X12 hown hK.1 hW.1 0 rfl rfl 46 (by decide) (hts _ q1682) (fun _ h9 => h9) rfl dX12_tells_192 ?_
              refine lv_iload hx hb dX12_tells_195 (lv_at hl 2 rfl) ?_
              refine z_zald (v := 1) (f := g_m 46) (j := b) hx hb hK.1 hW.1 32 2 rfl rfl (vp_in_nI (n := b) (by omega) (by decide)) (nI_clamp (n := b) (by omega)) hz46 dX12_tells_197 ?_
              refine lv_if_eq (tgt := 255) hx hb dX12_tells_198 (by decide) (fun c_20 => by first | exact absurd c_20 (by decide) | exact absurd (by decide) c_20) (fun c_20 => ?_)
              refine lv_aload_n hx hb dX12_tells_201 rfl (lv_at hl 5 rfl) ?_
              refine lv_aload_n hx hb dX12_tells_202 rfl (lv_at hl 5 rfl) ?_
              refine va_get (v := .ref (ad_m 47)) (C := RX12) (T := TX12) (N := 75) (ci := 11) hx hb hts in_X12 hown hK.1 hW.1 0 rfl rfl 47 (by decide) (hts _ q1683) (fun _ h9 => h9) rfl dX12_tells_203 ?_
              refine lv_iload hx hb dX12_tells_206 (lv_at hl 2 rfl) ?_
              refine z_iald (v := nI j0) (f := g_m 47) (j := b) hx hb hK.1 hW.1 33 0 rfl rfl (vp_in_nI (n := b) (by omega) (by decide)) (nI_clamp (n := b) (by omega)) hj0 dX12_tells_208 ?_
              refine lv_aload_n hx hb dX12_tells_209 rfl (lv_at hl 5 rfl) ?_
              refine va_get (v := .ref (ad_m 48)) (C := RX12) (T := TX12) (N := 75) (ci := 11) hx hb hts in_X12 hown hK.1 hW.1 0 rfl rfl 48 (by decide) (hts _ q1684) (fun _ h9 => h9) rfl dX12_tells_210 ?_
              refine lv_iload hx hb dX12_tells_213 (lv_at hl 2 rfl) ?_
              refine z_iald (v := nI j1) (f := g_m 48) (j := b) hx hb hK.1 hW.1 34 0 rfl rfl (vp_in_nI (n := b) (by omega) (by decide)) (nI_clamp (n := b) (by omega)) hj1 dX12_tells_215 ?_
              refine z_calli (wc := wj [(mw Y ad_m (sA 58 (fun _ => x_isBroken_173) (sA 57 x_pile_173 (sA 56 (upd (upd (upd (upd (upd (upd (upd (g_m 56) 0 (σ 8 rr)) 1 (σ 9 rr)) 2 much) 3 st0_102) 4 (σ 1 ho)) 5 (σ 10 rr)) 6 (σ 11 rr)) (sA 18 (fun _ => nI lv) g_m)))) w_m)]) (wr := wj []) (va_runV (As := [.int (nI j0), .int (nI j1)]) (rest := []) ⟨hx, hb, hml, hown, hts⟩ (m_X12_termOf l D Y ad_m (sA 58 (fun _ => x_isBroken_173) (sA 57 x_pile_173 (sA 56 (upd (upd (upd (upd (upd (upd (upd (g_m 56) 0 (σ 8 rr)) 1 (σ 9 rr)) 2 much) 3 st0_102) 4 (σ 1 ho)) 5 (σ 10 rr)) 6 (σ 11 rr)) (sA 18 (fun _ => nI lv) g_m)))) w_m j0 j1 x.1 (varsP t σ rr much) H.size (show codeAt (g_m 52) (g_m 53) j0 j1 x.1 from by exact hc0) (show x.1.length ≤ 400 from by exact hxl.2.2.2.1) (show j1 ≤ 840 from by first | assumption | omega | grind) (show rpOK x.1 from by exact hxl.1) (show ∀ j, j < 7 → (upd (upd (upd (upd (upd (upd (upd (g_m 56) 0 (σ 8 rr)) 1 (σ 9 rr)) 2 much) 3 st0_102) 4 (σ 1 ho)) 5 (σ 10 rr)) 6 (σ 11 rr)) j = (varsP t σ rr much) j from by exact hvc)) (cwV 2 hts (lw_V q2059 q2061 qs93 q133 q2062) rfl rfl rfl (by decide +kernel) ⟨Nat.le_of_ble_eq_true rfl, Nat.le_of_ble_eq_true rfl⟩) (zPreV hK hW hR (wj_split3 (B := [(mw Y ad_m (sA 58 (fun _ => x_isBroken_173) (sA 57 x_pile_173 (sA 56 (upd (upd (upd (upd (upd (upd (upd (g_m 56) 0 (σ 8 rr)) 1 (σ 9 rr)) 2 much) 3 st0_102) 4 (σ 1 ho)) 5 (σ 10 rr)) 6 (σ 11 rr)) (sA 18 (fun _ => nI lv) g_m)))) w_m)]) (R := []) (C := [(mw Y ad_m (sA 58 (fun _ => x_isBroken_173) (sA 57 x_pile_173 (sA 56 (upd (upd (upd (upd (upd (upd (upd (g_m 56) 0 (σ 8 rr)) 1 (σ 9 rr)) 2 much) 3 st0_102) 4 (σ 1 ho)) 5 (σ 10 rr)) 6 (σ 11 rr)) (sA 18 (fun _ => nI lv) g_m)))) w_m)]) (O := []) (X := []) (List.Perm.refl _)) (va_recv hK.1 hW.1 (ci := 11) (q0 := 0) rfl rfl)) rfl rfl hl.1 rfl (lv_room (Nat.le_of_ble_eq_true rfl)) dX12_tells_216 ⟨Nat.le_refl _, Nat.le_refl _⟩) hW hA (wj_split (B := [(mw Y ad_m (sA 58 (fun _ => x_isBroken_173) (sA 57 x_pile_173 (sA 56 (upd (upd (upd (upd (upd (upd (upd (g_m 56) 0 (σ 8 rr)) 1 (σ 9 rr)) 2 much) 3 st0_102) 4 (σ 1 ho)) 5 (σ 10 rr)) 6 (σ 11 rr)) (sA 18 (fun _ => nI lv) g_m)))) w_m)]) (C := [(mw Y ad_m (sA 58 (fun _ => x_isBroken_173) (sA 57 x_pile_173 (sA 56 (upd (upd (upd (upd (upd (upd (upd (g_m 56) 0 (σ 8 rr)) 1 (σ 9 rr)) 2 much) 3 st0_102) 4 (σ 1 ho)) 5 (σ 10 rr)) 6 (σ 11 rr)) (sA 18 (fun _ => nI lv) g_m)))) w_m)]) (R := []) (List.Perm.refl _)) (fun r_21 u H locs hp_22 hW => ?_)
              obtain ⟨upile_23, uisBroken_24⟩ := u
              have hp_22 : r_21 = (if (tv (varsP t σ rr much) x.1).2 = true then 0 else (tv (varsP t σ rr much) x.1).1) ∧ uisBroken_24 = (if (tv (varsP t σ rr much) x.1).2 = true then 1 else x_isBroken_173) := hp_22
              have hW : zW D A s.heap H locs (wj [(mw Y ad_m (sA 58 (fun _ => uisBroken_24) (sA 57 upile_23 (sA 56 (upd (upd (upd (upd (upd (upd (upd (g_m 56) 0 (σ 8 rr)) 1 (σ 9 rr)) 2 much) 3 st0_102) 4 (σ 1 ho)) 5 (σ 10 rr)) 6 (σ 11 rr)) (sA 18 (fun _ => nI lv) g_m)))) w_m)]) := hW.join
              refine lv_istore (lv' := [(10, .int r_21), (11, .int 1), (9, .int (nI b)), (8, .int ((t 12 0) - (σ 13 0))), (7, .int (nI (3 * lv + kk))), (0, .ref (ad_m 0)), (1, .int (nI kk)), (2, .int (nI rr)), (3, .int much), (4, .int pl), (5, .int lo), (6, .int hi)]) hx hb dX12_tells_219 hl (by decide) rfl (fun ls hl => ?_)
              refine lv_aload_n hx hb dX12_tells_221 rfl (lv_at hl 5 rfl) ?_
              refine lv_aload_n hx hb dX12_tells_222 rfl (lv_at hl 5 rfl) ?_
              refine va_get (v := .ref (ad_m 48)) (C := RX12) (T := TX12) (N := 75) (ci := 11) hx hb hts in_X12 hown hK.1 hW.1 0 rfl rfl 48 (by decide) (hts _ q1684) (fun _ h9 => h9) rfl dX12_tells_223 ?_
              refine lv_iload hx hb dX12_tells_226 (lv_at hl 2 rfl) ?_
              refine z_iald (v := nI j1) (f := g_m 48) (j := b) hx hb hK.1 hW.1 34 0 rfl rfl (vp_in_nI (n := b) (by omega) (by decide)) (nI_clamp (n := b) (by omega)) hj1 dX12_tells_228 ?_
              refine lv_aload_n hx hb dX12_tells_229 rfl (lv_at hl 5 rfl) ?_
              refine va_get (v := .ref (ad_m 49)) (C := RX12) (T := TX12) (N := 75) (ci := 11) hx hb hts in_X12 hown hK.1 hW.1 0 rfl rfl 49 (by decide) (hts _ q1685) (fun _ h9 => h9) rfl dX12_tells_230 ?_
              refine lv_iload hx hb dX12_tells_233 (lv_at hl 2 rfl) ?_
              refine z_iald (v := nI j2) (f := g_m 49) (j := b) hx hb hK.1 hW.1 35 0 rfl rfl (vp_in_nI (n := b) (by omega) (by decide)) (nI_clamp (n := b) (by omega)) hj2 dX12_tells_235 ?_
              refine z_calli (wc := wj [(mw Y ad_m (sA 58 (fun _ => uisBroken_24) (sA 57 upile_23 (sA 56 (upd (upd (upd (upd (upd (upd (upd (g_m 56) 0 (σ 8 rr)) 1 (σ 9 rr)) 2 much) 3 st0_102) 4 (σ 1 ho)) 5 (σ 10 rr)) 6 (σ 11 rr)) (sA 18 (fun _ => nI lv) g_m)))) w_m)]) (wr := wj []) (va_runV (As := [.int (nI j1), .int (nI j2)]) (rest := []) ⟨hx, hb, hml, hown, hts⟩ (m_X12_termOf l D Y ad_m (sA 58 (fun _ => uisBroken_24) (sA 57 upile_23 (sA 56 (upd (upd (upd (upd (upd (upd (upd (g_m 56) 0 (σ 8 rr)) 1 (σ 9 rr)) 2 much) 3 st0_102) 4 (σ 1 ho)) 5 (σ 10 rr)) 6 (σ 11 rr)) (sA 18 (fun _ => nI lv) g_m)))) w_m j1 j2 x.2.1 (varsP t σ rr much) H.size (show codeAt (g_m 52) (g_m 53) j1 j2 x.2.1 from by exact hc1) (show x.2.1.length ≤ 400 from by exact hxl.2.2.2.2.1) (show j2 ≤ 840 from by first | assumption | omega | grind) (show rpOK x.2.1 from by exact hxl.2.1) (show ∀ j, j < 7 → (upd (upd (upd (upd (upd (upd (upd (g_m 56) 0 (σ 8 rr)) 1 (σ 9 rr)) 2 much) 3 st0_102) 4 (σ 1 ho)) 5 (σ 10 rr)) 6 (σ 11 rr)) j = (varsP t σ rr much) j from by exact hvc)) (cwV 2 hts (lw_V q2059 q2061 qs93 q133 q2062) rfl rfl rfl (by decide +kernel) ⟨Nat.le_of_ble_eq_true rfl, Nat.le_of_ble_eq_true rfl⟩) (zPreV hK hW hR (wj_split3 (B := [(mw Y ad_m (sA 58 (fun _ => uisBroken_24) (sA 57 upile_23 (sA 56 (upd (upd (upd (upd (upd (upd (upd (g_m 56) 0 (σ 8 rr)) 1 (σ 9 rr)) 2 much) 3 st0_102) 4 (σ 1 ho)) 5 (σ 10 rr)) 6 (σ 11 rr)) (sA 18 (fun _ => nI lv) g_m)))) w_m)]) (R := []) (C := [(mw Y ad_m (sA 58 (fun _ => uisBroken_24) (sA 57 upile_23 (sA 56 (upd (upd (upd (upd (upd (upd (upd (g_m 56) 0 (σ 8 rr)) 1 (σ 9 rr)) 2 much) 3 st0_102) 4 (σ 1 ho)) 5 (σ 10 rr)) 6 (σ 11 rr)) (sA 18 (fun _ => nI lv) g_m)))) w_m)]) (O := []) (X := []) (List.Perm.refl _)) (va_recv hK.1 hW.1 (ci := 11) (q0 := 0) rfl rfl)) rfl rfl hl.1 rfl (lv_room (Nat.le_of_ble_eq_true rfl)) dX12_tells_236 ⟨Nat.le_refl _, Nat.le_refl _⟩) hW hA (wj_split (B := [(mw Y ad_m (sA 58 (fun _ => uisBroken_24) (sA 57 upile_23 (sA 56 (upd (upd (upd (upd (upd (upd (upd (g_m 56) 0 (σ 8 rr)) 1 (σ 9 rr)) 2 much) 3 st0_102) 4 (σ 1 ho)) 5 (σ 10 rr)) 6 (σ 11 rr)) (sA 18 (fun _ => nI lv) g_m)))) w_m)]) (C := [(mw Y ad_m (sA 58 (fun _ => uisBroken_24) (sA 57 upile_23 (sA 56 (upd (upd (upd (upd (upd (upd (upd (g_m 56) 0 (σ 8 rr)) 1 (σ 9 rr)) 2 much) 3 st0_102) 4 (σ 1 ho)) 5 (σ 10 rr)) 6 (σ 11 rr)) (sA 18 (fun _ => nI lv) g_m)))) w_m)]) (R := []) (List.Perm.refl _)) (fun r_25 u H locs hp_26 hW => ?_)
              obtain ⟨upile_27, uisBroken_28⟩ := u
              have hp_26 : r_25 = (if (tv (varsP t σ rr much) x.2.1).2 = true then 0 else (tv (varsP t σ rr much) x.2.1).1) ∧ uisBroken_28 = (if (tv (varsP t σ rr much) x.2.1).2 = true then 1 else uisBroken_24) := hp_26
              have hW : zW D A s.heap H locs (wj [(mw Y ad_m (sA 58 (fun _ => uisBroken_28) (sA 57 upile_27 (sA 56 (upd (upd (upd (upd (upd (upd (upd (g_m 56) 0 (σ 8 rr)) 1 (σ 9 rr)) 2 much) 3 st0_102) 4 (σ 1 ho)) 5 (σ 10 rr)) 6 (σ 11 rr)) (sA 18 (fun _ => nI lv) g_m)))) w_m)]) := hW.join
              refine lv_istore (lv' := [(12, .int r_25), (10, .int r_21), (11, .int 1), (9, .int (nI b)), (8, .int ((t 12 0) - (σ 13 0))), (7, .int (nI (3 * lv + kk))), (0, .ref (ad_m 0)), (1, .int (nI kk)), (2, .int (nI rr)), (3, .int much), (4, .int pl), (5, .int lo), (6, .int hi)]) hx hb dX12_tells_239 hl (by decide) rfl (fun ls hl => ?_)
              refine lv_iload hx hb dX12_tells_241 (lv_at hl 1 rfl) ?_
              refine lv_iload hx hb dX12_tells_243 (lv_at hl 0 rfl) ?_
              refine lv_icmp_ge (tgt := 252) hx hb dX12_tells_245 (by decide) (fun c_29 => ?_) (fun c_29 => ?_)
              · refine lv_iconst (v := 0) hx hb dX12_tells_252 (by decide) ?_
                refine lv_istore (lv' := [(11, .int 0), (12, .int r_25), (10, .int r_21), (9, .int (nI b)), (8, .int ((t 12 0) - (σ 13 0))), (7, .int (nI (3 * lv + kk))), (0, .ref (ad_m 0)), (1, .int (nI kk)), (2, .int (nI rr)), (3, .int much), (4, .int pl), (5, .int lo), (6, .int hi)]) hx hb dX12_tells_253 hl (by decide) rfl (fun ls hl => ?_)
                refine lv_aload_n hx hb dX12_tells_255 rfl (lv_at hl 6 rfl) ?_
                refine va_get (v := .int uisBroken_28) (C := RX12) (T := TX12) (N := 75) (ci := 11) hx hb hts in_X12 hown hK.1 hW.1 0 rfl rfl 58 (by decide) (hts _ q1694) (fun _ h9 => h9) rfl dX12_tells_256 ?_
                refine lv_if_eq (tgt := 271) hx hb dX12_tells_259 (by decide) (fun c_30 => ?_) (fun c_30 => ?_)
                · refine lv_iload hx hb dX12_tells_271 (lv_at hl 0 rfl) ?_
                  refine lv_if_ne (tgt := 279) hx hb dX12_tells_273 (by decide) (fun c_31 => by first | exact absurd c_31 (by decide) | exact absurd (by decide) c_31) (fun c_31 => ?_)
                  refine lv_goto (tgt := 320) hx hb dX12_tells_276 (by decide) ?_
                  refine lv_iinc (v := nI (b + 1)) (lv' := [(9, .int (nI (b + 1))), (11, .int 0), (12, .int r_25), (10, .int r_21), (8, .int ((t 12 0) - (σ 13 0))), (7, .int (nI (3 * lv + kk))), (0, .ref (ad_m 0)), (1, .int (nI kk)), (2, .int (nI rr)), (3, .int much), (4, .int pl), (5, .int lo), (6, .int hi)]) hx hb dX12_tells_320 hl (k := 3) rfl (nI_add b 1) (by decide) rfl (fun ls hl => ?_)
                  refine lv_goto (tgt := 173) hx hb dX12_tells_323 (by decide) ?_
                  exact ih_173 (b + 1) upile_27 uisBroken_28 Lr2 (by omega) (by exact brL_tl hq1) (by omega) (by rw [hq3]; simp only [lawV]; grind) (by first | assumption | grind) (by exact fun y hy => hqm y (List.mem_cons_of_mem _ hy)) _ _ hW _ (lv_sub hl [0, 4, 5, 6, 7, 8, 9, 10, 11, 12] rfl)
                · refine lv_iconst (v := 0) hx hb dX12_tells_262 (by decide) ?_
                  refine lv_iload hx hb dX12_tells_263 (lv_at hl 11 rfl) ?_
                  refine lv_iload hx hb dX12_tells_265 (lv_at hl 12 rfl) ?_
                  refine z_calli (wc := wj []) (wr := wj [(mw Y ad_m (sA 58 (fun _ => uisBroken_28) (sA 57 upile_27 (sA 56 (upd (upd (upd (upd (upd (upd (upd (g_m 56) 0 (σ 8 rr)) 1 (σ 9 rr)) 2 much) 3 st0_102) 4 (σ 1 ho)) 5 (σ 10 rr)) 6 (σ 11 rr)) (sA 18 (fun _ => nI lv) g_m)))) w_m)]) (va_runS (As := [.int 0, .int lo, .int hi]) (rest := []) ⟨hx, hb, hml, hown, hts⟩ (m_X12_held l D Y 0 lo hi H.size) (va_cwS 3 hts (lw_S q2063 q2064 q133 q2065) rfl rfl rfl (by decide +kernel) ⟨Nat.le_of_ble_eq_true rfl, Nat.le_of_ble_eq_true rfl⟩) (zPre hK hW hR (wj_split3 (B := [(mw Y ad_m (sA 58 (fun _ => uisBroken_28) (sA 57 upile_27 (sA 56 (upd (upd (upd (upd (upd (upd (upd (g_m 56) 0 (σ 8 rr)) 1 (σ 9 rr)) 2 much) 3 st0_102) 4 (σ 1 ho)) 5 (σ 10 rr)) 6 (σ 11 rr)) (sA 18 (fun _ => nI lv) g_m)))) w_m)]) (R := []) (C := []) (O := []) (X := [(mw Y ad_m (sA 58 (fun _ => uisBroken_28) (sA 57 upile_27 (sA 56 (upd (upd (upd (upd (upd (upd (upd (g_m 56) 0 (σ 8 rr)) 1 (σ 9 rr)) 2 much) 3 st0_102) 4 (σ 1 ho)) 5 (σ 10 rr)) 6 (σ 11 rr)) (sA 18 (fun _ => nI lv) g_m)))) w_m)]) (List.Perm.refl _))) rfl rfl hl.1 rfl (lv_room (Nat.le_of_ble_eq_true rfl)) dX12_tells_267 ⟨Nat.le_refl _, Nat.le_refl _⟩) hW hA (wj_split (B := [(mw Y ad_m (sA 58 (fun _ => uisBroken_28) (sA 57 upile_27 (sA 56 (upd (upd (upd (upd (upd (upd (upd (g_m 56) 0 (σ 8 rr)) 1 (σ 9 rr)) 2 much) 3 st0_102) 4 (σ 1 ho)) 5 (σ 10 rr)) 6 (σ 11 rr)) (sA 18 (fun _ => nI lv) g_m)))) w_m)]) (C := []) (R := [(mw Y ad_m (sA 58 (fun _ => uisBroken_28) (sA 57 upile_27 (sA 56 (upd (upd (upd (upd (upd (upd (upd (g_m 56) 0 (σ 8 rr)) 1 (σ 9 rr)) 2 much) 3 st0_102) 4 (σ 1 ho)) 5 (σ 10 rr)) 6 (σ 11 rr)) (sA 18 (fun _ => nI lv) g_m)))) w_m)]) (List.Perm.refl _)) (fun r_32 u H locs hp_33 hW => ?_)
                  have hp_33 : r_32 = f_held 0 lo hi := hp_33
                  have hW : zW D A s.heap H locs (wj [(mw Y ad_m (sA 58 (fun _ => uisBroken_28) (sA 57 upile_27 (sA 56 (upd (upd (upd (upd (upd (upd (upd (g_m 56) 0 (σ 8 rr)) 1 (σ 9 rr)) 2 much) 3 st0_102) 4 (σ 1 ho)) 5 (σ 10 rr)) 6 (σ 11 rr)) (sA 18 (fun _ => nI lv) g_m)))) w_m)]) := hW.join
                  refine z_ireti ((upd (upd (upd (upd (upd (upd (upd (g_m 56) 0 (σ 8 rr)) 1 (σ 9 rr)) 2 much) 3 st0_102) 4 (σ 1 ho)) 5 (σ 10 rr)) 6 (σ 11 rr), upile_27, uisBroken_28) : (Nat → Int32) × (Nat → Int32) × (Int32)) hx hb hr hlocks rfl hW rfl dX12_tells_270 ?_
                  show r_32 = f_held (asksP (lw kk) pl (varsP t σ rr much)) lo hi
                  simp only [hlw, asksP, hq3, lawV]
                  grind
              · refine lv_iconst (v := 1) hx hb dX12_tells_248 (by decide) ?_
                refine lv_goto (tgt := 253) hx hb dX12_tells_249 (by decide) ?_
                refine lv_istore (lv' := [(11, .int 1), (12, .int r_25), (10, .int r_21), (9, .int (nI b)), (8, .int ((t 12 0) - (σ 13 0))), (7, .int (nI (3 * lv + kk))), (0, .ref (ad_m 0)), (1, .int (nI kk)), (2, .int (nI rr)), (3, .int much), (4, .int pl), (5, .int lo), (6, .int hi)]) hx hb dX12_tells_253 hl (by decide) rfl (fun ls hl => ?_)
                refine lv_aload_n hx hb dX12_tells_255 rfl (lv_at hl 6 rfl) ?_
                refine va_get (v := .int uisBroken_28) (C := RX12) (T := TX12) (N := 75) (ci := 11) hx hb hts in_X12 hown hK.1 hW.1 0 rfl rfl 58 (by decide) (hts _ q1694) (fun _ h9 => h9) rfl dX12_tells_256 ?_
                refine lv_if_eq (tgt := 271) hx hb dX12_tells_259 (by decide) (fun c_34 => ?_) (fun c_34 => ?_)
                · refine lv_iload hx hb dX12_tells_271 (lv_at hl 0 rfl) ?_
                  refine lv_if_ne (tgt := 279) hx hb dX12_tells_273 (by decide) (fun c_35 => ?_) (fun c_35 => by first | exact absurd c_35 (by decide) | exact absurd (by decide) c_35)
                  refine lv_aload_n hx hb dX12_tells_279 rfl (lv_at hl 6 rfl) ?_
                  refine lv_aload_n hx hb dX12_tells_280 rfl (lv_at hl 6 rfl) ?_
                  refine va_get (v := .ref (ad_m 49)) (C := RX12) (T := TX12) (N := 75) (ci := 11) hx hb hts in_X12 hown hK.1 hW.1 0 rfl rfl 49 (by decide) (hts _ q1685) (fun _ h9 => h9) rfl dX12_tells_281 ?_
                  refine lv_iload hx hb dX12_tells_284 (lv_at hl 3 rfl) ?_
                  refine z_iald (v := nI j2) (f := g_m 49) (j := b) hx hb hK.1 hW.1 35 0 rfl rfl (vp_in_nI (n := b) (by omega) (by decide)) (nI_clamp (n := b) (by omega)) hj2 dX12_tells_286 ?_
                  refine lv_aload_n hx hb dX12_tells_287 rfl (lv_at hl 6 rfl) ?_
                  refine va_get (v := .ref (ad_m 50)) (C := RX12) (T := TX12) (N := 75) (ci := 11) hx hb hts in_X12 hown hK.1 hW.1 0 rfl rfl 50 (by decide) (hts _ q1686) (fun _ h9 => h9) rfl dX12_tells_288 ?_
                  refine lv_iload hx hb dX12_tells_291 (lv_at hl 3 rfl) ?_
                  refine z_iald (v := nI j3) (f := g_m 50) (j := b) hx hb hK.1 hW.1 36 0 rfl rfl (vp_in_nI (n := b) (by omega) (by decide)) (nI_clamp (n := b) (by omega)) hj3 dX12_tells_293 ?_
                  refine z_calli (wc := wj [(mw Y ad_m (sA 58 (fun _ => uisBroken_28) (sA 57 upile_27 (sA 56 (upd (upd (upd (upd (upd (upd (upd (g_m 56) 0 (σ 8 rr)) 1 (σ 9 rr)) 2 much) 3 st0_102) 4 (σ 1 ho)) 5 (σ 10 rr)) 6 (σ 11 rr)) (sA 18 (fun _ => nI lv) g_m)))) w_m)]) (wr := wj []) (va_runV (As := [.int (nI j2), .int (nI j3)]) (rest := []) ⟨hx, hb, hml, hown, hts⟩ (m_X12_termOf l D Y ad_m (sA 58 (fun _ => uisBroken_28) (sA 57 upile_27 (sA 56 (upd (upd (upd (upd (upd (upd (upd (g_m 56) 0 (σ 8 rr)) 1 (σ 9 rr)) 2 much) 3 st0_102) 4 (σ 1 ho)) 5 (σ 10 rr)) 6 (σ 11 rr)) (sA 18 (fun _ => nI lv) g_m)))) w_m j2 j3 x.2.2 (varsP t σ rr much) H.size (show codeAt (g_m 52) (g_m 53) j2 j3 x.2.2 from by first | exact hc2 | exact hce) (show x.2.2.length ≤ 400 from by first | exact hxl.2.2.2.2.2 | exact hlnt) (show j3 ≤ 840 from by first | assumption | omega | grind) (show rpOK x.2.2 from by first | exact hxl.2.2.1 | exact hokt) (show ∀ j, j < 7 → (upd (upd (upd (upd (upd (upd (upd (g_m 56) 0 (σ 8 rr)) 1 (σ 9 rr)) 2 much) 3 st0_102) 4 (σ 1 ho)) 5 (σ 10 rr)) 6 (σ 11 rr)) j = (varsP t σ rr much) j from by exact hvc)) (cwV 2 hts (lw_V q2059 q2061 qs93 q133 q2062) rfl rfl rfl (by decide +kernel) ⟨Nat.le_of_ble_eq_true rfl, Nat.le_of_ble_eq_true rfl⟩) (zPreV hK hW hR (wj_split3 (B := [(mw Y ad_m (sA 58 (fun _ => uisBroken_28) (sA 57 upile_27 (sA 56 (upd (upd (upd (upd (upd (upd (upd (g_m 56) 0 (σ 8 rr)) 1 (σ 9 rr)) 2 much) 3 st0_102) 4 (σ 1 ho)) 5 (σ 10 rr)) 6 (σ 11 rr)) (sA 18 (fun _ => nI lv) g_m)))) w_m)]) (R := []) (C := [(mw Y ad_m (sA 58 (fun _ => uisBroken_28) (sA 57 upile_27 (sA 56 (upd (upd (upd (upd (upd (upd (upd (g_m 56) 0 (σ 8 rr)) 1 (σ 9 rr)) 2 much) 3 st0_102) 4 (σ 1 ho)) 5 (σ 10 rr)) 6 (σ 11 rr)) (sA 18 (fun _ => nI lv) g_m)))) w_m)]) (O := []) (X := []) (List.Perm.refl _)) (va_recv hK.1 hW.1 (ci := 11) (q0 := 0) rfl rfl)) rfl rfl hl.1 rfl (lv_room (Nat.le_of_ble_eq_true rfl)) dX12_tells_294 ⟨Nat.le_refl _, Nat.le_refl _⟩) hW hA (wj_split (B := [(mw Y ad_m (sA 58 (fun _ => uisBroken_28) (sA 57 upile_27 (sA 56 (upd (upd (upd (upd (upd (upd (upd (g_m 56) 0 (σ 8 rr)) 1 (σ 9 rr)) 2 much) 3 st0_102) 4 (σ 1 ho)) 5 (σ 10 rr)) 6 (σ 11 rr)) (sA 18 (fun _ => nI lv) g_m)))) w_m)]) (C := [(mw Y ad_m (sA 58 (fun _ => uisBroken_28) (sA 57 upile_27 (sA 56 (upd (upd (upd (upd (upd (upd (upd (g_m 56) 0 (σ 8 rr)) 1 (σ 9 rr)) 2 much) 3 st0_102) 4 (σ 1 ho)) 5 (σ 10 rr)) 6 (σ 11 rr)) (sA 18 (fun _ => nI lv) g_m)))) w_m)]) (R := []) (List.Perm.refl _)) (fun r_36 u H locs hp_37 hW => ?_)
                  obtain ⟨upile_38, uisBroken_39⟩ := u
                  have hp_37 : r_36 = (if (tv (varsP t σ rr much) x.2.2).2 = true then 0 else (tv (varsP t σ rr much) x.2.2).1) ∧ uisBroken_39 = (if (tv (varsP t σ rr much) x.2.2).2 = true then 1 else uisBroken_28) := hp_37
                  have hW : zW D A s.heap H locs (wj [(mw Y ad_m (sA 58 (fun _ => uisBroken_39) (sA 57 upile_38 (sA 56 (upd (upd (upd (upd (upd (upd (upd (g_m 56) 0 (σ 8 rr)) 1 (σ 9 rr)) 2 much) 3 st0_102) 4 (σ 1 ho)) 5 (σ 10 rr)) 6 (σ 11 rr)) (sA 18 (fun _ => nI lv) g_m)))) w_m)]) := hW.join
                  refine lv_istore (lv' := [(12, .int r_36), (11, .int 1), (10, .int r_21), (9, .int (nI b)), (8, .int ((t 12 0) - (σ 13 0))), (7, .int (nI (3 * lv + kk))), (0, .ref (ad_m 0)), (1, .int (nI kk)), (2, .int (nI rr)), (3, .int much), (4, .int pl), (5, .int lo), (6, .int hi)]) hx hb dX12_tells_297 hl (by decide) rfl (fun ls hl => ?_)
                  refine lv_aload_n hx hb dX12_tells_299 rfl (lv_at hl 6 rfl) ?_
                  refine va_get (v := .int uisBroken_39) (C := RX12) (T := TX12) (N := 75) (ci := 11) hx hb hts in_X12 hown hK.1 hW.1 0 rfl rfl 58 (by decide) (hts _ q1694) (fun _ h9 => h9) rfl dX12_tells_300 ?_
                  refine lv_if_eq (tgt := 310) hx hb dX12_tells_303 (by decide) (fun c_40 => ?_) (fun c_40 => ?_)
                  · refine lv_iload hx hb dX12_tells_310 (lv_at hl 0 rfl) ?_
                    refine lv_iload hx hb dX12_tells_312 (lv_at hl 11 rfl) ?_
                    refine lv_iload hx hb dX12_tells_314 (lv_at hl 12 rfl) ?_
                    refine z_calli (wc := wj []) (wr := wj [(mw Y ad_m (sA 58 (fun _ => uisBroken_39) (sA 57 upile_38 (sA 56 (upd (upd (upd (upd (upd (upd (upd (g_m 56) 0 (σ 8 rr)) 1 (σ 9 rr)) 2 much) 3 st0_102) 4 (σ 1 ho)) 5 (σ 10 rr)) 6 (σ 11 rr)) (sA 18 (fun _ => nI lv) g_m)))) w_m)]) (va_runS (As := [.int r_36, .int lo, .int hi]) (rest := []) ⟨hx, hb, hml, hown, hts⟩ (m_X12_held l D Y r_36 lo hi H.size) (va_cwS 3 hts (lw_S q2063 q2064 q133 q2065) rfl rfl rfl (by decide +kernel) ⟨Nat.le_of_ble_eq_true rfl, Nat.le_of_ble_eq_true rfl⟩) (zPre hK hW hR (wj_split3 (B := [(mw Y ad_m (sA 58 (fun _ => uisBroken_39) (sA 57 upile_38 (sA 56 (upd (upd (upd (upd (upd (upd (upd (g_m 56) 0 (σ 8 rr)) 1 (σ 9 rr)) 2 much) 3 st0_102) 4 (σ 1 ho)) 5 (σ 10 rr)) 6 (σ 11 rr)) (sA 18 (fun _ => nI lv) g_m)))) w_m)]) (R := []) (C := []) (O := []) (X := [(mw Y ad_m (sA 58 (fun _ => uisBroken_39) (sA 57 upile_38 (sA 56 (upd (upd (upd (upd (upd (upd (upd (g_m 56) 0 (σ 8 rr)) 1 (σ 9 rr)) 2 much) 3 st0_102) 4 (σ 1 ho)) 5 (σ 10 rr)) 6 (σ 11 rr)) (sA 18 (fun _ => nI lv) g_m)))) w_m)]) (List.Perm.refl _))) rfl rfl hl.1 rfl (lv_room (Nat.le_of_ble_eq_true rfl)) dX12_tells_316 ⟨Nat.le_refl _, Nat.le_refl _⟩) hW hA (wj_split (B := [(mw Y ad_m (sA 58 (fun _ => uisBroken_39) (sA 57 upile_38 (sA 56 (upd (upd (upd (upd (upd (upd (upd (g_m 56) 0 (σ 8 rr)) 1 (σ 9 rr)) 2 much) 3 st0_102) 4 (σ 1 ho)) 5 (σ 10 rr)) 6 (σ 11 rr)) (sA 18 (fun _ => nI lv) g_m)))) w_m)]) (C := []) (R := [(mw Y ad_m (sA 58 (fun _ => uisBroken_39) (sA 57 upile_38 (sA 56 (upd (upd (upd (upd (upd (upd (upd (g_m 56) 0 (σ 8 rr)) 1 (σ 9 rr)) 2 much) 3 st0_102) 4 (σ 1 ho)) 5 (σ 10 rr)) 6 (σ 11 rr)) (sA 18 (fun _ => nI lv) g_m)))) w_m)]) (List.Perm.refl _)) (fun r_41 u H locs hp_42 hW => ?_)
                    have hp_42 : r_41 = f_held r_36 lo hi := hp_42
                    have hW : zW D A s.heap H locs (wj [(mw Y ad_m (sA 58 (fun _ => uisBroken_39) (sA 57 upile_38 (sA 56 (upd (upd (upd (upd (upd (upd (upd (g_m 56) 0 (σ 8 rr)) 1 (σ 9 rr)) 2 much) 3 st0_102) 4 (σ 1 ho)) 5 (σ 10 rr)) 6 (σ 11 rr)) (sA 18 (fun _ => nI lv) g_m)))) w_m)]) := hW.join
                    refine z_ireti ((upd (upd (upd (upd (upd (upd (upd (g_m 56) 0 (σ 8 rr)) 1 (σ 9 rr)) 2 much) 3 st0_102) 4 (σ 1 ho)) 5 (σ 10 rr)) 6 (σ 11 rr), upile_38, uisBroken_39) : (Nat → Int32) × (Nat → Int32) × (Int32)) hx hb hr hlocks rfl hW rfl dX12_tells_319 ?_
                    show r_41 = f_held (asksP (lw kk) pl (varsP t σ rr much)) lo hi
                    simp only [hlw, asksP, hq3, lawV]
                    grind
                  · refine lv_iconst (v := 0) hx hb dX12_tells_306 (by decide) ?_
                    refine lv_goto (tgt := 312) hx hb dX12_tells_307 (by decide) ?_
                    refine lv_iload hx hb dX12_tells_312 (lv_at hl 11 rfl) ?_
                    refine lv_iload hx hb dX12_tells_314 (lv_at hl 12 rfl) ?_
                    refine z_calli (wc := wj []) (wr := wj [(mw Y ad_m (sA 58 (fun _ => uisBroken_39) (sA 57 upile_38 (sA 56 (upd (upd (upd (upd (upd (upd (upd (g_m 56) 0 (σ 8 rr)) 1 (σ 9 rr)) 2 much) 3 st0_102) 4 (σ 1 ho)) 5 (σ 10 rr)) 6 (σ 11 rr)) (sA 18 (fun _ => nI lv) g_m)))) w_m)]) (va_runS (As := [.int 0, .int lo, .int hi]) (rest := []) ⟨hx, hb, hml, hown, hts⟩ (m_X12_held l D Y 0 lo hi H.size) (va_cwS 3 hts (lw_S q2063 q2064 q133 q2065) rfl rfl rfl (by decide +kernel) ⟨Nat.le_of_ble_eq_true rfl, Nat.le_of_ble_eq_true rfl⟩) (zPre hK hW hR (wj_split3 (B := [(mw Y ad_m (sA 58 (fun _ => uisBroken_39) (sA 57 upile_38 (sA 56 (upd (upd (upd (upd (upd (upd (upd (g_m 56) 0 (σ 8 rr)) 1 (σ 9 rr)) 2 much) 3 st0_102) 4 (σ 1 ho)) 5 (σ 10 rr)) 6 (σ 11 rr)) (sA 18 (fun _ => nI lv) g_m)))) w_m)]) (R := []) (C := []) (O := []) (X := [(mw Y ad_m (sA 58 (fun _ => uisBroken_39) (sA 57 upile_38 (sA 56 (upd (upd (upd (upd (upd (upd (upd (g_m 56) 0 (σ 8 rr)) 1 (σ 9 rr)) 2 much) 3 st0_102) 4 (σ 1 ho)) 5 (σ 10 rr)) 6 (σ 11 rr)) (sA 18 (fun _ => nI lv) g_m)))) w_m)]) (List.Perm.refl _))) rfl rfl hl.1 rfl (lv_room (Nat.le_of_ble_eq_true rfl)) dX12_tells_316 ⟨Nat.le_refl _, Nat.le_refl _⟩) hW hA (wj_split (B := [(mw Y ad_m (sA 58 (fun _ => uisBroken_39) (sA 57 upile_38 (sA 56 (upd (upd (upd (upd (upd (upd (upd (g_m 56) 0 (σ 8 rr)) 1 (σ 9 rr)) 2 much) 3 st0_102) 4 (σ 1 ho)) 5 (σ 10 rr)) 6 (σ 11 rr)) (sA 18 (fun _ => nI lv) g_m)))) w_m)]) (C := []) (R := [(mw Y ad_m (sA 58 (fun _ => uisBroken_39) (sA 57 upile_38 (sA 56 (upd (upd (upd (upd (upd (upd (upd (g_m 56) 0 (σ 8 rr)) 1 (σ 9 rr)) 2 much) 3 st0_102) 4 (σ 1 ho)) 5 (σ 10 rr)) 6 (σ 11 rr)) (sA 18 (fun _ => nI lv) g_m)))) w_m)]) (List.Perm.refl _)) (fun r_43 u H locs hp_44 hW => ?_)
                    have hp_44 : r_43 = f_held 0 lo hi := hp_44
                    have hW : zW D A s.heap H locs (wj [(mw Y ad_m (sA 58 (fun _ => uisBroken_39) (sA 57 upile_38 (sA 56 (upd (upd (upd (upd (upd (upd (upd (g_m 56) 0 (σ 8 rr)) 1 (σ 9 rr)) 2 much) 3 st0_102) 4 (σ 1 ho)) 5 (σ 10 rr)) 6 (σ 11 rr)) (sA 18 (fun _ => nI lv) g_m)))) w_m)]) := hW.join
                    refine z_ireti ((upd (upd (upd (upd (upd (upd (upd (g_m 56) 0 (σ 8 rr)) 1 (σ 9 rr)) 2 much) 3 st0_102) 4 (σ 1 ho)) 5 (σ 10 rr)) 6 (σ 11 rr), upile_38, uisBroken_39) : (Nat → Int32) × (Nat → Int32) × (Int32)) hx hb hr hlocks rfl hW rfl dX12_tells_319 ?_
                    show r_43 = f_held (asksP (lw kk) pl (varsP t σ rr much)) lo hi
                    simp only [hlw, asksP, hq3, lawV]
                    grind
                · refine lv_iconst (v := 0) hx hb dX12_tells_262 (by decide) ?_
                  refine lv_iload hx hb dX12_tells_263 (lv_at hl 11 rfl) ?_
                  refine lv_iload hx hb dX12_tells_265 (lv_at hl 12 rfl) ?_
                  refine z_calli (wc := wj []) (wr := wj [(mw Y ad_m (sA 58 (fun _ => uisBroken_28) (sA 57 upile_27 (sA 56 (upd (upd (upd (upd (upd (upd (upd (g_m 56) 0 (σ 8 rr)) 1 (σ 9 rr)) 2 much) 3 st0_102) 4 (σ 1 ho)) 5 (σ 10 rr)) 6 (σ 11 rr)) (sA 18 (fun _ => nI lv) g_m)))) w_m)]) (va_runS (As := [.int 0, .int lo, .int hi]) (rest := []) ⟨hx, hb, hml, hown, hts⟩ (m_X12_held l D Y 0 lo hi H.size) (va_cwS 3 hts (lw_S q2063 q2064 q133 q2065) rfl rfl rfl (by decide +kernel) ⟨Nat.le_of_ble_eq_true rfl, Nat.le_of_ble_eq_true rfl⟩) (zPre hK hW hR (wj_split3 (B := [(mw Y ad_m (sA 58 (fun _ => uisBroken_28) (sA 57 upile_27 (sA 56 (upd (upd (upd (upd (upd (upd (upd (g_m 56) 0 (σ 8 rr)) 1 (σ 9 rr)) 2 much) 3 st0_102) 4 (σ 1 ho)) 5 (σ 10 rr)) 6 (σ 11 rr)) (sA 18 (fun _ => nI lv) g_m)))) w_m)]) (R := []) (C := []) (O := []) (X := [(mw Y ad_m (sA 58 (fun _ => uisBroken_28) (sA 57 upile_27 (sA 56 (upd (upd (upd (upd (upd (upd (upd (g_m 56) 0 (σ 8 rr)) 1 (σ 9 rr)) 2 much) 3 st0_102) 4 (σ 1 ho)) 5 (σ 10 rr)) 6 (σ 11 rr)) (sA 18 (fun _ => nI lv) g_m)))) w_m)]) (List.Perm.refl _))) rfl rfl hl.1 rfl (lv_room (Nat.le_of_ble_eq_true rfl)) dX12_tells_267 ⟨Nat.le_refl _, Nat.le_refl _⟩) hW hA (wj_split (B := [(mw Y ad_m (sA 58 (fun _ => uisBroken_28) (sA 57 upile_27 (sA 56 (upd (upd (upd (upd (upd (upd (upd (g_m 56) 0 (σ 8 rr)) 1 (σ 9 rr)) 2 much) 3 st0_102) 4 (σ 1 ho)) 5 (σ 10 rr)) 6 (σ 11 rr)) (sA 18 (fun _ => nI lv) g_m)))) w_m)]) (C := []) (R := [(mw Y ad_m (sA 58 (fun _ => uisBroken_28) (sA 57 upile_27 (sA 56 (upd (upd (upd (upd (upd (upd (upd (g_m 56) 0 (σ 8 rr)) 1 (σ 9 rr)) 2 much) 3 st0_102) 4 (σ 1 ho)) 5 (σ 10 rr)) 6 (σ 11 rr)) (sA 18 (fun _ => nI lv) g_m)))) w_m)]) (List.Perm.refl _)) (fun r_45 u H locs hp_46 hW => ?_)
                  have hp_46 : r_45 = f_held 0 lo hi := hp_46
                  have hW : zW D A s.heap H locs (wj [(mw Y ad_m (sA 58 (fun _ => uisBroken_28) (sA 57 upile_27 (sA 56 (upd (upd (upd (upd (upd (upd (upd (g_m 56) 0 (σ 8 rr)) 1 (σ 9 rr)) 2 much) 3 st0_102) 4 (σ 1 ho)) 5 (σ 10 rr)) 6 (σ 11 rr)) (sA 18 (fun _ => nI lv) g_m)))) w_m)]) := hW.join
                  refine z_ireti ((upd (upd (upd (upd (upd (upd (upd (g_m 56) 0 (σ 8 rr)) 1 (σ 9 rr)) 2 much) 3 st0_102) 4 (σ 1 ho)) 5 (σ 10 rr)) 6 (σ 11 rr), upile_27, uisBroken_28) : (Nat → Int32) × (Nat → Int32) × (Int32)) hx hb hr hlocks rfl hW rfl dX12_tells_270 ?_
                  show r_45 = f_held (asksP (lw kk) pl (varsP t σ rr much)) lo hi
                  simp only [hlw, asksP, hq3, lawV]
                  grind
      exact loop_173 _ b0 (g_m 57) 0 L (Nat.lt_succ_self _) (by exact hbr) (by omega) (by rfl) (by rfl) (by exact fun _ h => h) _ _ hW _ (lv_sub hl [0, 1, 2, 3, 4, 5, 6, 7, 8, 9] rfl)
    refine lv_if_ge (tgt := 100) hx hb dX12_tells_93 (by decide) (fun c_47 => ?_) (fun c_47 => ?_)
    · refine lv_iload hx hb dX12_tells_100 (lv_at hl 0 rfl) ?_
      exact join_102 ((t 12 0) - (σ 13 0)) (by grind) _ _ hW _ (lv_sub hl [0, 1, 2, 3, 4, 5, 6, 7, 8] rfl)
    · refine lv_iconst (v := 0) hx hb dX12_tells_96 (by decide) ?_
      refine lv_goto (tgt := 102) hx hb dX12_tells_97 (by decide) ?_
      exact join_102 0 (by grind) _ _ hW _ (lv_sub hl [0, 1, 2, 3, 4, 5, 6, 7, 8] rfl)
  · refine lv_iload hx hb dX12_tells_27 (lv_at hl 5 rfl) ?_
    refine z_ireti ((g_m 56, g_m 57, g_m 58 0) : (Nat → Int32) × (Nat → Int32) × (Int32)) hx hb hr hlocks rfl hW rfl dX12_tells_29 ?_
    show pl = f_held (asksP (lw kk) pl (varsP t σ rr much)) lo hi
    rw [lawAt_eq (hTM.lawk hkk) c_1]
    exact hpl.symm
