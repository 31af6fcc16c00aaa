set_option maxRecDepth 100000
set_option maxHeartbeats 4000000 in
set_option maxRecDepth 100000 in
theorem m_X12_expression (l : Launch) (D : va_G) (Y : Nat → ClassId) (ad_m : Nat → Nat) (g_m : Nat → Nat → Int32) (w_m : Nat → Nat → Int64) (kd : Nat → Nat) (pl : Nat → Nat) (vl : Nat → Int32) (nv : Nat → Nat) (x : PO PS) (fl : Nat) (fp : Nat) (tt : Nat) (wk : Nat) (wp : Nat) (op : Nat) (nw : Nat) (cs : Nat) (ha_ : Nat) (sz : Nat) (hTK : TKR kd pl vl nv (g_m 5) (g_m 6) (g_m 7) (w_m 8)) (hFM : FM kd pl x fl fp tt wk wp) (hop : fl = 0 → op = 0) (hop7 : op ≤ 7) (hcs : fl = 0 → ha_ ≤ cs ∧ cs ≤ ha_ + tt) (hha : ha_ = 420 * 0 ∨ ha_ = 420 * 1) : Met l yX12_expression (ws_ yX12_expression cX12_expression 3 none) ({ frames := 4, cells := 0, slots := 0, locals := 73 }) (zPc D Y [.ref (ad_m 0)] sz (wj []) (wj [(mw Y ad_m (sA 55 (fun _ => nI nw) (sA 51 (fun _ => nI cs) (sA 16 (fun _ => nI wp) (sA 15 (fun _ => nI wk) (sA 14 (fun _ => nI fp) (sA 13 (fun _ => nI fl) (sA 12 (fun _ => nI op) (sA 11 (fun _ => nI tt) g_m)))))))) w_m)])) (va_Qv (fun (u : (Nat) × (Nat) × (Nat) × (Nat) × (Nat → Int32) × (Nat → Int32) × (Nat → Int32) × (Nat) × (Nat)) => (FM kd pl (PO.bd x (sumX kd vl)) u.1 u.2.1 u.2.2.1 wk wp) ∧ ((u.1 = 0 → u.2.2.2.2.2.2.2.2 = 0) ∧ u.2.2.2.2.2.2.2.2 ≤ 7 ∧ (u.1 = 0 → u.2.2.2.1 ≤ ha_ + u.2.2.1) ∧ LOW cs (g_m 52) u.2.2.2.2.1 ∧ LOW cs (g_m 53) u.2.2.2.2.2.1 ∧ KI ha_ (g_m 52) u.2.2.2.2.1 ∧ KI ha_ (g_m 53) u.2.2.2.2.2.1 ∧ cs ≤ u.2.2.2.1 ∧ (∀ (s0 : PS) (q0 : RPN × PS), x = Except.ok s0 → sumR kd vl s0 = Except.ok q0 → u.2.2.2.1 = cs + q0.1.length ∧ CODE u.2.2.2.2.1 u.2.2.2.2.2.1 cs q0.1))) (zB D (fun (u : (Nat) × (Nat) × (Nat) × (Nat) × (Nat → Int32) × (Nat → Int32) × (Nat → Int32) × (Nat) × (Nat)) => (wj [(mw Y ad_m (sA 55 (fun _ => nI u.2.2.2.2.2.2.2.1) (sA 54 u.2.2.2.2.2.2.1 (sA 53 u.2.2.2.2.2.1 (sA 52 u.2.2.2.2.1 (sA 51 (fun _ => nI u.2.2.2.1) (sA 16 (fun _ => nI wp) (sA 15 (fun _ => nI wk) (sA 14 (fun _ => nI u.2.1) (sA 13 (fun _ => nI u.1) (sA 12 (fun _ => nI u.2.2.2.2.2.2.2.2) (sA 11 (fun _ => nI u.2.2.1) g_m))))))))))) w_m)])) (va_A (wj [(mw Y ad_m (sA 55 (fun _ => nI nw) (sA 51 (fun _ => nI cs) (sA 16 (fun _ => nI wp) (sA 15 (fun _ => nI wk) (sA 14 (fun _ => nI fp) (sA 13 (fun _ => nI fl) (sA 12 (fun _ => nI op) (sA 11 (fun _ => nI tt) g_m)))))))) w_m)]) sz)) (va_A (wj [(mw Y ad_m (sA 55 (fun _ => nI nw) (sA 51 (fun _ => nI cs) (sA 16 (fun _ => nI wp) (sA 15 (fun _ => nI wk) (sA 14 (fun _ => nI fp) (sA 13 (fun _ => nI fl) (sA 12 (fun _ => nI op) (sA 11 (fun _ => nI tt) g_m)))))))) w_m)]) sz)) 0 0 (va_A (wj [(mw Y ad_m (sA 55 (fun _ => nI nw) (sA 51 (fun _ => nI cs) (sA 16 (fun _ => nI wp) (sA 15 (fun _ => nI wk) (sA 14 (fun _ => nI fp) (sA 13 (fun _ => nI fl) (sA 12 (fun _ => nI op) (sA 11 (fun _ => nI tt) g_m)))))))) w_m)]) sz) := by
  refine Met.ofW (cc := cX12_expression) (maxL := 3) (ret := none) (by decide) rfl ?_
  intro p e s m args below meth c s₁ B hml hv
  obtain ⟨rfl, hsz, hW, hR, hK, hA⟩ := zEntry hv
  subst hsz
  have hx := B.exec
  have hb := B.bytes
  have hr := B.returns
  have hlocks := B.notSynchronized
  have hts : ∀ w ∈ lw_all, w.before _ s = true := fun w h => atoms_spec (ws := (ws_ yX12_expression cX12_expression 3 none)) B.pre w (List.mem_cons_of_mem _ h)
  have hown : s.vm.findClass RX12 = some m.cls := findClass_of_methodNamed B.named
  generalize hAe : va_A (wj [(mw Y ad_m (sA 55 (fun _ => nI nw) (sA 51 (fun _ => nI cs) (sA 16 (fun _ => nI wp) (sA 15 (fun _ => nI wk) (sA 14 (fun _ => nI fp) (sA 13 (fun _ => nI fl) (sA 12 (fun _ => nI op) (sA 11 (fun _ => nI tt) g_m)))))))) w_m)]) s.heap.size = A at hW hR hA ⊢
  have hl := lv_entry ([.ref (ad_m 0)]) (n := 3) (Nat.le_of_ble_eq_true rfl)
  rw [lg_entry_eq]
  generalize (lg_sl ([.ref (ad_m 0)]) ++ List.replicate (3 - (lg_sl ([.ref (ad_m 0)])).length) Slot.unset).toArray = ls at hl ⊢
  have hl : lv_has ls 3 [(0, .ref (ad_m 0))] := hl
  generalize hQ9 : MQ below _ _ _ _ _ _ = Q9
  have hbnd := hFM.bnd
  have hkb := hTK.kb tt
  have hpb := hTK.pb tt
  refine lv_aload_n hx hb dX12_expression_0 rfl (lv_at hl 0 rfl) ?_
  refine lv_iconst (v := 0) hx hb dX12_expression_1 (by decide) ?_
  refine z_put (v := .int 0) (C := RX12) (T := TX12) (N := 75) (ci := 11) (wn := (wj [(mw Y ad_m (sA 55 (fun _ => 0) (sA 51 (fun _ => nI cs) (sA 16 (fun _ => nI wp) (sA 15 (fun _ => nI wk) (sA 14 (fun _ => nI fp) (sA 13 (fun _ => nI fl) (sA 12 (fun _ => nI op) (sA 11 (fun _ => nI tt) g_m)))))))) w_m)])) hx hb hts in_X12 tyX12 tyX12_ok nmX12 hown hK.1 hW 0 rfl rfl 55 (by decide) (hts _ q1691) (fun _ h9 => h9) rfl rfl rfl (Nat.le_of_ble_eq_true rfl) dX12_expression_2 rfl (fun H locs hW => ?_)
  refine lv_aload_n hx hb dX12_expression_5 rfl (lv_at hl 0 rfl) ?_
  refine va_get (v := .int (nI op)) (C := RX12) (T := TX12) (N := 75) (ci := 11) hx hb hts in_X12 hown hK.1 hW.1 0 rfl rfl 12 (by decide) (hts _ q1648) (fun _ h9 => h9) rfl dX12_expression_6 ?_
  refine lv_istore_n (lv' := [(1, .int (nI op)), (0, .ref (ad_m 0))]) hx hb dX12_expression_9 rfl hl (by decide) rfl (fun ls hl => ?_)
  refine lv_iconst (v := 1) hx hb dX12_expression_10 (by decide) ?_
  refine lv_istore_n (lv' := [(2, .int 1), (1, .int (nI op)), (0, .ref (ad_m 0))]) hx hb dX12_expression_11 rfl hl (by decide) rfl (fun ls hl => ?_)
  have loop_12 : ∀ (n : Nat) (x_code_12 : Nat → Int32) (x_codeInt_12 : Nat → Int32) (x_waits_12 : Nat → Int32) (f12 : Nat) (q12 : Nat) (t12 : Nat) (o12 : Nat) (n12 : Nat) (c12 : Nat) (X12 : PO PS) (W12 : List Nat) (E12 : RPN), (2 - f12) * 500 + (401 - t12) < n → (FM kd pl X12 f12 q12 t12 wk wp) → (∀ s0, x = Except.ok s0 → RX kd vl s0 false X12 W12 E12 o12) → (∀ e, x = Except.error e → X12 = Except.error e) → (n12 = W12.length) → (wfW W12) → (cnt6 W12 + op = o12) → (o12 ≤ 7) → (HO6 f12 o12 op) → (WAT x_waits_12 W12) → (CODE x_code_12 x_codeInt_12 cs E12) → (c12 = cs + E12.length) → (HLE f12 tt t12 o12 E12.length W12.length) → (LOW cs (g_m 52) x_code_12) → (LOW cs (g_m 53) x_codeInt_12) → (KI ha_ (g_m 52) x_code_12) → (KI ha_ (g_m 53) x_codeInt_12) → ∀ (H : Heap) (locs : List Loc), zW D A s.heap H locs (wj [(mw Y ad_m (sA 55 (fun _ => nI n12) (sA 54 x_waits_12 (sA 53 x_codeInt_12 (sA 52 x_code_12 (sA 51 (fun _ => nI c12) (sA 16 (fun _ => nI wp) (sA 15 (fun _ => nI wk) (sA 14 (fun _ => nI q12) (sA 13 (fun _ => nI f12) (sA 12 (fun _ => nI o12) (sA 11 (fun _ => nI t12) g_m))))))))))) w_m)]) → ∀ (ls : Array Slot), lv_has ls 3 [(2, .int 1), (1, .int (nI op)), (0, .ref (ad_m 0))] → W p l e (headSpec (ws_ yX12_expression cX12_expression 3 none) ({ frames := 4, cells := 0, slots := 0, locals := 73 })).room s m ([.ref (ad_m 0)] : List Value).toArray below meth c H locs 0 0 Q9 (F0 m 12 ls []) := by
    intro n
    induction n with
    | zero =>
      intro x_code_12 x_codeInt_12 x_waits_12 f12 q12 t12 o12 n12 c12 X12 W12 E12 hmz
      exact absurd hmz (Nat.not_lt_zero _)
    | succ n ih =>
      intro x_code_12 x_codeInt_12 x_waits_12 f12 q12 t12 o12 n12 c12 X12 W12 E12 hm_12 hF12 hRX12 hXe12 hnw12 hwf12 hcn12 ho712 ho612 hWA12 hCD12 hce12 hle12 hl112 hl212 hk112 hk212 H locs hW ls hl
      have ih_12 := ih
      clear ih
      have hb12 := hF12.bnd
      have hbt12 : t12 ≤ 400 := hF12.t4
      have hbf12 : f12 ≤ 2 := hF12.f2
      have hbk12 : kd t12 ≤ 99 := Nat.le_of_lt_succ (hTK.kb t12)
      have hbo12 : o12 ≤ 7 := ho712
      have hwl12 := (wf_len hwf12).1
      have hlB12 := hle12.2
      have hcl12 := cnt6_le W12
      clear hb12
      refine lv_iload_n hx hb dX12_expression_12 rfl (lv_at hl 0 rfl) ?_
      refine lv_if_eq (tgt := 272) hx hb dX12_expression_13 (by decide) (fun c_1 => by first | exact absurd c_1 (by decide) | exact absurd (by decide) c_1) (fun c_1 => ?_)
      refine lv_aload_n hx hb dX12_expression_16 rfl (lv_at hl 2 rfl) ?_
      refine va_get (v := .int (nI f12)) (C := RX12) (T := TX12) (N := 75) (ci := 11) hx hb hts in_X12 hown hK.1 hW.1 0 rfl rfl 13 (by decide) (hts _ q1649) (fun _ h9 => h9) rfl dX12_expression_17 ?_
      refine lv_if_ne (tgt := 272) hx hb dX12_expression_20 (by decide) (fun c_2 => ?_) (fun c_2 => ?_)
      · have c_2 : ¬ (f12 = 0) := fun hz_ => c_2 ((nI_eq (a := f12) (b := 0) (by first | exact Nat.lt_of_le_of_lt (by assumption) (by decide) | (as_aux_lemma => omega)) (by first | exact Nat.lt_of_le_of_lt (by assumption) (by decide) | (as_aux_lemma => omega))).mpr hz_)
        subst hQ9
        refine z_vret ((f12, q12, t12, c12, x_code_12, x_codeInt_12, x_waits_12, n12, o12) : (Nat) × (Nat) × (Nat) × (Nat) × (Nat → Int32) × (Nat → Int32) × (Nat → Int32) × (Nat) × (Nat)) hx hb hr hlocks hW rfl dX12_expression_272 ?_
        show (FM kd pl (PO.bd x (sumX kd vl)) f12 q12 t12 wk wp) ∧ ((f12 = 0 → o12 = 0) ∧ o12 ≤ 7 ∧ (f12 = 0 → c12 ≤ ha_ + t12) ∧ LOW cs (g_m 52) x_code_12 ∧ LOW cs (g_m 53) x_codeInt_12 ∧ KI ha_ (g_m 52) x_code_12 ∧ KI ha_ (g_m 53) x_codeInt_12 ∧ cs ≤ c12 ∧ (∀ (s0 : PS) (q0 : RPN × PS), x = Except.ok s0 → sumR kd vl s0 = Except.ok q0 → c12 = cs + q0.1.length ∧ CODE x_code_12 x_codeInt_12 cs q0.1))
        obtain ⟨e9, he9, -⟩ := hF12.er (by as_aux_lemma => omega)
        have hsx : PO.bd x (sumX kd vl) = Except.error e9 := by
          cases hxx : x with
          | error e => have := hXe12 e hxx; rw [he9] at this; rw [this]; rfl
          | ok s0 => exact (hRX12 s0 hxx).ere he9
        have H9 := hF12
        rw [he9] at H9
        refine ⟨?_, ?_⟩
        · rw [hsx]; exact H9
        · refine ⟨fun z => by omega, by omega, fun z => by omega, hl112, hl212, hk112, hk212, by omega, ?_⟩
          intro s9 q9 e1 e2
          rw [e1] at hsx
          have hsx : sumX kd vl s9 = Except.error e9 := hsx
          unfold sumX at hsx; rw [e2] at hsx; cases hsx
      · have c_2 : f12 = 0 := (nI_eq (a := f12) (b := 0) (by first | exact Nat.lt_of_le_of_lt (by assumption) (by decide) | (as_aux_lemma => omega)) (by first | exact Nat.lt_of_le_of_lt (by assumption) (by decide) | (as_aux_lemma => omega))).mp c_2
        obtain ⟨s1, hX1, a1, -, a3, -⟩ := hF12.ok (by as_aux_lemma => omega)
        have hF1 := hF12.oke hX1
        have hlA := hle12.1 hF1.sv.1
        have hoA := ho612 hF1.sv.1
        obtain ⟨s0, hx0⟩ : ∃ s0, x = Except.ok s0 := by
          cases hxx : x with
          | error e => exact absurd ((hXe12 e hxx).symm.trans hX1) (by simp)
          | ok s0 => exact ⟨s0, rfl⟩
        have hsv0 := (hFM.oke hx0).sv
        have hop0 : op = 0 := hop hsv0.1
        have hRX12 := hRX12 s0 hx0
        have hcs1 := hcs hsv0.1
        clear hop hcs hlA hoA hF1 a1 a3
        have loop_23 : ∀ (n : Nat) (x_code_23 : Nat → Int32) (x_codeInt_23 : Nat → Int32) (x_waits_23 : Nat → Int32) (f23 : Nat) (q23 : Nat) (t23 : Nat) (o23 : Nat) (n23 : Nat) (c23 : Nat) (X23 : PO PS) (W23 : List Nat) (E23 : RPN), (2 - f23) * 500 + (401 - t23) < n → (FM kd pl X23 f23 q23 t23 wk wp) → (RX kd vl s0 false X23 W23 E23 o23) → (HMO f23 t12 t23) → (n23 = W23.length) → (wfW W23) → (cnt6 W23 + op = o23) → (o23 ≤ 7) → (HO6 f23 o23 op) → (WAT x_waits_23 W23) → (CODE x_code_23 x_codeInt_23 cs E23) → (c23 = cs + E23.length) → (HLE f23 tt t23 o23 E23.length W23.length) → (LOW cs (g_m 52) x_code_23) → (LOW cs (g_m 53) x_codeInt_23) → (KI ha_ (g_m 52) x_code_23) → (KI ha_ (g_m 53) x_codeInt_23) → ∀ (H : Heap) (locs : List Loc), zW D A s.heap H locs (wj [(mw Y ad_m (sA 55 (fun _ => nI n23) (sA 54 x_waits_23 (sA 53 x_codeInt_23 (sA 52 x_code_23 (sA 51 (fun _ => nI c23) (sA 16 (fun _ => nI wp) (sA 15 (fun _ => nI wk) (sA 14 (fun _ => nI q23) (sA 13 (fun _ => nI f23) (sA 12 (fun _ => nI o23) (sA 11 (fun _ => nI t23) g_m))))))))))) w_m)]) → ∀ (ls : Array Slot), lv_has ls 3 [(2, .int 1), (1, .int (nI op)), (0, .ref (ad_m 0))] → W p l e (headSpec (ws_ yX12_expression cX12_expression 3 none) ({ frames := 4, cells := 0, slots := 0, locals := 73 })).room s m ([.ref (ad_m 0)] : List Value).toArray below meth c H locs 0 0 Q9 (F0 m 23 ls []) := by
          intro n
          induction n with
          | zero =>
            intro x_code_23 x_codeInt_23 x_waits_23 f23 q23 t23 o23 n23 c23 X23 W23 E23 hmz
            exact absurd hmz (Nat.not_lt_zero _)
          | succ n ih =>
            intro x_code_23 x_codeInt_23 x_waits_23 f23 q23 t23 o23 n23 c23 X23 W23 E23 hm_23 hF23 hRX23 hmo23 hnw23 hwf23 hcn23 ho723 ho623 hWA23 hCD23 hce23 hle23 hl123 hl223 hk123 hk223 H locs hW ls hl
            have ih_23 := ih
            clear ih
            clear hbt12 hbf12 hbk12 hbo12 hwl12 hcl12 hlB12 hnw12 hcn12 ho712 ho612 hle12 hce12
            have hb23 := hF23.bnd
            have hbt23 : t23 ≤ 400 := hF23.t4
            have hbf23 : f23 ≤ 2 := hF23.f2
            have hbk23 : kd t23 ≤ 99 := Nat.le_of_lt_succ (hTK.kb t23)
            have hbo23 : o23 ≤ 7 := ho723
            have hwl23 := (wf_len hwf23).1
            have hlB23 := hle23.2
            have hcl23 := cnt6_le W23
            clear hb23
            have hbn23 : n23 ≤ 64 := by omega
            have hbc23 : c23 ≤ 900 := by omega
            refine lv_aload_n hx hb dX12_expression_23 rfl (lv_at hl 2 rfl) ?_
            refine lv_bipush (v := 6) hx hb dX12_expression_24 (by decide) ?_
            refine z_calli (wc := wj [(mw Y ad_m (sA 55 (fun _ => nI n23) (sA 54 x_waits_23 (sA 53 x_codeInt_23 (sA 52 x_code_23 (sA 51 (fun _ => nI c23) (sA 16 (fun _ => nI wp) (sA 15 (fun _ => nI wk) (sA 14 (fun _ => nI q23) (sA 13 (fun _ => nI f23) (sA 12 (fun _ => nI o23) (sA 11 (fun _ => nI t23) g_m))))))))))) w_m)]) (wr := wj []) (va_runV (As := [.int 6]) (rest := []) ⟨hx, hb, hml, hown, hts⟩ (m_X12_isF l D Y ad_m (sA 55 (fun _ => nI n23) (sA 54 x_waits_23 (sA 53 x_codeInt_23 (sA 52 x_code_23 (sA 51 (fun _ => nI c23) (sA 16 (fun _ => nI wp) (sA 15 (fun _ => nI wk) (sA 14 (fun _ => nI q23) (sA 13 (fun _ => nI f23) (sA 12 (fun _ => nI o23) (sA 11 (fun _ => nI t23) g_m))))))))))) w_m kd pl vl nv f23 t23 6 H.size (show TKR kd pl vl nv (g_m 5) (g_m 6) (g_m 7) (w_m 8) from by first | assumption | omega | grind) (show t23 ≤ 400 from by first | assumption | omega | grind) (show f23 = 0 → OKP kd t23 from by exact fun z => FM.okp (by assumption) z) (show 6 < 100 from by first | assumption | omega | grind) (show f23 ≤ 2 from by first | assumption | omega | grind)) (cwV 1 hts (lw_V q1901 q1903 qs62 q133 q1904) rfl rfl rfl (by decide +kernel) ⟨Nat.le_of_ble_eq_true rfl, Nat.le_of_ble_eq_true rfl⟩) (zPreV hK hW hR (wj_split3 (B := [(mw Y ad_m (sA 55 (fun _ => nI n23) (sA 54 x_waits_23 (sA 53 x_codeInt_23 (sA 52 x_code_23 (sA 51 (fun _ => nI c23) (sA 16 (fun _ => nI wp) (sA 15 (fun _ => nI wk) (sA 14 (fun _ => nI q23) (sA 13 (fun _ => nI f23) (sA 12 (fun _ => nI o23) (sA 11 (fun _ => nI t23) g_m))))))))))) w_m)]) (R := []) (C := [(mw Y ad_m (sA 55 (fun _ => nI n23) (sA 54 x_waits_23 (sA 53 x_codeInt_23 (sA 52 x_code_23 (sA 51 (fun _ => nI c23) (sA 16 (fun _ => nI wp) (sA 15 (fun _ => nI wk) (sA 14 (fun _ => nI q23) (sA 13 (fun _ => nI f23) (sA 12 (fun _ => nI o23) (sA 11 (fun _ => nI t23) g_m))))))))))) w_m)]) (O := []) (X := []) (List.Perm.refl _)) (va_recv hK.1 hW.1 (ci := 11) (q0 := 0) rfl rfl)) rfl rfl hl.1 rfl (lv_room (Nat.le_of_ble_eq_true rfl)) dX12_expression_26 ⟨Nat.le_refl _, Nat.le_refl _⟩) hW hA (wj_split (B := [(mw Y ad_m (sA 55 (fun _ => nI n23) (sA 54 x_waits_23 (sA 53 x_codeInt_23 (sA 52 x_code_23 (sA 51 (fun _ => nI c23) (sA 16 (fun _ => nI wp) (sA 15 (fun _ => nI wk) (sA 14 (fun _ => nI q23) (sA 13 (fun _ => nI f23) (sA 12 (fun _ => nI o23) (sA 11 (fun _ => nI t23) g_m))))))))))) w_m)]) (C := [(mw Y ad_m (sA 55 (fun _ => nI n23) (sA 54 x_waits_23 (sA 53 x_codeInt_23 (sA 52 x_code_23 (sA 51 (fun _ => nI c23) (sA 16 (fun _ => nI wp) (sA 15 (fun _ => nI wk) (sA 14 (fun _ => nI q23) (sA 13 (fun _ => nI f23) (sA 12 (fun _ => nI o23) (sA 11 (fun _ => nI t23) g_m))))))))))) w_m)]) (R := []) (List.Perm.refl _)) (fun r_3 u H locs hp_4 hW => ?_)
            have hp_4 : r_3 = zb (f23 = 0 ∧ kd t23 = 6) := hp_4
            have hW : zW D A s.heap H locs (wj [(mw Y ad_m (sA 55 (fun _ => nI n23) (sA 54 x_waits_23 (sA 53 x_codeInt_23 (sA 52 x_code_23 (sA 51 (fun _ => nI c23) (sA 16 (fun _ => nI wp) (sA 15 (fun _ => nI wk) (sA 14 (fun _ => nI q23) (sA 13 (fun _ => nI f23) (sA 12 (fun _ => nI o23) (sA 11 (fun _ => nI t23) g_m))))))))))) w_m)]) := hW.join
            refine lv_if_eq (tgt := 84) hx hb dX12_expression_29 (by decide) (fun c_5 => ?_) (fun c_5 => ?_)
            · have c_5 : ¬ (f23 = 0 ∧ kd t23 = 6) := zb_eq hp_4 c_5
              refine lv_aload_n hx hb dX12_expression_84 rfl (lv_at hl 2 rfl) ?_
              refine z_callv (wc := wj [(mw Y ad_m (sA 55 (fun _ => nI n23) (sA 54 x_waits_23 (sA 53 x_codeInt_23 (sA 52 x_code_23 (sA 51 (fun _ => nI c23) (sA 16 (fun _ => nI wp) (sA 15 (fun _ => nI wk) (sA 14 (fun _ => nI q23) (sA 13 (fun _ => nI f23) (sA 12 (fun _ => nI o23) (sA 11 (fun _ => nI t23) g_m))))))))))) w_m)]) (wr := wj []) (va_runV (As := []) (rest := []) ⟨hx, hb, hml, hown, hts⟩ (m_X12_unit l D Y ad_m (sA 55 (fun _ => nI n23) (sA 54 x_waits_23 (sA 53 x_codeInt_23 (sA 52 x_code_23 (sA 51 (fun _ => nI c23) (sA 16 (fun _ => nI wp) (sA 15 (fun _ => nI wk) (sA 14 (fun _ => nI q23) (sA 13 (fun _ => nI f23) (sA 12 (fun _ => nI o23) (sA 11 (fun _ => nI t23) g_m))))))))))) w_m kd pl vl nv X23 f23 q23 t23 wk wp c23 ha_ H.size (show TKR kd pl vl nv (g_m 5) (g_m 6) (g_m 7) (w_m 8) from by first | assumption | omega | grind) (show FM kd pl X23 f23 q23 t23 wk wp from by first | assumption | omega | grind) (show ha_ ≤ c23 ∧ c23 < ha_ + 420 ∧ (ha_ = 420 * 0 ∨ ha_ = 420 * 1) from by first | assumption | omega | grind)) (cwV 0 hts (lw_V q1969 q1971 qs79 q133 q1972) rfl rfl rfl (by decide +kernel) ⟨Nat.le_of_ble_eq_true rfl, Nat.le_of_ble_eq_true rfl⟩) (zPreV hK hW hR (wj_split3 (B := [(mw Y ad_m (sA 55 (fun _ => nI n23) (sA 54 x_waits_23 (sA 53 x_codeInt_23 (sA 52 x_code_23 (sA 51 (fun _ => nI c23) (sA 16 (fun _ => nI wp) (sA 15 (fun _ => nI wk) (sA 14 (fun _ => nI q23) (sA 13 (fun _ => nI f23) (sA 12 (fun _ => nI o23) (sA 11 (fun _ => nI t23) g_m))))))))))) w_m)]) (R := []) (C := [(mw Y ad_m (sA 55 (fun _ => nI n23) (sA 54 x_waits_23 (sA 53 x_codeInt_23 (sA 52 x_code_23 (sA 51 (fun _ => nI c23) (sA 16 (fun _ => nI wp) (sA 15 (fun _ => nI wk) (sA 14 (fun _ => nI q23) (sA 13 (fun _ => nI f23) (sA 12 (fun _ => nI o23) (sA 11 (fun _ => nI t23) g_m))))))))))) w_m)]) (O := []) (X := []) (List.Perm.refl _)) (va_recv hK.1 hW.1 (ci := 11) (q0 := 0) rfl rfl)) rfl rfl hl.1 rfl (lv_room (Nat.le_of_ble_eq_true rfl)) dX12_expression_85 ⟨Nat.le_refl _, Nat.le_refl _⟩) hW hA (wj_split (B := [(mw Y ad_m (sA 55 (fun _ => nI n23) (sA 54 x_waits_23 (sA 53 x_codeInt_23 (sA 52 x_code_23 (sA 51 (fun _ => nI c23) (sA 16 (fun _ => nI wp) (sA 15 (fun _ => nI wk) (sA 14 (fun _ => nI q23) (sA 13 (fun _ => nI f23) (sA 12 (fun _ => nI o23) (sA 11 (fun _ => nI t23) g_m))))))))))) w_m)]) (C := [(mw Y ad_m (sA 55 (fun _ => nI n23) (sA 54 x_waits_23 (sA 53 x_codeInt_23 (sA 52 x_code_23 (sA 51 (fun _ => nI c23) (sA 16 (fun _ => nI wp) (sA 15 (fun _ => nI wk) (sA 14 (fun _ => nI q23) (sA 13 (fun _ => nI f23) (sA 12 (fun _ => nI o23) (sA 11 (fun _ => nI t23) g_m))))))))))) w_m)]) (R := []) (List.Perm.refl _)) (fun  u H locs hp_7 hW => ?_)
              obtain ⟨ufault_8, ufaultPlace_9, ut_10, ucodes_11, ucode_12, ucodeInt_13⟩ := u
              have hp_7 : (FM kd pl (PO.bd X23 (unitX kd)) ufault_8 ufaultPlace_9 ut_10 wk wp) ∧ (c23 ≤ ucodes_11 ∧ ucodes_11 ≤ c23 + 1 ∧ (f23 = 0 → kd t23 = 2 ∨ (33 ≤ kd t23 ∧ kd t23 ≤ 39) → ucodes_11 = c23 + 1 ∧ ucode_12 = upd x_code_23 c23 (nI (unitQ kd vl t23).1) ∧ ucodeInt_13 = upd x_codeInt_23 c23 (unitQ kd vl t23).2) ∧ (¬ (f23 = 0 ∧ (kd t23 = 2 ∨ (33 ≤ kd t23 ∧ kd t23 ≤ 39))) → ucodes_11 = c23 ∧ ucode_12 = x_code_23 ∧ ucodeInt_13 = x_codeInt_23)) := hp_7
              obtain ⟨hp_7f, hp_7p⟩ := hp_7
              have hW : zW D A s.heap H locs (wj [(mw Y ad_m (sA 55 (fun _ => nI n23) (sA 54 x_waits_23 (sA 53 ucodeInt_13 (sA 52 ucode_12 (sA 51 (fun _ => nI ucodes_11) (sA 16 (fun _ => nI wp) (sA 15 (fun _ => nI wk) (sA 14 (fun _ => nI ufaultPlace_9) (sA 13 (fun _ => nI ufault_8) (sA 12 (fun _ => nI o23) (sA 11 (fun _ => nI ut_10) g_m))))))))))) w_m)]) := hW.join
              obtain ⟨hu1, hu2, hu3, hu4⟩ := hp_7p
              have hbn85 := hp_7f.bnd
              refine lv_aload_n hx hb dX12_expression_88 rfl (lv_at hl 2 rfl) ?_
              refine va_get (v := .int (nI ufault_8)) (C := RX12) (T := TX12) (N := 75) (ci := 11) hx hb hts in_X12 hown hK.1 hW.1 0 rfl rfl 13 (by decide) (hts _ q1649) (fun _ h9 => h9) rfl dX12_expression_89 ?_
              refine lv_if_le (tgt := 96) hx hb dX12_expression_92 (by decide) (fun c_14 => ?_) (fun c_14 => ?_)
              · have c_14 : ufault_8 ≤ 0 := (nI_leI (a := ufault_8) (b := 0) (by first | exact Nat.lt_of_le_of_lt (by assumption) (by decide) | (as_aux_lemma => omega)) (by first | exact Nat.lt_of_le_of_lt (by assumption) (by decide) | (as_aux_lemma => omega))).mp c_14
                have loop_96 : ∀ (n : Nat) (x_code_96 : Nat → Int32) (x_codeInt_96 : Nat → Int32) (x_waits_96 : Nat → Int32) (f96 : Nat) (q96 : Nat) (t96 : Nat) (o96 : Nat) (n96 : Nat) (c96 : Nat) (X96 : PO PS) (W96 : List Nat) (E96 : RPN), (2 - f96) * 500 + (401 - t96) < n → (FM kd pl X96 f96 q96 t96 wk wp) → (RX kd vl s0 true X96 W96 E96 o96) → (HMO f96 (t12 + 1) t96) → (n96 = W96.length) → (wfW W96) → (cnt6 W96 + op = o96) → (o96 ≤ 7) → (HO6 f96 o96 op) → (WAT x_waits_96 W96) → (CODE x_code_96 x_codeInt_96 cs E96) → (c96 = cs + E96.length) → (HLE f96 tt t96 o96 E96.length W96.length) → (LOW cs (g_m 52) x_code_96) → (LOW cs (g_m 53) x_codeInt_96) → (KI ha_ (g_m 52) x_code_96) → (KI ha_ (g_m 53) x_codeInt_96) → ∀ (H : Heap) (locs : List Loc), zW D A s.heap H locs (wj [(mw Y ad_m (sA 55 (fun _ => nI n96) (sA 54 x_waits_96 (sA 53 x_codeInt_96 (sA 52 x_code_96 (sA 51 (fun _ => nI c96) (sA 16 (fun _ => nI wp) (sA 15 (fun _ => nI wk) (sA 14 (fun _ => nI q96) (sA 13 (fun _ => nI f96) (sA 12 (fun _ => nI o96) (sA 11 (fun _ => nI t96) g_m))))))))))) w_m)]) → ∀ (ls : Array Slot), lv_has ls 3 [(2, .int 1), (1, .int (nI op)), (0, .ref (ad_m 0))] → W p l e (headSpec (ws_ yX12_expression cX12_expression 3 none) ({ frames := 4, cells := 0, slots := 0, locals := 73 })).room s m ([.ref (ad_m 0)] : List Value).toArray below meth c H locs 0 0 Q9 (F0 m 96 ls []) := m_X12_expression_loop_96 l D Y ad_m g_m w_m kd pl vl nv x fl fp tt wk wp op nw cs ha_ hTK hFM hop7 hha hml hx hb hr hlocks hts hown hR hK hA hQ9 s0 hx0 hsv0 hop0 hcs1 f12 t12 _ (by omega) (by omega) ih_12
                have hz0 := (FM.stpu hF23 hp_7f (by as_aux_lemma => omega)).1
                obtain ⟨s1, hX1, a1, -, a3, -⟩ := hF23.ok (by as_aux_lemma => omega)
                have hF1 := hF23.oke hX1
                have hlA := hle23.1 hF1.sv.1
                have hoA := ho623 hF1.sv.1
                have hRX1 := hRX23.oke hX1
                have hn6 : kd (PS.at_ s1) ≠ 6 := by rw [← a1]; omega
                have eX : (PO.bd X23 (unitX kd)) = unitX kd s1 := by rw [hX1]; rfl
                have H9 := hp_7f
                rw [eX] at H9
                have hst := hF1.ustep H9
                obtain ⟨eu1, eu2, eu3⟩ := hu3 (by as_aux_lemma => omega) (by as_aux_lemma => omega)
                exact loop_96 _ ucode_12 ucodeInt_13 x_waits_23 ufault_8 ufaultPlace_9 ut_10 o23 n23 ucodes_11 (PO.bd X23 (unitX kd)) W23 (E23 ++ [unitQ kd vl t23]) (Nat.lt_succ_self _) (by exact hp_7f) (by rw [eX, a1]; exact hRX1.unit hn6) (by exact fun z => by have := hmo23 hF1.sv.1; omega) (by exact hnw23) (by exact hwf23) (by exact hcn23) (by as_aux_lemma => omega) (by exact fun z => by omega) (by exact hWA23) (by rw [eu2, eu3, hce23]; exact hCD23.snoc _ _) (by rw [List.length_append]; show _ = cs + (E23.length + 1); omega) (by rw [List.length_append, show [unitQ kd vl t23].length = 1 from rfl]; exact ⟨fun z => by omega, by omega⟩) (by rw [eu2]; exact hl123.put (by as_aux_lemma => omega) _) (by rw [eu3]; exact hl223.put (by as_aux_lemma => omega) _) (by rw [eu2]; exact hk123.put (by as_aux_lemma => omega) _) (by rw [eu3]; exact hk223.put (by as_aux_lemma => omega) _) _ _ hW _ (lv_sub hl [0, 1, 2] rfl)
              · have c_14 : ¬ (ufault_8 ≤ 0) := fun hz_ => c_14 ((nI_leI (a := ufault_8) (b := 0) (by first | exact Nat.lt_of_le_of_lt (by assumption) (by decide) | (as_aux_lemma => omega)) (by first | exact Nat.lt_of_le_of_lt (by assumption) (by decide) | (as_aux_lemma => omega))).mpr hz_)
                subst hQ9
                refine z_vret ((ufault_8, ufaultPlace_9, ut_10, ucodes_11, ucode_12, ucodeInt_13, x_waits_23, n23, o23) : (Nat) × (Nat) × (Nat) × (Nat) × (Nat → Int32) × (Nat → Int32) × (Nat → Int32) × (Nat) × (Nat)) hx hb hr hlocks hW rfl dX12_expression_95 ?_
                show (FM kd pl (PO.bd x (sumX kd vl)) ufault_8 ufaultPlace_9 ut_10 wk wp) ∧ ((ufault_8 = 0 → o23 = 0) ∧ o23 ≤ 7 ∧ (ufault_8 = 0 → ucodes_11 ≤ ha_ + ut_10) ∧ LOW cs (g_m 52) ucode_12 ∧ LOW cs (g_m 53) ucodeInt_13 ∧ KI ha_ (g_m 52) ucode_12 ∧ KI ha_ (g_m 53) ucodeInt_13 ∧ cs ≤ ucodes_11 ∧ (∀ (s0 : PS) (q0 : RPN × PS), x = Except.ok s0 → sumR kd vl s0 = Except.ok q0 → ucodes_11 = cs + q0.1.length ∧ CODE ucode_12 ucodeInt_13 cs q0.1))
                have hsx : ∃ e9, (PO.bd X23 (unitX kd)) = Except.error e9 ∧ sumX kd vl s0 = Except.error e9 := by
                  cases hXX : X23 with
                  | error e => exact ⟨e, by rfl, hRX23.ere hXX⟩
                  | ok s1 =>
                    have hRX1 := hRX23.oke hXX
                    have hF1 := hF23.oke hXX
                    have hn6 : kd (PS.at_ s1) ≠ 6 := by have := hF1.sv; rw [← this.2.1]; omega
                    have hru := hRX1.unit hn6
                    cases hun : unitX kd s1 with
                    | error e => exact ⟨e, hun, hru.ere hun⟩
                    | ok s2 => have H8 := hp_7f; rw [hXX] at H8; exact absurd (FM.oke H8 hun).sv.1 (by as_aux_lemma => omega)
                obtain ⟨e9, he9, hsx⟩ := hsx
                have H9 := hp_7f
                rw [he9] at H9
                refine ⟨?_, ?_⟩
                · rw [hx0]; show FM kd pl (sumX kd vl s0) _ _ _ _ _; rw [hsx]; exact H9
                · refine ⟨fun z => by omega, by omega, fun z => by omega, ?_, ?_, ?_, ?_, by omega, ?_⟩
                  · by_cases zu : f23 = 0 ∧ (kd t23 = 2 ∨ (33 ≤ kd t23 ∧ kd t23 ≤ 39))
                    · obtain ⟨-, eu2, eu3⟩ := hu3 zu.1 zu.2; rw [eu2]; exact hl123.put (by as_aux_lemma => omega) _
                    · obtain ⟨-, eu2, eu3⟩ := hu4 zu; rw [eu2]; exact hl123
                  · by_cases zu : f23 = 0 ∧ (kd t23 = 2 ∨ (33 ≤ kd t23 ∧ kd t23 ≤ 39))
                    · obtain ⟨-, eu2, eu3⟩ := hu3 zu.1 zu.2; rw [eu3]; exact hl223.put (by as_aux_lemma => omega) _
                    · obtain ⟨-, eu2, eu3⟩ := hu4 zu; rw [eu3]; exact hl223
                  · by_cases zu : f23 = 0 ∧ (kd t23 = 2 ∨ (33 ≤ kd t23 ∧ kd t23 ≤ 39))
                    · obtain ⟨-, eu2, eu3⟩ := hu3 zu.1 zu.2; rw [eu2]; exact hk123.put (by as_aux_lemma => omega) _
                    · obtain ⟨-, eu2, eu3⟩ := hu4 zu; rw [eu2]; exact hk123
                  · by_cases zu : f23 = 0 ∧ (kd t23 = 2 ∨ (33 ≤ kd t23 ∧ kd t23 ≤ 39))
                    · obtain ⟨-, eu2, eu3⟩ := hu3 zu.1 zu.2; rw [eu3]; exact hk223.put (by as_aux_lemma => omega) _
                    · obtain ⟨-, eu2, eu3⟩ := hu4 zu; rw [eu3]; exact hk223
                  · intro s9 q9 e1 e2
                    have e9 : s9 = s0 := by rw [hx0] at e1; injection e1 with q; exact q.symm
                    rw [e9] at e2; unfold sumX at hsx; rw [e2] at hsx; cases hsx
            · have c_5 : f23 = 0 ∧ kd t23 = 6 := zb_ne hp_4 c_5
              refine lv_aload_n hx hb dX12_expression_32 rfl (lv_at hl 2 rfl) ?_
              refine va_get (v := .int (nI o23)) (C := RX12) (T := TX12) (N := 75) (ci := 11) hx hb hts in_X12 hown hK.1 hW.1 0 rfl rfl 12 (by decide) (hts _ q1648) (fun _ h9 => h9) rfl dX12_expression_33 ?_
              refine lv_bipush (v := 6) hx hb dX12_expression_36 (by decide) ?_
              refine lv_icmp_ne (tgt := 46) hx hb dX12_expression_38 (by decide) (fun c_102 => ?_) (fun c_102 => ?_)
              · have c_102 : ¬ (o23 = 6) := fun hz_ => c_102 ((nI_eq (a := o23) (b := 6) (by first | exact Nat.lt_of_le_of_lt (by assumption) (by decide) | (as_aux_lemma => omega)) (by first | exact Nat.lt_of_le_of_lt (by assumption) (by decide) | (as_aux_lemma => omega))).mpr hz_)
                refine lv_aload_n hx hb dX12_expression_46 rfl (lv_at hl 2 rfl) ?_
                refine lv_dup hx hb dX12_expression_47 rfl ?_
                refine va_get (v := .int (nI o23)) (C := RX12) (T := TX12) (N := 75) (ci := 11) hx hb hts in_X12 hown hK.1 hW.1 0 rfl rfl 12 (by decide) (hts _ q1648) (fun _ h9 => h9) rfl dX12_expression_48 ?_
                refine lv_iconst (v := 1) hx hb dX12_expression_51 (by decide) ?_
                refine lv_iadd hx hb dX12_expression_52 ?_
                refine lv_topi (nm_r (e' := nI (o23 + 1)) (nI_add o23 1) ?_)
                refine z_put (v := .int (nI (o23 + 1))) (C := RX12) (T := TX12) (N := 75) (ci := 11) (wn := (wj [(mw Y ad_m (sA 55 (fun _ => nI n23) (sA 54 x_waits_23 (sA 53 x_codeInt_23 (sA 52 x_code_23 (sA 51 (fun _ => nI c23) (sA 16 (fun _ => nI wp) (sA 15 (fun _ => nI wk) (sA 14 (fun _ => nI q23) (sA 13 (fun _ => nI f23) (sA 12 (fun _ => nI (o23 + 1)) (sA 11 (fun _ => nI t23) g_m))))))))))) w_m)])) hx hb hts in_X12 tyX12 tyX12_ok nmX12 hown hK.1 hW 0 rfl rfl 12 (by decide) (hts _ q1648) (fun _ h9 => h9) rfl rfl rfl (Nat.le_of_ble_eq_true rfl) dX12_expression_53 rfl (fun H locs hW => ?_)
                refine lv_aload_n hx hb dX12_expression_56 rfl (lv_at hl 2 rfl) ?_
                refine z_callv (wc := wj [(mw Y ad_m (sA 55 (fun _ => nI n23) (sA 54 x_waits_23 (sA 53 x_codeInt_23 (sA 52 x_code_23 (sA 51 (fun _ => nI c23) (sA 16 (fun _ => nI wp) (sA 15 (fun _ => nI wk) (sA 14 (fun _ => nI q23) (sA 13 (fun _ => nI f23) (sA 12 (fun _ => nI (o23 + 1)) (sA 11 (fun _ => nI t23) g_m))))))))))) w_m)]) (wr := wj []) (va_runV (As := []) (rest := []) ⟨hx, hb, hml, hown, hts⟩ (m_X12_goesOn l D Y ad_m (sA 55 (fun _ => nI n23) (sA 54 x_waits_23 (sA 53 x_codeInt_23 (sA 52 x_code_23 (sA 51 (fun _ => nI c23) (sA 16 (fun _ => nI wp) (sA 15 (fun _ => nI wk) (sA 14 (fun _ => nI q23) (sA 13 (fun _ => nI f23) (sA 12 (fun _ => nI (o23 + 1)) (sA 11 (fun _ => nI t23) g_m))))))))))) w_m kd pl vl nv X23 f23 q23 t23 wk wp H.size (show TKR kd pl vl nv (g_m 5) (g_m 6) (g_m 7) (w_m 8) from by first | assumption | omega | grind) (show FM kd pl X23 f23 q23 t23 wk wp from by first | assumption | omega | grind) (show f23 = 0 → kd t23 ≠ 0 ∧ kd t23 ≠ 3 from by intro _; omega)) (cwV 0 hts (lw_V q1917 q1919 qs66 q133 q1920) rfl rfl rfl (by decide +kernel) ⟨Nat.le_of_ble_eq_true rfl, Nat.le_of_ble_eq_true rfl⟩) (zPreV hK hW hR (wj_split3 (B := [(mw Y ad_m (sA 55 (fun _ => nI n23) (sA 54 x_waits_23 (sA 53 x_codeInt_23 (sA 52 x_code_23 (sA 51 (fun _ => nI c23) (sA 16 (fun _ => nI wp) (sA 15 (fun _ => nI wk) (sA 14 (fun _ => nI q23) (sA 13 (fun _ => nI f23) (sA 12 (fun _ => nI (o23 + 1)) (sA 11 (fun _ => nI t23) g_m))))))))))) w_m)]) (R := []) (C := [(mw Y ad_m (sA 55 (fun _ => nI n23) (sA 54 x_waits_23 (sA 53 x_codeInt_23 (sA 52 x_code_23 (sA 51 (fun _ => nI c23) (sA 16 (fun _ => nI wp) (sA 15 (fun _ => nI wk) (sA 14 (fun _ => nI q23) (sA 13 (fun _ => nI f23) (sA 12 (fun _ => nI (o23 + 1)) (sA 11 (fun _ => nI t23) g_m))))))))))) w_m)]) (O := []) (X := []) (List.Perm.refl _)) (va_recv hK.1 hW.1 (ci := 11) (q0 := 0) rfl rfl)) rfl rfl hl.1 rfl (lv_room (Nat.le_of_ble_eq_true rfl)) dX12_expression_57 ⟨Nat.le_refl _, Nat.le_refl _⟩) hW hA (wj_split (B := [(mw Y ad_m (sA 55 (fun _ => nI n23) (sA 54 x_waits_23 (sA 53 x_codeInt_23 (sA 52 x_code_23 (sA 51 (fun _ => nI c23) (sA 16 (fun _ => nI wp) (sA 15 (fun _ => nI wk) (sA 14 (fun _ => nI q23) (sA 13 (fun _ => nI f23) (sA 12 (fun _ => nI (o23 + 1)) (sA 11 (fun _ => nI t23) g_m))))))))))) w_m)]) (C := [(mw Y ad_m (sA 55 (fun _ => nI n23) (sA 54 x_waits_23 (sA 53 x_codeInt_23 (sA 52 x_code_23 (sA 51 (fun _ => nI c23) (sA 16 (fun _ => nI wp) (sA 15 (fun _ => nI wk) (sA 14 (fun _ => nI q23) (sA 13 (fun _ => nI f23) (sA 12 (fun _ => nI (o23 + 1)) (sA 11 (fun _ => nI t23) g_m))))))))))) w_m)]) (R := []) (List.Perm.refl _)) (fun  u H locs hp_104 hW => ?_)
                obtain ⟨ufault_105, ufaultPlace_106, ut_107⟩ := u
                have hp_104 : FM kd pl (PO.bd X23 passR) ufault_105 ufaultPlace_106 ut_107 wk wp := hp_104
                have hW : zW D A s.heap H locs (wj [(mw Y ad_m (sA 55 (fun _ => nI n23) (sA 54 x_waits_23 (sA 53 x_codeInt_23 (sA 52 x_code_23 (sA 51 (fun _ => nI c23) (sA 16 (fun _ => nI wp) (sA 15 (fun _ => nI wk) (sA 14 (fun _ => nI ufaultPlace_106) (sA 13 (fun _ => nI ufault_105) (sA 12 (fun _ => nI (o23 + 1)) (sA 11 (fun _ => nI ut_107) g_m))))))))))) w_m)]) := hW.join
                have hbn57 := hp_104.bnd
                refine lv_aload_n hx hb dX12_expression_60 rfl (lv_at hl 2 rfl) ?_
                refine va_get (v := .ref (ad_m 54)) (C := RX12) (T := TX12) (N := 75) (ci := 11) hx hb hts in_X12 hown hK.1 hW.1 0 rfl rfl 54 (by decide) (hts _ q1690) (fun _ h9 => h9) rfl dX12_expression_61 ?_
                refine lv_aload_n hx hb dX12_expression_64 rfl (lv_at hl 2 rfl) ?_
                refine va_get (v := .int (nI n23)) (C := RX12) (T := TX12) (N := 75) (ci := 11) hx hb hts in_X12 hown hK.1 hW.1 0 rfl rfl 55 (by decide) (hts _ q1691) (fun _ h9 => h9) rfl dX12_expression_65 ?_
                refine lv_bipush (v := 6) hx hb dX12_expression_68 (by decide) ?_
                refine z_iast (x := 6) (f := x_waits_23) (j := n23) (wn := (wj [(mw Y ad_m (sA 55 (fun _ => nI n23) (sA 54 (upd x_waits_23 n23 6) (sA 53 x_codeInt_23 (sA 52 x_code_23 (sA 51 (fun _ => nI c23) (sA 16 (fun _ => nI wp) (sA 15 (fun _ => nI wk) (sA 14 (fun _ => nI ufaultPlace_106) (sA 13 (fun _ => nI ufault_105) (sA 12 (fun _ => nI (o23 + 1)) (sA 11 (fun _ => nI ut_107) g_m))))))))))) w_m)])) hx hb hK.1 hW 39 0 rfl rfl (vp_in_nI (n := n23) (by first | exact Nat.lt_of_le_of_lt (by assumption) (by decide) | (as_aux_lemma => omega)) (by decide)) (nI_clamp (n := n23) (by first | exact Nat.lt_of_le_of_lt (by assumption) (by decide) | (as_aux_lemma => omega))) dX12_expression_70 rfl (fun H locs hW => ?_)
                refine lv_aload_n hx hb dX12_expression_71 rfl (lv_at hl 2 rfl) ?_
                refine lv_dup hx hb dX12_expression_72 rfl ?_
                refine va_get (v := .int (nI n23)) (C := RX12) (T := TX12) (N := 75) (ci := 11) hx hb hts in_X12 hown hK.1 hW.1 0 rfl rfl 55 (by decide) (hts _ q1691) (fun _ h9 => h9) rfl dX12_expression_73 ?_
                refine lv_iconst (v := 1) hx hb dX12_expression_76 (by decide) ?_
                refine lv_iadd hx hb dX12_expression_77 ?_
                refine lv_topi (nm_r (e' := nI (n23 + 1)) (nI_add n23 1) ?_)
                refine z_put (v := .int (nI (n23 + 1))) (C := RX12) (T := TX12) (N := 75) (ci := 11) (wn := (wj [(mw Y ad_m (sA 55 (fun _ => nI (n23 + 1)) (sA 54 (upd x_waits_23 n23 6) (sA 53 x_codeInt_23 (sA 52 x_code_23 (sA 51 (fun _ => nI c23) (sA 16 (fun _ => nI wp) (sA 15 (fun _ => nI wk) (sA 14 (fun _ => nI ufaultPlace_106) (sA 13 (fun _ => nI ufault_105) (sA 12 (fun _ => nI (o23 + 1)) (sA 11 (fun _ => nI ut_107) g_m))))))))))) w_m)])) hx hb hts in_X12 tyX12 tyX12_ok nmX12 hown hK.1 hW 0 rfl rfl 55 (by decide) (hts _ q1691) (fun _ h9 => h9) rfl rfl rfl (Nat.le_of_ble_eq_true rfl) dX12_expression_78 rfl (fun H locs hW => ?_)
                refine lv_goto (tgt := 23) hx hb dX12_expression_81 (by decide) ?_
                obtain ⟨s1, hX1, a1, -, a3, -⟩ := hF23.ok (by as_aux_lemma => omega)
                have hF1 := hF23.oke hX1
                have hlA := hle23.1 hF1.sv.1
                have hoA := ho623 hF1.sv.1
                have hRX1 := hRX23.oke hX1
                have hk6 : kd (PS.at_ s1) = 6 := by rw [← a1]; omega
                have eX : (PO.bd X23 passR) = passR s1 := by rw [hX1]; rfl
                have H9 := hp_104
                rw [eX] at H9
                have hst := hF1.pstep H9
                exact ih_23 x_code_23 x_codeInt_23 (upd x_waits_23 n23 6) ufault_105 ufaultPlace_106 ut_107 (o23 + 1) (n23 + 1) c23 (PO.bd X23 passR) (6 :: W23) E23 (by as_aux_lemma => omega) (by exact hp_104) (by rw [eX]; exact hRX1.sopen hk6 (by as_aux_lemma => omega)) (by exact fun z => by have := hmo23 hF1.sv.1; omega) (by rw [List.length_cons]; omega) (by exact ⟨hwf23, Or.inl rfl⟩) (by rw [cnt6_cons, if_pos rfl]; omega) (by as_aux_lemma => omega) (by exact fun z => by omega) (by rw [hnw23]; exact hWA23.push 6) (by exact hCD23) (by exact hce23) (by rw [List.length_cons]; exact ⟨fun z => by omega, by omega⟩) (by exact hl123) (by exact hl223) (by exact hk123) (by exact hk223) _ _ hW _ (lv_sub hl [0, 1, 2] rfl)
              · have c_102 : o23 = 6 := (nI_eq (a := o23) (b := 6) (by first | exact Nat.lt_of_le_of_lt (by assumption) (by decide) | (as_aux_lemma => omega)) (by first | exact Nat.lt_of_le_of_lt (by assumption) (by decide) | (as_aux_lemma => omega))).mp c_102
                refine lv_aload_n hx hb dX12_expression_41 rfl (lv_at hl 2 rfl) ?_
                refine lv_iconst (v := 2) hx hb dX12_expression_42 (by decide) ?_
                refine z_callv (wc := wj [(mw Y ad_m (sA 55 (fun _ => nI n23) (sA 54 x_waits_23 (sA 53 x_codeInt_23 (sA 52 x_code_23 (sA 51 (fun _ => nI c23) (sA 16 (fun _ => nI wp) (sA 15 (fun _ => nI wk) (sA 14 (fun _ => nI q23) (sA 13 (fun _ => nI f23) (sA 12 (fun _ => nI o23) (sA 11 (fun _ => nI t23) g_m))))))))))) w_m)]) (wr := wj []) (va_runV (As := [.int 2]) (rest := []) ⟨hx, hb, hml, hown, hts⟩ (m_X12_fail l D Y ad_m (sA 55 (fun _ => nI n23) (sA 54 x_waits_23 (sA 53 x_codeInt_23 (sA 52 x_code_23 (sA 51 (fun _ => nI c23) (sA 16 (fun _ => nI wp) (sA 15 (fun _ => nI wk) (sA 14 (fun _ => nI q23) (sA 13 (fun _ => nI f23) (sA 12 (fun _ => nI o23) (sA 11 (fun _ => nI t23) g_m))))))))))) w_m kd pl vl nv X23 f23 q23 t23 wk wp 2 H.size (show TKR kd pl vl nv (g_m 5) (g_m 6) (g_m 7) (w_m 8) from by first | assumption | omega | grind) (show FM kd pl X23 f23 q23 t23 wk wp from by first | assumption | omega | grind) (show 1 ≤ 2 ∧ 2 ≤ 2 from by first | assumption | omega | grind)) (cwV 1 hts (lw_V q1913 q1915 qs65 q133 q1916) rfl rfl rfl (by decide +kernel) ⟨Nat.le_of_ble_eq_true rfl, Nat.le_of_ble_eq_true rfl⟩) (zPreV hK hW hR (wj_split3 (B := [(mw Y ad_m (sA 55 (fun _ => nI n23) (sA 54 x_waits_23 (sA 53 x_codeInt_23 (sA 52 x_code_23 (sA 51 (fun _ => nI c23) (sA 16 (fun _ => nI wp) (sA 15 (fun _ => nI wk) (sA 14 (fun _ => nI q23) (sA 13 (fun _ => nI f23) (sA 12 (fun _ => nI o23) (sA 11 (fun _ => nI t23) g_m))))))))))) w_m)]) (R := []) (C := [(mw Y ad_m (sA 55 (fun _ => nI n23) (sA 54 x_waits_23 (sA 53 x_codeInt_23 (sA 52 x_code_23 (sA 51 (fun _ => nI c23) (sA 16 (fun _ => nI wp) (sA 15 (fun _ => nI wk) (sA 14 (fun _ => nI q23) (sA 13 (fun _ => nI f23) (sA 12 (fun _ => nI o23) (sA 11 (fun _ => nI t23) g_m))))))))))) w_m)]) (O := []) (X := []) (List.Perm.refl _)) (va_recv hK.1 hW.1 (ci := 11) (q0 := 0) rfl rfl)) rfl rfl hl.1 rfl (lv_room (Nat.le_of_ble_eq_true rfl)) dX12_expression_43 ⟨Nat.le_refl _, Nat.le_refl _⟩) hW hA (wj_split (B := [(mw Y ad_m (sA 55 (fun _ => nI n23) (sA 54 x_waits_23 (sA 53 x_codeInt_23 (sA 52 x_code_23 (sA 51 (fun _ => nI c23) (sA 16 (fun _ => nI wp) (sA 15 (fun _ => nI wk) (sA 14 (fun _ => nI q23) (sA 13 (fun _ => nI f23) (sA 12 (fun _ => nI o23) (sA 11 (fun _ => nI t23) g_m))))))))))) w_m)]) (C := [(mw Y ad_m (sA 55 (fun _ => nI n23) (sA 54 x_waits_23 (sA 53 x_codeInt_23 (sA 52 x_code_23 (sA 51 (fun _ => nI c23) (sA 16 (fun _ => nI wp) (sA 15 (fun _ => nI wk) (sA 14 (fun _ => nI q23) (sA 13 (fun _ => nI f23) (sA 12 (fun _ => nI o23) (sA 11 (fun _ => nI t23) g_m))))))))))) w_m)]) (R := []) (List.Perm.refl _)) (fun  u H locs hp_109 hW => ?_)
                obtain ⟨ufault_110, ufaultPlace_111⟩ := u
                have hp_109 : FM kd pl (PO.bd X23 (failR 2)) ufault_110 ufaultPlace_111 t23 wk wp := hp_109
                have hW : zW D A s.heap H locs (wj [(mw Y ad_m (sA 55 (fun _ => nI n23) (sA 54 x_waits_23 (sA 53 x_codeInt_23 (sA 52 x_code_23 (sA 51 (fun _ => nI c23) (sA 16 (fun _ => nI wp) (sA 15 (fun _ => nI wk) (sA 14 (fun _ => nI ufaultPlace_111) (sA 13 (fun _ => nI ufault_110) (sA 12 (fun _ => nI o23) (sA 11 (fun _ => nI t23) g_m))))))))))) w_m)]) := hW.join
                have hbn43 := hp_109.bnd
                refine lv_aload_n hx hb dX12_expression_46 rfl (lv_at hl 2 rfl) ?_
                refine lv_dup hx hb dX12_expression_47 rfl ?_
                refine va_get (v := .int (nI o23)) (C := RX12) (T := TX12) (N := 75) (ci := 11) hx hb hts in_X12 hown hK.1 hW.1 0 rfl rfl 12 (by decide) (hts _ q1648) (fun _ h9 => h9) rfl dX12_expression_48 ?_
                refine lv_iconst (v := 1) hx hb dX12_expression_51 (by decide) ?_
                refine lv_iadd hx hb dX12_expression_52 ?_
                refine lv_topi (nm_r (e' := nI (o23 + 1)) (nI_add o23 1) ?_)
                refine z_put (v := .int (nI (o23 + 1))) (C := RX12) (T := TX12) (N := 75) (ci := 11) (wn := (wj [(mw Y ad_m (sA 55 (fun _ => nI n23) (sA 54 x_waits_23 (sA 53 x_codeInt_23 (sA 52 x_code_23 (sA 51 (fun _ => nI c23) (sA 16 (fun _ => nI wp) (sA 15 (fun _ => nI wk) (sA 14 (fun _ => nI ufaultPlace_111) (sA 13 (fun _ => nI ufault_110) (sA 12 (fun _ => nI (o23 + 1)) (sA 11 (fun _ => nI t23) g_m))))))))))) w_m)])) hx hb hts in_X12 tyX12 tyX12_ok nmX12 hown hK.1 hW 0 rfl rfl 12 (by decide) (hts _ q1648) (fun _ h9 => h9) rfl rfl rfl (Nat.le_of_ble_eq_true rfl) dX12_expression_53 rfl (fun H locs hW => ?_)
                refine lv_aload_n hx hb dX12_expression_56 rfl (lv_at hl 2 rfl) ?_
                refine z_callv (wc := wj [(mw Y ad_m (sA 55 (fun _ => nI n23) (sA 54 x_waits_23 (sA 53 x_codeInt_23 (sA 52 x_code_23 (sA 51 (fun _ => nI c23) (sA 16 (fun _ => nI wp) (sA 15 (fun _ => nI wk) (sA 14 (fun _ => nI ufaultPlace_111) (sA 13 (fun _ => nI ufault_110) (sA 12 (fun _ => nI (o23 + 1)) (sA 11 (fun _ => nI t23) g_m))))))))))) w_m)]) (wr := wj []) (va_runV (As := []) (rest := []) ⟨hx, hb, hml, hown, hts⟩ (m_X12_goesOn l D Y ad_m (sA 55 (fun _ => nI n23) (sA 54 x_waits_23 (sA 53 x_codeInt_23 (sA 52 x_code_23 (sA 51 (fun _ => nI c23) (sA 16 (fun _ => nI wp) (sA 15 (fun _ => nI wk) (sA 14 (fun _ => nI ufaultPlace_111) (sA 13 (fun _ => nI ufault_110) (sA 12 (fun _ => nI (o23 + 1)) (sA 11 (fun _ => nI t23) g_m))))))))))) w_m kd pl vl nv (PO.bd X23 (failR 2)) ufault_110 ufaultPlace_111 t23 wk wp H.size (show TKR kd pl vl nv (g_m 5) (g_m 6) (g_m 7) (w_m 8) from by first | assumption | omega | grind) (show FM kd pl (PO.bd X23 (failR 2)) ufault_110 ufaultPlace_111 t23 wk wp from by first | assumption | omega | grind) (show ufault_110 = 0 → kd t23 ≠ 0 ∧ kd t23 ≠ 3 from by intro _; omega)) (cwV 0 hts (lw_V q1917 q1919 qs66 q133 q1920) rfl rfl rfl (by decide +kernel) ⟨Nat.le_of_ble_eq_true rfl, Nat.le_of_ble_eq_true rfl⟩) (zPreV hK hW hR (wj_split3 (B := [(mw Y ad_m (sA 55 (fun _ => nI n23) (sA 54 x_waits_23 (sA 53 x_codeInt_23 (sA 52 x_code_23 (sA 51 (fun _ => nI c23) (sA 16 (fun _ => nI wp) (sA 15 (fun _ => nI wk) (sA 14 (fun _ => nI ufaultPlace_111) (sA 13 (fun _ => nI ufault_110) (sA 12 (fun _ => nI (o23 + 1)) (sA 11 (fun _ => nI t23) g_m))))))))))) w_m)]) (R := []) (C := [(mw Y ad_m (sA 55 (fun _ => nI n23) (sA 54 x_waits_23 (sA 53 x_codeInt_23 (sA 52 x_code_23 (sA 51 (fun _ => nI c23) (sA 16 (fun _ => nI wp) (sA 15 (fun _ => nI wk) (sA 14 (fun _ => nI ufaultPlace_111) (sA 13 (fun _ => nI ufault_110) (sA 12 (fun _ => nI (o23 + 1)) (sA 11 (fun _ => nI t23) g_m))))))))))) w_m)]) (O := []) (X := []) (List.Perm.refl _)) (va_recv hK.1 hW.1 (ci := 11) (q0 := 0) rfl rfl)) rfl rfl hl.1 rfl (lv_room (Nat.le_of_ble_eq_true rfl)) dX12_expression_57 ⟨Nat.le_refl _, Nat.le_refl _⟩) hW hA (wj_split (B := [(mw Y ad_m (sA 55 (fun _ => nI n23) (sA 54 x_waits_23 (sA 53 x_codeInt_23 (sA 52 x_code_23 (sA 51 (fun _ => nI c23) (sA 16 (fun _ => nI wp) (sA 15 (fun _ => nI wk) (sA 14 (fun _ => nI ufaultPlace_111) (sA 13 (fun _ => nI ufault_110) (sA 12 (fun _ => nI (o23 + 1)) (sA 11 (fun _ => nI t23) g_m))))))))))) w_m)]) (C := [(mw Y ad_m (sA 55 (fun _ => nI n23) (sA 54 x_waits_23 (sA 53 x_codeInt_23 (sA 52 x_code_23 (sA 51 (fun _ => nI c23) (sA 16 (fun _ => nI wp) (sA 15 (fun _ => nI wk) (sA 14 (fun _ => nI ufaultPlace_111) (sA 13 (fun _ => nI ufault_110) (sA 12 (fun _ => nI (o23 + 1)) (sA 11 (fun _ => nI t23) g_m))))))))))) w_m)]) (R := []) (List.Perm.refl _)) (fun  u H locs hp_113 hW => ?_)
                obtain ⟨ufault_114, ufaultPlace_115, ut_116⟩ := u
                have hp_113 : FM kd pl (PO.bd (PO.bd X23 (failR 2)) passR) ufault_114 ufaultPlace_115 ut_116 wk wp := hp_113
                have hW : zW D A s.heap H locs (wj [(mw Y ad_m (sA 55 (fun _ => nI n23) (sA 54 x_waits_23 (sA 53 x_codeInt_23 (sA 52 x_code_23 (sA 51 (fun _ => nI c23) (sA 16 (fun _ => nI wp) (sA 15 (fun _ => nI wk) (sA 14 (fun _ => nI ufaultPlace_115) (sA 13 (fun _ => nI ufault_114) (sA 12 (fun _ => nI (o23 + 1)) (sA 11 (fun _ => nI ut_116) g_m))))))))))) w_m)]) := hW.join
                have hbn57 := hp_113.bnd
                refine lv_aload_n hx hb dX12_expression_60 rfl (lv_at hl 2 rfl) ?_
                refine va_get (v := .ref (ad_m 54)) (C := RX12) (T := TX12) (N := 75) (ci := 11) hx hb hts in_X12 hown hK.1 hW.1 0 rfl rfl 54 (by decide) (hts _ q1690) (fun _ h9 => h9) rfl dX12_expression_61 ?_
                refine lv_aload_n hx hb dX12_expression_64 rfl (lv_at hl 2 rfl) ?_
                refine va_get (v := .int (nI n23)) (C := RX12) (T := TX12) (N := 75) (ci := 11) hx hb hts in_X12 hown hK.1 hW.1 0 rfl rfl 55 (by decide) (hts _ q1691) (fun _ h9 => h9) rfl dX12_expression_65 ?_
                refine lv_bipush (v := 6) hx hb dX12_expression_68 (by decide) ?_
                refine z_iast (x := 6) (f := x_waits_23) (j := n23) (wn := (wj [(mw Y ad_m (sA 55 (fun _ => nI n23) (sA 54 (upd x_waits_23 n23 6) (sA 53 x_codeInt_23 (sA 52 x_code_23 (sA 51 (fun _ => nI c23) (sA 16 (fun _ => nI wp) (sA 15 (fun _ => nI wk) (sA 14 (fun _ => nI ufaultPlace_115) (sA 13 (fun _ => nI ufault_114) (sA 12 (fun _ => nI (o23 + 1)) (sA 11 (fun _ => nI ut_116) g_m))))))))))) w_m)])) hx hb hK.1 hW 39 0 rfl rfl (vp_in_nI (n := n23) (by first | exact Nat.lt_of_le_of_lt (by assumption) (by decide) | (as_aux_lemma => omega)) (by decide)) (nI_clamp (n := n23) (by first | exact Nat.lt_of_le_of_lt (by assumption) (by decide) | (as_aux_lemma => omega))) dX12_expression_70 rfl (fun H locs hW => ?_)
                refine lv_aload_n hx hb dX12_expression_71 rfl (lv_at hl 2 rfl) ?_
                refine lv_dup hx hb dX12_expression_72 rfl ?_
                refine va_get (v := .int (nI n23)) (C := RX12) (T := TX12) (N := 75) (ci := 11) hx hb hts in_X12 hown hK.1 hW.1 0 rfl rfl 55 (by decide) (hts _ q1691) (fun _ h9 => h9) rfl dX12_expression_73 ?_
                refine lv_iconst (v := 1) hx hb dX12_expression_76 (by decide) ?_
                refine lv_iadd hx hb dX12_expression_77 ?_
                refine lv_topi (nm_r (e' := nI (n23 + 1)) (nI_add n23 1) ?_)
                refine z_put (v := .int (nI (n23 + 1))) (C := RX12) (T := TX12) (N := 75) (ci := 11) (wn := (wj [(mw Y ad_m (sA 55 (fun _ => nI (n23 + 1)) (sA 54 (upd x_waits_23 n23 6) (sA 53 x_codeInt_23 (sA 52 x_code_23 (sA 51 (fun _ => nI c23) (sA 16 (fun _ => nI wp) (sA 15 (fun _ => nI wk) (sA 14 (fun _ => nI ufaultPlace_115) (sA 13 (fun _ => nI ufault_114) (sA 12 (fun _ => nI (o23 + 1)) (sA 11 (fun _ => nI ut_116) g_m))))))))))) w_m)])) hx hb hts in_X12 tyX12 tyX12_ok nmX12 hown hK.1 hW 0 rfl rfl 55 (by decide) (hts _ q1691) (fun _ h9 => h9) rfl rfl rfl (Nat.le_of_ble_eq_true rfl) dX12_expression_78 rfl (fun H locs hW => ?_)
                refine lv_goto (tgt := 23) hx hb dX12_expression_81 (by decide) ?_
                obtain ⟨s1, hX1, a1, -, a3, -⟩ := hF23.ok (by as_aux_lemma => omega)
                have hF1 := hF23.oke hX1
                have hlA := hle23.1 hF1.sv.1
                have hoA := ho623 hF1.sv.1
                have hRX1 := hRX23.oke hX1
                have hk6 : kd (PS.at_ s1) = 6 := by rw [← a1]; omega
                have eX : (PO.bd (PO.bd X23 (failR 2)) passR) = Except.error (2, PS.at_ s1) := by rw [hX1]; rfl
                have H9 := hp_113
                rw [eX] at H9
                have hst : 1 ≤ ufault_114 ∧ ut_116 ≤ 400 := ⟨H9.2.2.2.2.2.2.1, H9.1⟩
                exact ih_23 x_code_23 x_codeInt_23 (upd x_waits_23 n23 6) ufault_114 ufaultPlace_115 ut_116 (o23 + 1) (n23 + 1) c23 (PO.bd (PO.bd X23 (failR 2)) passR) (6 :: W23) E23 (by as_aux_lemma => omega) (by exact hp_113) (by rw [eX]; exact hRX1.sopen6 hk6 (by as_aux_lemma => omega) _ _ _) (by exact fun z => by have := hmo23 hF1.sv.1; omega) (by rw [List.length_cons]; omega) (by exact ⟨hwf23, Or.inl rfl⟩) (by rw [cnt6_cons, if_pos rfl]; omega) (by as_aux_lemma => omega) (by exact fun z => by omega) (by rw [hnw23]; exact hWA23.push 6) (by exact hCD23) (by exact hce23) (by rw [List.length_cons]; exact ⟨fun z => by omega, by omega⟩) (by exact hl123) (by exact hl223) (by exact hk123) (by exact hk223) _ _ hW _ (lv_sub hl [0, 1, 2] rfl)
        exact loop_23 _ x_code_12 x_codeInt_12 x_waits_12 f12 q12 t12 o12 n12 c12 X12 W12 E12 (Nat.lt_succ_self _) (by exact hF12) (by exact hRX12) (by exact fun _ => Nat.le_refl _) (by as_aux_lemma => omega) (by exact hwf12) (by exact hcn12) (by as_aux_lemma => omega) (by exact ho612) (by exact hWA12) (by exact hCD12) (by exact hce12) (by exact hle12) (by exact hl112) (by exact hl212) (by exact hk112) (by exact hk212) _ _ hW _ (lv_sub hl [0, 1, 2] rfl)
  exact loop_12 _ (g_m 52) (g_m 53) (g_m 54) fl fp tt op 0 cs x ([] : List Nat) ([] : RPN) (Nat.lt_succ_self _) (by exact hFM) (by intro s0 h0; have e : op = 0 := hop (hFM.oke h0).sv.1; rw [h0, e]; exact RX.init s0) (by exact fun e h => h) (by rfl) (by trivial) (by simp [cnt6]) (by as_aux_lemma => omega) (by exact fun z => by omega) (by exact fun i w h => by simp at h) (by exact CODE.nil _ _ _) (by rfl) (by exact ⟨fun _ => by simp, by simp; omega⟩) (by exact LOW.refl _ _) (by exact LOW.refl _ _) (by exact KI.refl _ _) (by exact KI.refl _ _) _ _ hW _ (lv_sub hl [0, 1, 2] rfl)
