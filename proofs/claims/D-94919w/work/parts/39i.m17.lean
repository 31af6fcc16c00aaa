/-! the model reads sums -/
set_option maxRecDepth 100000
set_option maxHeartbeats 1000000 in
set_option maxRecDepth 100000 in
theorem m_X12_emit (l : Launch) (D : va_G) (Y : Nat → ClassId) (ad_m : Nat → Nat) (g_m : Nat → Nat → Int32) (w_m : Nat → Nat → Int64) (kk : Nat) (vv : Int32) (cs : Nat) (sz : Nat) (hcs : cs < 840) : Met l yX12_emit (ws_ yX12_emit cX12_emit 3 none) ({ frames := 1, cells := 0, slots := 0, locals := 12 }) (zPc D Y [.ref (ad_m 0), .int (nI kk), .int vv] sz (wj []) (wj [(mw Y ad_m (sA 51 (fun _ => nI cs) g_m) w_m)])) (va_Qv (fun (u : (Nat) × (Nat → Int32) × (Nat → Int32)) => u.1 = cs + 1 ∧ u.2.1 = upd (g_m 52) cs (nI kk) ∧ u.2.2 = upd (g_m 53) cs vv) (zB D (fun (u : (Nat) × (Nat → Int32) × (Nat → Int32)) => (wj [(mw Y ad_m (sA 53 u.2.2 (sA 52 u.2.1 (sA 51 (fun _ => nI u.1) g_m))) w_m)])) (va_A (wj [(mw Y ad_m (sA 51 (fun _ => nI cs) g_m) w_m)]) sz)) (va_A (wj [(mw Y ad_m (sA 51 (fun _ => nI cs) g_m) w_m)]) sz)) 0 0 (va_A (wj [(mw Y ad_m (sA 51 (fun _ => nI cs) g_m) w_m)]) sz) := by
  refine Met.ofW (cc := cX12_emit) (maxL := 3) (ret := none) (by decide) rfl ?_
  intro p e s m args below meth c s₁ B hml hv
  obtain ⟨rfl, hsz, hW, hR, hK, hA⟩ := zEntry hv
  subst hsz
  have hx := B.exec
  have hb := B.bytes
  have hr := B.returns
  have hlocks := B.notSynchronized
  have hts : ∀ w ∈ lw_all, w.before _ s = true := fun w h => atoms_spec (ws := (ws_ yX12_emit cX12_emit 3 none)) B.pre w (List.mem_cons_of_mem _ h)
  have hown : s.vm.findClass RX12 = some m.cls := findClass_of_methodNamed B.named
  generalize hAe : va_A (wj [(mw Y ad_m (sA 51 (fun _ => nI cs) g_m) w_m)]) s.heap.size = A at hW hR hA ⊢
  have hl := lv_entry ([.ref (ad_m 0), .int (nI kk), .int vv]) (n := 3) (Nat.le_of_ble_eq_true rfl)
  rw [lg_entry_eq]
  generalize (lg_sl ([.ref (ad_m 0), .int (nI kk), .int vv]) ++ List.replicate (3 - (lg_sl ([.ref (ad_m 0), .int (nI kk), .int vv])).length) Slot.unset).toArray = ls at hl ⊢
  have hl : lv_has ls 3 [(0, .ref (ad_m 0)), (1, .int (nI kk)), (2, .int vv)] := hl
  refine lv_aload_n hx hb dX12_emit_0 rfl (lv_at hl 0 rfl) ?_
  refine va_get (v := .ref (ad_m 52)) (C := RX12) (T := TX12) (N := 75) (ci := 11) hx hb hts in_X12 hown hK.1 hW.1 0 rfl rfl 52 (by decide) (hts _ q1688) (fun _ h9 => h9) rfl dX12_emit_1 ?_
  refine lv_aload_n hx hb dX12_emit_4 rfl (lv_at hl 0 rfl) ?_
  refine va_get (v := .int (nI cs)) (C := RX12) (T := TX12) (N := 75) (ci := 11) hx hb hts in_X12 hown hK.1 hW.1 0 rfl rfl 51 (by decide) (hts _ q1687) (fun _ h9 => h9) rfl dX12_emit_5 ?_
  refine lv_iload_n hx hb dX12_emit_8 rfl (lv_at hl 1 rfl) ?_
  refine z_iast (x := nI kk) (f := g_m 52) (j := cs) (wn := (wj [(mw Y ad_m (sA 52 (upd (g_m 52) cs (nI kk)) (sA 51 (fun _ => nI cs) g_m)) w_m)])) hx hb hK.1 hW 37 0 rfl rfl (vp_in_nI (n := cs) (by omega) (by decide)) (nI_clamp (n := cs) (by omega)) dX12_emit_9 rfl (fun H locs hW => ?_)
  refine lv_aload_n hx hb dX12_emit_10 rfl (lv_at hl 0 rfl) ?_
  refine va_get (v := .ref (ad_m 53)) (C := RX12) (T := TX12) (N := 75) (ci := 11) hx hb hts in_X12 hown hK.1 hW.1 0 rfl rfl 53 (by decide) (hts _ q1689) (fun _ h9 => h9) rfl dX12_emit_11 ?_
  refine lv_aload_n hx hb dX12_emit_14 rfl (lv_at hl 0 rfl) ?_
  refine va_get (v := .int (nI cs)) (C := RX12) (T := TX12) (N := 75) (ci := 11) hx hb hts in_X12 hown hK.1 hW.1 0 rfl rfl 51 (by decide) (hts _ q1687) (fun _ h9 => h9) rfl dX12_emit_15 ?_
  refine lv_iload_n hx hb dX12_emit_18 rfl (lv_at hl 2 rfl) ?_
  refine z_iast (x := vv) (f := g_m 53) (j := cs) (wn := (wj [(mw Y ad_m (sA 53 (upd (g_m 53) cs vv) (sA 52 (upd (g_m 52) cs (nI kk)) (sA 51 (fun _ => nI cs) g_m))) w_m)])) hx hb hK.1 hW 38 0 rfl rfl (vp_in_nI (n := cs) (by omega) (by decide)) (nI_clamp (n := cs) (by omega)) dX12_emit_19 rfl (fun H locs hW => ?_)
  refine lv_aload_n hx hb dX12_emit_20 rfl (lv_at hl 0 rfl) ?_
  refine lv_dup hx hb dX12_emit_21 rfl ?_
  refine va_get (v := .int (nI cs)) (C := RX12) (T := TX12) (N := 75) (ci := 11) hx hb hts in_X12 hown hK.1 hW.1 0 rfl rfl 51 (by decide) (hts _ q1687) (fun _ h9 => h9) rfl dX12_emit_22 ?_
  refine lv_iconst (v := 1) hx hb dX12_emit_25 (by decide) ?_
  refine lv_iadd hx hb dX12_emit_26 ?_
  refine lv_topi (nm_r (e' := nI (cs + 1)) (nI_add cs 1) ?_)
  refine z_put (v := .int (nI (cs + 1))) (C := RX12) (T := TX12) (N := 75) (ci := 11) (wn := (wj [(mw Y ad_m (sA 53 (upd (g_m 53) cs vv) (sA 52 (upd (g_m 52) cs (nI kk)) (sA 51 (fun _ => nI (cs + 1)) g_m))) w_m)])) hx hb hts in_X12 tyX12 tyX12_ok nmX12 hown hK.1 hW 0 rfl rfl 51 (by decide) (hts _ q1687) (fun _ h9 => h9) rfl rfl rfl (Nat.le_of_ble_eq_true rfl) dX12_emit_27 rfl (fun H locs hW => ?_)
  refine z_vret ((cs + 1, upd (g_m 52) cs (nI kk), upd (g_m 53) cs vv) : (Nat) × (Nat → Int32) × (Nat → Int32)) hx hb hr hlocks hW rfl dX12_emit_30 ?_
  show (cs + 1) = cs + 1 ∧ (upd (g_m 52) cs (nI kk)) = upd (g_m 52) cs (nI kk) ∧ (upd (g_m 53) cs vv) = upd (g_m 53) cs vv
  exact ⟨rfl, rfl, rfl⟩
/-- but for a half of 420 they are as they were -/
def KI (a : Nat) (X X' : Nat → Int32) : Prop := ∀ j, (j < a ∨ a + 420 ≤ j) → X' j = X j
theorem KI.refl (a : Nat) (X : Nat → Int32) : KI a X X := fun _ _ => rfl
theorem KI.trans {a : Nat} {X Y Z : Nat → Int32} (h : KI a X Y) (h2 : KI a Y Z) : KI a X Z := fun j hj => (h2 j hj).trans (h j hj)
theorem KI.put {a j : Nat} {X Y : Nat → Int32} (h : KI a X Y) (hj : a ≤ j ∧ j < a + 420) (v : Int32) : KI a X (upd Y j v) := fun i hi => by rw [u_n _ _ (by omega)]; exact h i hi
set_option maxHeartbeats 1000000 in
set_option maxRecDepth 100000 in
theorem m_X12_comesOut_0 (l : Launch) (D : va_G) (Y : Nat → ClassId) (ad_m : Nat → Nat) (g_m : Nat → Nat → Int32) (w_m : Nat → Nat → Int64) (nw : Nat) (cs : Nat) (c0 : Nat) (ha_ : Nat) (Wt : List Nat) (Et : RPN) (sz : Nat) (hnw : nw = (Wt).length) (h64 : nw ≤ 64) (hcs : cs = c0 + (Et).length) (hlim : cs + nw ≤ ha_ + 420 ∧ ha_ ≤ c0 ∧ (ha_ = 420 * 0 ∨ ha_ = 420 * 1)) (hok : okW Wt) (hWA : WAT (g_m 54) Wt) (hCD : CODE (g_m 52) (g_m 53) c0 Et) : Met l yX12_comesOut (ws_ yX12_comesOut cX12_comesOut 3 none) ({ frames := 2, cells := 0, slots := 0, locals := 34 }) (zPc D Y [.ref (ad_m 0), .int 0] sz (wj []) (wj [(mw Y ad_m (sA 55 (fun _ => nI nw) (sA 51 (fun _ => nI cs) g_m)) w_m)])) (va_Qv (fun (u : (Nat) × (Nat) × (Nat → Int32) × (Nat → Int32)) => u.1 = (outW false Wt Et).1.length ∧ u.2.1 = c0 + (outW false Wt Et).2.length ∧ WAT (g_m 54) (outW false Wt Et).1 ∧ CODE u.2.2.1 u.2.2.2 c0 (outW false Wt Et).2 ∧ LOW cs (g_m 52) u.2.2.1 ∧ LOW cs (g_m 53) u.2.2.2 ∧ KI ha_ (g_m 52) u.2.2.1 ∧ KI ha_ (g_m 53) u.2.2.2) (zB D (fun (u : (Nat) × (Nat) × (Nat → Int32) × (Nat → Int32)) => (wj [(mw Y ad_m (sA 55 (fun _ => nI u.1) (sA 53 u.2.2.2 (sA 52 u.2.2.1 (sA 51 (fun _ => nI u.2.1) g_m)))) w_m)])) (va_A (wj [(mw Y ad_m (sA 55 (fun _ => nI nw) (sA 51 (fun _ => nI cs) g_m)) w_m)]) sz)) (va_A (wj [(mw Y ad_m (sA 55 (fun _ => nI nw) (sA 51 (fun _ => nI cs) g_m)) w_m)]) sz)) 0 0 (va_A (wj [(mw Y ad_m (sA 55 (fun _ => nI nw) (sA 51 (fun _ => nI cs) g_m)) w_m)]) sz) := by
  refine Met.ofW (cc := cX12_comesOut) (maxL := 3) (ret := none) (by decide) rfl ?_
  intro p e s m args below meth c s₁ B hml hv
  obtain ⟨rfl, hsz, hW, hR, hK, hA⟩ := zEntry hv
  subst hsz
  have hx := B.exec
  have hb := B.bytes
  have hr := B.returns
  have hlocks := B.notSynchronized
  have hts : ∀ w ∈ lw_all, w.before _ s = true := fun w h => atoms_spec (ws := (ws_ yX12_comesOut cX12_comesOut 3 none)) B.pre w (List.mem_cons_of_mem _ h)
  have hown : s.vm.findClass RX12 = some m.cls := findClass_of_methodNamed B.named
  generalize hAe : va_A (wj [(mw Y ad_m (sA 55 (fun _ => nI nw) (sA 51 (fun _ => nI cs) g_m)) w_m)]) s.heap.size = A at hW hR hA ⊢
  have hl := lv_entry ([.ref (ad_m 0), .int 0]) (n := 3) (Nat.le_of_ble_eq_true rfl)
  rw [lg_entry_eq]
  generalize (lg_sl ([.ref (ad_m 0), .int 0]) ++ List.replicate (3 - (lg_sl ([.ref (ad_m 0), .int 0])).length) Slot.unset).toArray = ls at hl ⊢
  have hl : lv_has ls 3 [(0, .ref (ad_m 0)), (1, .int 0)] := hl
  have loop_0 : ∀ (n : Nat) (x_code_0 : Nat → Int32) (x_codeInt_0 : Nat → Int32) (nw1 : Nat) (cs1 : Nat) (W_1 : List Nat) (E_1 : RPN), nw1 + 1 < n → (nw1 = W_1.length) → (nw1 ≤ 64) → (cs1 = c0 + E_1.length) → (cs1 + nw1 ≤ ha_ + 420 ∧ cs ≤ cs1) → (okW W_1) → (WAT (g_m 54) W_1) → (CODE x_code_0 x_codeInt_0 c0 E_1) → (outW false Wt Et = outW false W_1 E_1) → (LOW cs (g_m 52) x_code_0) → (LOW cs (g_m 53) x_codeInt_0) → (KI ha_ (g_m 52) x_code_0) → (KI ha_ (g_m 53) x_codeInt_0) → ∀ (H : Heap) (locs : List Loc), zW D A s.heap H locs (wj [(mw Y ad_m (sA 55 (fun _ => nI nw1) (sA 53 x_codeInt_0 (sA 52 x_code_0 (sA 51 (fun _ => nI cs1) g_m)))) w_m)]) → ∀ (ls : Array Slot), lv_has ls 3 [(0, .ref (ad_m 0)), (1, .int 0)] → W p l e (headSpec (ws_ yX12_comesOut cX12_comesOut 3 none) ({ frames := 2, cells := 0, slots := 0, locals := 34 })).room s m ([.ref (ad_m 0), .int 0] : List Value).toArray below meth c H locs 0 0 (MQ below (va_Qv (fun (u : (Nat) × (Nat) × (Nat → Int32) × (Nat → Int32)) => u.1 = (outW false Wt Et).1.length ∧ u.2.1 = c0 + (outW false Wt Et).2.length ∧ WAT (g_m 54) (outW false Wt Et).1 ∧ CODE u.2.2.1 u.2.2.2 c0 (outW false Wt Et).2 ∧ LOW cs (g_m 52) u.2.2.1 ∧ LOW cs (g_m 53) u.2.2.2 ∧ KI ha_ (g_m 52) u.2.2.1 ∧ KI ha_ (g_m 53) u.2.2.2) (zB D (fun (u : (Nat) × (Nat) × (Nat → Int32) × (Nat → Int32)) => (wj [(mw Y ad_m (sA 55 (fun _ => nI u.1) (sA 53 u.2.2.2 (sA 52 u.2.2.1 (sA 51 (fun _ => nI u.2.1) g_m)))) w_m)])) A) A) ([.ref (ad_m 0), .int 0] : List Value).toArray s 0 0 A) (F0 m 0 ls []) := by
    intro n
    induction n with
    | zero =>
      intro x_code_0 x_codeInt_0 nw1 cs1 W_1 E_1 hmz
      exact absurd hmz (Nat.not_lt_zero _)
    | succ n ih =>
      intro x_code_0 x_codeInt_0 nw1 cs1 W_1 E_1 hm_0 hnw h64 hcs1 hlim1 hok hWA hCD hO hl1 hl2 hk1 hk2 H locs hW ls hl
      have ih_0 := ih
      clear ih
      refine lv_aload_n hx hb dX12_comesOut_0 rfl (lv_at hl 0 rfl) ?_
      refine va_get (v := .int (nI nw1)) (C := RX12) (T := TX12) (N := 75) (ci := 11) hx hb hts in_X12 hown hK.1 hW.1 0 rfl rfl 55 (by decide) (hts _ q1691) (fun _ h9 => h9) rfl dX12_comesOut_1 ?_
      refine lv_if_le (tgt := 91) hx hb dX12_comesOut_4 (by decide) (fun c_1 => ?_) (fun c_1 => ?_)
      · have c_1 : nw1 ≤ 0 := (nI_leI (a := nw1) (b := 0) (by omega) (by omega)).mp c_1
        refine z_vret ((nw1, cs1, x_code_0, x_codeInt_0) : (Nat) × (Nat) × (Nat → Int32) × (Nat → Int32)) hx hb hr hlocks hW rfl dX12_comesOut_91 ?_
        show nw1 = (outW false Wt Et).1.length ∧ cs1 = c0 + (outW false Wt Et).2.length ∧ WAT (g_m 54) (outW false Wt Et).1 ∧ CODE x_code_0 x_codeInt_0 c0 (outW false Wt Et).2 ∧ LOW cs (g_m 52) x_code_0 ∧ LOW cs (g_m 53) x_codeInt_0 ∧ KI ha_ (g_m 52) x_code_0 ∧ KI ha_ (g_m 53) x_codeInt_0
        have hst : outW false W_1 E_1 = (W_1, E_1) := by
          cases W_1 with
          | nil => rfl
          | cons w V => simp at hnw; omega
        rw [hO, hst]; exact ⟨hnw, hcs1, hWA, hCD, hl1, hl2, hk1, hk2⟩
      · have c_1 : ¬ (nw1 ≤ 0) := fun hz_ => c_1 ((nI_leI (a := nw1) (b := 0) (by omega) (by omega)).mpr hz_)
        obtain ⟨w0, V, hWe⟩ : ∃ w V, W_1 = w :: V := by
          cases W_1 with
          | nil => simp at hnw; omega
          | cons w V => exact ⟨w, V, rfl⟩
        have hlV : W_1.length = V.length + 1 := by rw [hWe]; rfl
        have hw0 := hok w0 (by rw [hWe]; exact List.mem_cons_self)
        refine lv_aload_n hx hb dX12_comesOut_7 rfl (lv_at hl 0 rfl) ?_
        refine va_get (v := .ref (ad_m 54)) (C := RX12) (T := TX12) (N := 75) (ci := 11) hx hb hts in_X12 hown hK.1 hW.1 0 rfl rfl 54 (by decide) (hts _ q1690) (fun _ h9 => h9) rfl dX12_comesOut_8 ?_
        refine lv_aload_n hx hb dX12_comesOut_11 rfl (lv_at hl 0 rfl) ?_
        refine va_get (v := .int (nI nw1)) (C := RX12) (T := TX12) (N := 75) (ci := 11) hx hb hts in_X12 hown hK.1 hW.1 0 rfl rfl 55 (by decide) (hts _ q1691) (fun _ h9 => h9) rfl dX12_comesOut_12 ?_
        refine lv_iconst (v := 1) hx hb dX12_comesOut_15 (by decide) ?_
        refine lv_isub hx hb dX12_comesOut_16 ?_
        refine lv_topi (nm_r (e' := nI (nw1 - 1)) (pk_sub (a := nw1) (b := 1) (by omega)) ?_)
        refine z_iald (v := nI w0) (f := g_m 54) (j := nw1 - 1) hx hb hK.1 hW.1 39 0 rfl rfl (vp_in_nI (n := nw1 - 1) (by omega) (by decide)) (nI_clamp (n := nw1 - 1) (by omega)) (show (g_m 54) (nw1 - 1) = nI w0 from by rw [hnw, hWe]; rw [hWe] at hWA; exact hWA.top) dX12_comesOut_17 ?_
        refine lv_istore_n (lv' := [(2, .int (nI w0)), (0, .ref (ad_m 0)), (1, .int 0)]) hx hb dX12_comesOut_18 rfl hl (by decide) rfl (fun ls hl => ?_)
        refine lv_iload_n hx hb dX12_comesOut_19 rfl (lv_at hl 0 rfl) ?_
        refine lv_bipush (v := 6) hx hb dX12_comesOut_20 (by decide) ?_
        refine lv_icmp_eq (tgt := 41) hx hb dX12_comesOut_22 (by decide) (fun c_2 => ?_) (fun c_2 => ?_)
        · have c_2 : w0 = 6 := (nI_eq (a := w0) (b := 6) (by omega) (by omega)).mp c_2
          refine z_vret ((nw1, cs1, x_code_0, x_codeInt_0) : (Nat) × (Nat) × (Nat → Int32) × (Nat → Int32)) hx hb hr hlocks hW rfl dX12_comesOut_41 ?_
          show nw1 = (outW false Wt Et).1.length ∧ cs1 = c0 + (outW false Wt Et).2.length ∧ WAT (g_m 54) (outW false Wt Et).1 ∧ CODE x_code_0 x_codeInt_0 c0 (outW false Wt Et).2 ∧ LOW cs (g_m 52) x_code_0 ∧ LOW cs (g_m 53) x_codeInt_0 ∧ KI ha_ (g_m 52) x_code_0 ∧ KI ha_ (g_m 53) x_codeInt_0
          have hst : outW false W_1 E_1 = (W_1, E_1) := by rw [hWe]; show (if w0 = 6 ∨ (false = true ∧ (w0 = 8 ∨ w0 = 9)) then _ else _) = _; rw [if_pos (by left; omega)]
          rw [hO, hst]; exact ⟨hnw, hcs1, hWA, hCD, hl1, hl2, hk1, hk2⟩
        · have c_2 : ¬ (w0 = 6) := fun hz_ => c_2 ((nI_eq (a := w0) (b := 6) (by omega) (by omega)).mpr hz_)
          refine lv_iload_n hx hb dX12_comesOut_25 rfl (lv_at hl 2 rfl) ?_
          refine lv_if_eq (tgt := 42) hx hb dX12_comesOut_26 (by decide) (fun c_3 => ?_) (fun c_3 => by first | exact absurd c_3 (by decide) | exact absurd (by decide) c_3)
          have hst : outW false W_1 E_1 = outW false V (E_1 ++ [(opK w0, 0)]) := by rw [hWe]; show (if w0 = 6 ∨ (false = true ∧ (w0 = 8 ∨ w0 = 9)) then _ else _) = _; rw [if_neg (by rintro (z | z); omega; exact absurd z.1 (by decide))]
          refine lv_aload_n hx hb dX12_comesOut_42 rfl (lv_at hl 1 rfl) ?_
          refine lv_dup hx hb dX12_comesOut_43 rfl ?_
          refine va_get (v := .int (nI nw1)) (C := RX12) (T := TX12) (N := 75) (ci := 11) hx hb hts in_X12 hown hK.1 hW.1 0 rfl rfl 55 (by decide) (hts _ q1691) (fun _ h9 => h9) rfl dX12_comesOut_44 ?_
          refine lv_iconst (v := 1) hx hb dX12_comesOut_47 (by decide) ?_
          refine lv_isub hx hb dX12_comesOut_48 ?_
          refine lv_topi (nm_r (e' := nI (nw1 - 1)) (pk_sub (a := nw1) (b := 1) (by omega)) ?_)
          refine z_put (v := .int (nI (nw1 - 1))) (C := RX12) (T := TX12) (N := 75) (ci := 11) (wn := (wj [(mw Y ad_m (sA 55 (fun _ => nI (nw1 - 1)) (sA 53 x_codeInt_0 (sA 52 x_code_0 (sA 51 (fun _ => nI cs1) g_m)))) w_m)])) hx hb hts in_X12 tyX12 tyX12_ok nmX12 hown hK.1 hW 0 rfl rfl 55 (by decide) (hts _ q1691) (fun _ h9 => h9) rfl rfl rfl (Nat.le_of_ble_eq_true rfl) dX12_comesOut_49 rfl (fun H locs hW => ?_)
          refine lv_aload_n hx hb dX12_comesOut_52 rfl (lv_at hl 1 rfl) ?_
          refine lv_iload_n hx hb dX12_comesOut_53 rfl (lv_at hl 0 rfl) ?_
          refine lv_bipush (v := 8) hx hb dX12_comesOut_54 (by decide) ?_
          refine lv_icmp_ne (tgt := 63) hx hb dX12_comesOut_56 (by decide) (fun c_4 => ?_) (fun c_4 => ?_)
          · have c_4 : ¬ (w0 = 8) := fun hz_ => c_4 ((nI_eq (a := w0) (b := 8) (by omega) (by omega)).mpr hz_)
            refine lv_iload_n hx hb dX12_comesOut_63 rfl (lv_at hl 0 rfl) ?_
            refine lv_bipush (v := 9) hx hb dX12_comesOut_64 (by decide) ?_
            refine lv_icmp_ne (tgt := 73) hx hb dX12_comesOut_66 (by decide) (fun c_5 => ?_) (fun c_5 => ?_)
            · have c_5 : ¬ (w0 = 9) := fun hz_ => c_5 ((nI_eq (a := w0) (b := 9) (by omega) (by omega)).mpr hz_)
              refine lv_iload_n hx hb dX12_comesOut_73 rfl (lv_at hl 0 rfl) ?_
              refine lv_bipush (v := 10) hx hb dX12_comesOut_74 (by decide) ?_
              refine lv_icmp_ne (tgt := 83) hx hb dX12_comesOut_76 (by decide) (fun c_6 => ?_) (fun c_6 => ?_)
              · have c_6 : ¬ (w0 = 10) := fun hz_ => c_6 ((nI_eq (a := w0) (b := 10) (by omega) (by omega)).mpr hz_)
                refine lv_iconst (v := 5) hx hb dX12_comesOut_83 (by decide) ?_
                refine lv_iconst (v := 0) hx hb dX12_comesOut_84 (by decide) ?_
                refine z_callv (wc := wj [(mw Y ad_m (sA 55 (fun _ => nI (nw1 - 1)) (sA 53 x_codeInt_0 (sA 52 x_code_0 (sA 51 (fun _ => nI cs1) g_m)))) w_m)]) (wr := wj []) (va_runV (As := [.int 5, .int 0]) (rest := []) ⟨hx, hb, hml, hown, hts⟩ (m_X12_emit l D Y ad_m (sA 55 (fun _ => nI (nw1 - 1)) (sA 53 x_codeInt_0 (sA 52 x_code_0 (sA 51 (fun _ => nI cs1) g_m)))) w_m 5 0 cs1 H.size (show cs1 < 840 from by first | assumption | omega | grind)) (cwV 2 hts (lw_V q1973 q1975 qs80 q133 q1976) rfl rfl rfl (by decide +kernel) ⟨Nat.le_of_ble_eq_true rfl, Nat.le_of_ble_eq_true rfl⟩) (zPreV hK hW hR (wj_split3 (B := [(mw Y ad_m (sA 55 (fun _ => nI (nw1 - 1)) (sA 53 x_codeInt_0 (sA 52 x_code_0 (sA 51 (fun _ => nI cs1) g_m)))) w_m)]) (R := []) (C := [(mw Y ad_m (sA 55 (fun _ => nI (nw1 - 1)) (sA 53 x_codeInt_0 (sA 52 x_code_0 (sA 51 (fun _ => nI cs1) g_m)))) w_m)]) (O := []) (X := []) (List.Perm.refl _)) (va_recv hK.1 hW.1 (ci := 11) (q0 := 0) rfl rfl)) rfl rfl hl.1 rfl (lv_room (Nat.le_of_ble_eq_true rfl)) dX12_comesOut_85 ⟨Nat.le_refl _, Nat.le_refl _⟩) hW hA (wj_split (B := [(mw Y ad_m (sA 55 (fun _ => nI (nw1 - 1)) (sA 53 x_codeInt_0 (sA 52 x_code_0 (sA 51 (fun _ => nI cs1) g_m)))) w_m)]) (C := [(mw Y ad_m (sA 55 (fun _ => nI (nw1 - 1)) (sA 53 x_codeInt_0 (sA 52 x_code_0 (sA 51 (fun _ => nI cs1) g_m)))) w_m)]) (R := []) (List.Perm.refl _)) (fun  u H locs hp_8 hW => ?_)
                obtain ⟨ucodes_9, ucode_10, ucodeInt_11⟩ := u
                have hp_8 : ucodes_9 = cs1 + 1 ∧ ucode_10 = upd x_code_0 cs1 (nI 5) ∧ ucodeInt_11 = upd x_codeInt_0 cs1 0 := hp_8
                have hW : zW D A s.heap H locs (wj [(mw Y ad_m (sA 55 (fun _ => nI (nw1 - 1)) (sA 53 ucodeInt_11 (sA 52 ucode_10 (sA 51 (fun _ => nI ucodes_9) g_m)))) w_m)]) := hW.join
                obtain ⟨ec1, ec2, ec3⟩ := hp_8
                refine lv_goto (tgt := 0) hx hb dX12_comesOut_88 (by decide) ?_
                exact ih_0 ucode_10 ucodeInt_11 (nw1 - 1) ucodes_9 V (E_1 ++ [(opK w0, 0)]) (by omega) (by omega) (by omega) (by rw [List.length_append]; show _ = c0 + (E_1.length + 1); omega) (by omega) (by exact fun v hv => hok v (by rw [hWe]; exact List.mem_cons_of_mem _ hv)) (by rw [hWe] at hWA; exact hWA.tail) (by rw [ec2, ec3, hcs1]; have := hCD.snoc (opK w0) 0; rwa [show opK w0 = 5 from by unfold opK; split <;> (try omega) <;> (split <;> (try omega) <;> (split <;> omega))] at this ⊢) (by rw [hO, hst]) (by rw [ec2]; exact hl1.put (by omega) _) (by rw [ec3]; exact hl2.put (by omega) _) (by rw [ec2]; exact hk1.put (by omega) _) (by rw [ec3]; exact hk2.put (by omega) _) _ _ hW _ (lv_sub hl [1, 2] rfl)
              · have c_6 : w0 = 10 := (nI_eq (a := w0) (b := 10) (by omega) (by omega)).mp c_6
                refine lv_iconst (v := 4) hx hb dX12_comesOut_79 (by decide) ?_
                refine lv_goto (tgt := 84) hx hb dX12_comesOut_80 (by decide) ?_
                refine lv_iconst (v := 0) hx hb dX12_comesOut_84 (by decide) ?_
                refine z_callv (wc := wj [(mw Y ad_m (sA 55 (fun _ => nI (nw1 - 1)) (sA 53 x_codeInt_0 (sA 52 x_code_0 (sA 51 (fun _ => nI cs1) g_m)))) w_m)]) (wr := wj []) (va_runV (As := [.int 4, .int 0]) (rest := []) ⟨hx, hb, hml, hown, hts⟩ (m_X12_emit l D Y ad_m (sA 55 (fun _ => nI (nw1 - 1)) (sA 53 x_codeInt_0 (sA 52 x_code_0 (sA 51 (fun _ => nI cs1) g_m)))) w_m 4 0 cs1 H.size (show cs1 < 840 from by first | assumption | omega | grind)) (cwV 2 hts (lw_V q1973 q1975 qs80 q133 q1976) rfl rfl rfl (by decide +kernel) ⟨Nat.le_of_ble_eq_true rfl, Nat.le_of_ble_eq_true rfl⟩) (zPreV hK hW hR (wj_split3 (B := [(mw Y ad_m (sA 55 (fun _ => nI (nw1 - 1)) (sA 53 x_codeInt_0 (sA 52 x_code_0 (sA 51 (fun _ => nI cs1) g_m)))) w_m)]) (R := []) (C := [(mw Y ad_m (sA 55 (fun _ => nI (nw1 - 1)) (sA 53 x_codeInt_0 (sA 52 x_code_0 (sA 51 (fun _ => nI cs1) g_m)))) w_m)]) (O := []) (X := []) (List.Perm.refl _)) (va_recv hK.1 hW.1 (ci := 11) (q0 := 0) rfl rfl)) rfl rfl hl.1 rfl (lv_room (Nat.le_of_ble_eq_true rfl)) dX12_comesOut_85 ⟨Nat.le_refl _, Nat.le_refl _⟩) hW hA (wj_split (B := [(mw Y ad_m (sA 55 (fun _ => nI (nw1 - 1)) (sA 53 x_codeInt_0 (sA 52 x_code_0 (sA 51 (fun _ => nI cs1) g_m)))) w_m)]) (C := [(mw Y ad_m (sA 55 (fun _ => nI (nw1 - 1)) (sA 53 x_codeInt_0 (sA 52 x_code_0 (sA 51 (fun _ => nI cs1) g_m)))) w_m)]) (R := []) (List.Perm.refl _)) (fun  u H locs hp_13 hW => ?_)
                obtain ⟨ucodes_14, ucode_15, ucodeInt_16⟩ := u
                have hp_13 : ucodes_14 = cs1 + 1 ∧ ucode_15 = upd x_code_0 cs1 (nI 4) ∧ ucodeInt_16 = upd x_codeInt_0 cs1 0 := hp_13
                have hW : zW D A s.heap H locs (wj [(mw Y ad_m (sA 55 (fun _ => nI (nw1 - 1)) (sA 53 ucodeInt_16 (sA 52 ucode_15 (sA 51 (fun _ => nI ucodes_14) g_m)))) w_m)]) := hW.join
                obtain ⟨ec1, ec2, ec3⟩ := hp_13
                refine lv_goto (tgt := 0) hx hb dX12_comesOut_88 (by decide) ?_
                exact ih_0 ucode_15 ucodeInt_16 (nw1 - 1) ucodes_14 V (E_1 ++ [(opK w0, 0)]) (by omega) (by omega) (by omega) (by rw [List.length_append]; show _ = c0 + (E_1.length + 1); omega) (by omega) (by exact fun v hv => hok v (by rw [hWe]; exact List.mem_cons_of_mem _ hv)) (by rw [hWe] at hWA; exact hWA.tail) (by rw [ec2, ec3, hcs1]; have := hCD.snoc (opK w0) 0; rwa [show opK w0 = 4 from by unfold opK; split <;> (try omega) <;> (split <;> (try omega) <;> (split <;> omega))] at this ⊢) (by rw [hO, hst]) (by rw [ec2]; exact hl1.put (by omega) _) (by rw [ec3]; exact hl2.put (by omega) _) (by rw [ec2]; exact hk1.put (by omega) _) (by rw [ec3]; exact hk2.put (by omega) _) _ _ hW _ (lv_sub hl [1, 2] rfl)
            · have c_5 : w0 = 9 := (nI_eq (a := w0) (b := 9) (by omega) (by omega)).mp c_5
              refine lv_iconst (v := 3) hx hb dX12_comesOut_69 (by decide) ?_
              refine lv_goto (tgt := 84) hx hb dX12_comesOut_70 (by decide) ?_
              refine lv_iconst (v := 0) hx hb dX12_comesOut_84 (by decide) ?_
              refine z_callv (wc := wj [(mw Y ad_m (sA 55 (fun _ => nI (nw1 - 1)) (sA 53 x_codeInt_0 (sA 52 x_code_0 (sA 51 (fun _ => nI cs1) g_m)))) w_m)]) (wr := wj []) (va_runV (As := [.int 3, .int 0]) (rest := []) ⟨hx, hb, hml, hown, hts⟩ (m_X12_emit l D Y ad_m (sA 55 (fun _ => nI (nw1 - 1)) (sA 53 x_codeInt_0 (sA 52 x_code_0 (sA 51 (fun _ => nI cs1) g_m)))) w_m 3 0 cs1 H.size (show cs1 < 840 from by first | assumption | omega | grind)) (cwV 2 hts (lw_V q1973 q1975 qs80 q133 q1976) rfl rfl rfl (by decide +kernel) ⟨Nat.le_of_ble_eq_true rfl, Nat.le_of_ble_eq_true rfl⟩) (zPreV hK hW hR (wj_split3 (B := [(mw Y ad_m (sA 55 (fun _ => nI (nw1 - 1)) (sA 53 x_codeInt_0 (sA 52 x_code_0 (sA 51 (fun _ => nI cs1) g_m)))) w_m)]) (R := []) (C := [(mw Y ad_m (sA 55 (fun _ => nI (nw1 - 1)) (sA 53 x_codeInt_0 (sA 52 x_code_0 (sA 51 (fun _ => nI cs1) g_m)))) w_m)]) (O := []) (X := []) (List.Perm.refl _)) (va_recv hK.1 hW.1 (ci := 11) (q0 := 0) rfl rfl)) rfl rfl hl.1 rfl (lv_room (Nat.le_of_ble_eq_true rfl)) dX12_comesOut_85 ⟨Nat.le_refl _, Nat.le_refl _⟩) hW hA (wj_split (B := [(mw Y ad_m (sA 55 (fun _ => nI (nw1 - 1)) (sA 53 x_codeInt_0 (sA 52 x_code_0 (sA 51 (fun _ => nI cs1) g_m)))) w_m)]) (C := [(mw Y ad_m (sA 55 (fun _ => nI (nw1 - 1)) (sA 53 x_codeInt_0 (sA 52 x_code_0 (sA 51 (fun _ => nI cs1) g_m)))) w_m)]) (R := []) (List.Perm.refl _)) (fun  u H locs hp_18 hW => ?_)
              obtain ⟨ucodes_19, ucode_20, ucodeInt_21⟩ := u
              have hp_18 : ucodes_19 = cs1 + 1 ∧ ucode_20 = upd x_code_0 cs1 (nI 3) ∧ ucodeInt_21 = upd x_codeInt_0 cs1 0 := hp_18
              have hW : zW D A s.heap H locs (wj [(mw Y ad_m (sA 55 (fun _ => nI (nw1 - 1)) (sA 53 ucodeInt_21 (sA 52 ucode_20 (sA 51 (fun _ => nI ucodes_19) g_m)))) w_m)]) := hW.join
              obtain ⟨ec1, ec2, ec3⟩ := hp_18
              refine lv_goto (tgt := 0) hx hb dX12_comesOut_88 (by decide) ?_
              exact ih_0 ucode_20 ucodeInt_21 (nw1 - 1) ucodes_19 V (E_1 ++ [(opK w0, 0)]) (by omega) (by omega) (by omega) (by rw [List.length_append]; show _ = c0 + (E_1.length + 1); omega) (by omega) (by exact fun v hv => hok v (by rw [hWe]; exact List.mem_cons_of_mem _ hv)) (by rw [hWe] at hWA; exact hWA.tail) (by rw [ec2, ec3, hcs1]; have := hCD.snoc (opK w0) 0; rwa [show opK w0 = 3 from by unfold opK; split <;> (try omega) <;> (split <;> (try omega) <;> (split <;> omega))] at this ⊢) (by rw [hO, hst]) (by rw [ec2]; exact hl1.put (by omega) _) (by rw [ec3]; exact hl2.put (by omega) _) (by rw [ec2]; exact hk1.put (by omega) _) (by rw [ec3]; exact hk2.put (by omega) _) _ _ hW _ (lv_sub hl [1, 2] rfl)
          · have c_4 : w0 = 8 := (nI_eq (a := w0) (b := 8) (by omega) (by omega)).mp c_4
            refine lv_iconst (v := 2) hx hb dX12_comesOut_59 (by decide) ?_
            refine lv_goto (tgt := 84) hx hb dX12_comesOut_60 (by decide) ?_
            refine lv_iconst (v := 0) hx hb dX12_comesOut_84 (by decide) ?_
            refine z_callv (wc := wj [(mw Y ad_m (sA 55 (fun _ => nI (nw1 - 1)) (sA 53 x_codeInt_0 (sA 52 x_code_0 (sA 51 (fun _ => nI cs1) g_m)))) w_m)]) (wr := wj []) (va_runV (As := [.int 2, .int 0]) (rest := []) ⟨hx, hb, hml, hown, hts⟩ (m_X12_emit l D Y ad_m (sA 55 (fun _ => nI (nw1 - 1)) (sA 53 x_codeInt_0 (sA 52 x_code_0 (sA 51 (fun _ => nI cs1) g_m)))) w_m 2 0 cs1 H.size (show cs1 < 840 from by first | assumption | omega | grind)) (cwV 2 hts (lw_V q1973 q1975 qs80 q133 q1976) rfl rfl rfl (by decide +kernel) ⟨Nat.le_of_ble_eq_true rfl, Nat.le_of_ble_eq_true rfl⟩) (zPreV hK hW hR (wj_split3 (B := [(mw Y ad_m (sA 55 (fun _ => nI (nw1 - 1)) (sA 53 x_codeInt_0 (sA 52 x_code_0 (sA 51 (fun _ => nI cs1) g_m)))) w_m)]) (R := []) (C := [(mw Y ad_m (sA 55 (fun _ => nI (nw1 - 1)) (sA 53 x_codeInt_0 (sA 52 x_code_0 (sA 51 (fun _ => nI cs1) g_m)))) w_m)]) (O := []) (X := []) (List.Perm.refl _)) (va_recv hK.1 hW.1 (ci := 11) (q0 := 0) rfl rfl)) rfl rfl hl.1 rfl (lv_room (Nat.le_of_ble_eq_true rfl)) dX12_comesOut_85 ⟨Nat.le_refl _, Nat.le_refl _⟩) hW hA (wj_split (B := [(mw Y ad_m (sA 55 (fun _ => nI (nw1 - 1)) (sA 53 x_codeInt_0 (sA 52 x_code_0 (sA 51 (fun _ => nI cs1) g_m)))) w_m)]) (C := [(mw Y ad_m (sA 55 (fun _ => nI (nw1 - 1)) (sA 53 x_codeInt_0 (sA 52 x_code_0 (sA 51 (fun _ => nI cs1) g_m)))) w_m)]) (R := []) (List.Perm.refl _)) (fun  u H locs hp_23 hW => ?_)
            obtain ⟨ucodes_24, ucode_25, ucodeInt_26⟩ := u
            have hp_23 : ucodes_24 = cs1 + 1 ∧ ucode_25 = upd x_code_0 cs1 (nI 2) ∧ ucodeInt_26 = upd x_codeInt_0 cs1 0 := hp_23
            have hW : zW D A s.heap H locs (wj [(mw Y ad_m (sA 55 (fun _ => nI (nw1 - 1)) (sA 53 ucodeInt_26 (sA 52 ucode_25 (sA 51 (fun _ => nI ucodes_24) g_m)))) w_m)]) := hW.join
            obtain ⟨ec1, ec2, ec3⟩ := hp_23
            refine lv_goto (tgt := 0) hx hb dX12_comesOut_88 (by decide) ?_
            exact ih_0 ucode_25 ucodeInt_26 (nw1 - 1) ucodes_24 V (E_1 ++ [(opK w0, 0)]) (by omega) (by omega) (by omega) (by rw [List.length_append]; show _ = c0 + (E_1.length + 1); omega) (by omega) (by exact fun v hv => hok v (by rw [hWe]; exact List.mem_cons_of_mem _ hv)) (by rw [hWe] at hWA; exact hWA.tail) (by rw [ec2, ec3, hcs1]; have := hCD.snoc (opK w0) 0; rwa [show opK w0 = 2 from by unfold opK; split <;> (try omega) <;> (split <;> (try omega) <;> (split <;> omega))] at this ⊢) (by rw [hO, hst]) (by rw [ec2]; exact hl1.put (by omega) _) (by rw [ec3]; exact hl2.put (by omega) _) (by rw [ec2]; exact hk1.put (by omega) _) (by rw [ec3]; exact hk2.put (by omega) _) _ _ hW _ (lv_sub hl [1, 2] rfl)
  exact loop_0 _ (g_m 52) (g_m 53) nw cs Wt Et (Nat.lt_succ_self _) (by exact hnw) (by omega) (by exact hcs) (by omega) (by exact hok) (by exact hWA) (by exact hCD) (by rfl) (by exact LOW.refl _ _) (by exact LOW.refl _ _) (by exact KI.refl _ _) (by exact KI.refl _ _) _ _ hW _ (lv_sub hl [0, 1] rfl)
set_option maxHeartbeats 1000000 in
set_option maxRecDepth 100000 in
theorem m_X12_comesOut_1 (l : Launch) (D : va_G) (Y : Nat → ClassId) (ad_m : Nat → Nat) (g_m : Nat → Nat → Int32) (w_m : Nat → Nat → Int64) (nw : Nat) (cs : Nat) (c0 : Nat) (ha_ : Nat) (Wt : List Nat) (Et : RPN) (sz : Nat) (hnw : nw = (Wt).length) (h64 : nw ≤ 64) (hcs : cs = c0 + (Et).length) (hlim : cs + nw ≤ ha_ + 420 ∧ ha_ ≤ c0 ∧ (ha_ = 420 * 0 ∨ ha_ = 420 * 1)) (hok : okW Wt) (hWA : WAT (g_m 54) Wt) (hCD : CODE (g_m 52) (g_m 53) c0 Et) : Met l yX12_comesOut (ws_ yX12_comesOut cX12_comesOut 3 none) ({ frames := 2, cells := 0, slots := 0, locals := 34 }) (zPc D Y [.ref (ad_m 0), .int 1] sz (wj []) (wj [(mw Y ad_m (sA 55 (fun _ => nI nw) (sA 51 (fun _ => nI cs) g_m)) w_m)])) (va_Qv (fun (u : (Nat) × (Nat) × (Nat → Int32) × (Nat → Int32)) => u.1 = (outW true Wt Et).1.length ∧ u.2.1 = c0 + (outW true Wt Et).2.length ∧ WAT (g_m 54) (outW true Wt Et).1 ∧ CODE u.2.2.1 u.2.2.2 c0 (outW true Wt Et).2 ∧ LOW cs (g_m 52) u.2.2.1 ∧ LOW cs (g_m 53) u.2.2.2 ∧ KI ha_ (g_m 52) u.2.2.1 ∧ KI ha_ (g_m 53) u.2.2.2) (zB D (fun (u : (Nat) × (Nat) × (Nat → Int32) × (Nat → Int32)) => (wj [(mw Y ad_m (sA 55 (fun _ => nI u.1) (sA 53 u.2.2.2 (sA 52 u.2.2.1 (sA 51 (fun _ => nI u.2.1) g_m)))) w_m)])) (va_A (wj [(mw Y ad_m (sA 55 (fun _ => nI nw) (sA 51 (fun _ => nI cs) g_m)) w_m)]) sz)) (va_A (wj [(mw Y ad_m (sA 55 (fun _ => nI nw) (sA 51 (fun _ => nI cs) g_m)) w_m)]) sz)) 0 0 (va_A (wj [(mw Y ad_m (sA 55 (fun _ => nI nw) (sA 51 (fun _ => nI cs) g_m)) w_m)]) sz) := by
  refine Met.ofW (cc := cX12_comesOut) (maxL := 3) (ret := none) (by decide) rfl ?_
  intro p e s m args below meth c s₁ B hml hv
  obtain ⟨rfl, hsz, hW, hR, hK, hA⟩ := zEntry hv
  subst hsz
  have hx := B.exec
  have hb := B.bytes
  have hr := B.returns
  have hlocks := B.notSynchronized
  have hts : ∀ w ∈ lw_all, w.before _ s = true := fun w h => atoms_spec (ws := (ws_ yX12_comesOut cX12_comesOut 3 none)) B.pre w (List.mem_cons_of_mem _ h)
  have hown : s.vm.findClass RX12 = some m.cls := findClass_of_methodNamed B.named
  generalize hAe : va_A (wj [(mw Y ad_m (sA 55 (fun _ => nI nw) (sA 51 (fun _ => nI cs) g_m)) w_m)]) s.heap.size = A at hW hR hA ⊢
  have hl := lv_entry ([.ref (ad_m 0), .int 1]) (n := 3) (Nat.le_of_ble_eq_true rfl)
  rw [lg_entry_eq]
  generalize (lg_sl ([.ref (ad_m 0), .int 1]) ++ List.replicate (3 - (lg_sl ([.ref (ad_m 0), .int 1])).length) Slot.unset).toArray = ls at hl ⊢
  have hl : lv_has ls 3 [(0, .ref (ad_m 0)), (1, .int 1)] := hl
  have loop_0 : ∀ (n : Nat) (x_code_0 : Nat → Int32) (x_codeInt_0 : Nat → Int32) (nw1 : Nat) (cs1 : Nat) (W_1 : List Nat) (E_1 : RPN), nw1 + 1 < n → (nw1 = W_1.length) → (nw1 ≤ 64) → (cs1 = c0 + E_1.length) → (cs1 + nw1 ≤ ha_ + 420 ∧ cs ≤ cs1) → (okW W_1) → (WAT (g_m 54) W_1) → (CODE x_code_0 x_codeInt_0 c0 E_1) → (outW true Wt Et = outW true W_1 E_1) → (LOW cs (g_m 52) x_code_0) → (LOW cs (g_m 53) x_codeInt_0) → (KI ha_ (g_m 52) x_code_0) → (KI ha_ (g_m 53) x_codeInt_0) → ∀ (H : Heap) (locs : List Loc), zW D A s.heap H locs (wj [(mw Y ad_m (sA 55 (fun _ => nI nw1) (sA 53 x_codeInt_0 (sA 52 x_code_0 (sA 51 (fun _ => nI cs1) g_m)))) w_m)]) → ∀ (ls : Array Slot), lv_has ls 3 [(0, .ref (ad_m 0)), (1, .int 1)] → W p l e (headSpec (ws_ yX12_comesOut cX12_comesOut 3 none) ({ frames := 2, cells := 0, slots := 0, locals := 34 })).room s m ([.ref (ad_m 0), .int 1] : List Value).toArray below meth c H locs 0 0 (MQ below (va_Qv (fun (u : (Nat) × (Nat) × (Nat → Int32) × (Nat → Int32)) => u.1 = (outW true Wt Et).1.length ∧ u.2.1 = c0 + (outW true Wt Et).2.length ∧ WAT (g_m 54) (outW true Wt Et).1 ∧ CODE u.2.2.1 u.2.2.2 c0 (outW true Wt Et).2 ∧ LOW cs (g_m 52) u.2.2.1 ∧ LOW cs (g_m 53) u.2.2.2 ∧ KI ha_ (g_m 52) u.2.2.1 ∧ KI ha_ (g_m 53) u.2.2.2) (zB D (fun (u : (Nat) × (Nat) × (Nat → Int32) × (Nat → Int32)) => (wj [(mw Y ad_m (sA 55 (fun _ => nI u.1) (sA 53 u.2.2.2 (sA 52 u.2.2.1 (sA 51 (fun _ => nI u.2.1) g_m)))) w_m)])) A) A) ([.ref (ad_m 0), .int 1] : List Value).toArray s 0 0 A) (F0 m 0 ls []) := by
    intro n
    induction n with
    | zero =>
      intro x_code_0 x_codeInt_0 nw1 cs1 W_1 E_1 hmz
      exact absurd hmz (Nat.not_lt_zero _)
    | succ n ih =>
      intro x_code_0 x_codeInt_0 nw1 cs1 W_1 E_1 hm_0 hnw h64 hcs1 hlim1 hok hWA hCD hO hl1 hl2 hk1 hk2 H locs hW ls hl
      have ih_0 := ih
      clear ih
      refine lv_aload_n hx hb dX12_comesOut_0 rfl (lv_at hl 0 rfl) ?_
      refine va_get (v := .int (nI nw1)) (C := RX12) (T := TX12) (N := 75) (ci := 11) hx hb hts in_X12 hown hK.1 hW.1 0 rfl rfl 55 (by decide) (hts _ q1691) (fun _ h9 => h9) rfl dX12_comesOut_1 ?_
      refine lv_if_le (tgt := 91) hx hb dX12_comesOut_4 (by decide) (fun c_1 => ?_) (fun c_1 => ?_)
      · have c_1 : nw1 ≤ 0 := (nI_leI (a := nw1) (b := 0) (by omega) (by omega)).mp c_1
        refine z_vret ((nw1, cs1, x_code_0, x_codeInt_0) : (Nat) × (Nat) × (Nat → Int32) × (Nat → Int32)) hx hb hr hlocks hW rfl dX12_comesOut_91 ?_
        show nw1 = (outW true Wt Et).1.length ∧ cs1 = c0 + (outW true Wt Et).2.length ∧ WAT (g_m 54) (outW true Wt Et).1 ∧ CODE x_code_0 x_codeInt_0 c0 (outW true Wt Et).2 ∧ LOW cs (g_m 52) x_code_0 ∧ LOW cs (g_m 53) x_codeInt_0 ∧ KI ha_ (g_m 52) x_code_0 ∧ KI ha_ (g_m 53) x_codeInt_0
        have hst : outW true W_1 E_1 = (W_1, E_1) := by
          cases W_1 with
          | nil => rfl
          | cons w V => simp at hnw; omega
        rw [hO, hst]; exact ⟨hnw, hcs1, hWA, hCD, hl1, hl2, hk1, hk2⟩
      · have c_1 : ¬ (nw1 ≤ 0) := fun hz_ => c_1 ((nI_leI (a := nw1) (b := 0) (by omega) (by omega)).mpr hz_)
        obtain ⟨w0, V, hWe⟩ : ∃ w V, W_1 = w :: V := by
          cases W_1 with
          | nil => simp at hnw; omega
          | cons w V => exact ⟨w, V, rfl⟩
        have hlV : W_1.length = V.length + 1 := by rw [hWe]; rfl
        have hw0 := hok w0 (by rw [hWe]; exact List.mem_cons_self)
        refine lv_aload_n hx hb dX12_comesOut_7 rfl (lv_at hl 0 rfl) ?_
        refine va_get (v := .ref (ad_m 54)) (C := RX12) (T := TX12) (N := 75) (ci := 11) hx hb hts in_X12 hown hK.1 hW.1 0 rfl rfl 54 (by decide) (hts _ q1690) (fun _ h9 => h9) rfl dX12_comesOut_8 ?_
        refine lv_aload_n hx hb dX12_comesOut_11 rfl (lv_at hl 0 rfl) ?_
        refine va_get (v := .int (nI nw1)) (C := RX12) (T := TX12) (N := 75) (ci := 11) hx hb hts in_X12 hown hK.1 hW.1 0 rfl rfl 55 (by decide) (hts _ q1691) (fun _ h9 => h9) rfl dX12_comesOut_12 ?_
        refine lv_iconst (v := 1) hx hb dX12_comesOut_15 (by decide) ?_
        refine lv_isub hx hb dX12_comesOut_16 ?_
        refine lv_topi (nm_r (e' := nI (nw1 - 1)) (pk_sub (a := nw1) (b := 1) (by omega)) ?_)
        refine z_iald (v := nI w0) (f := g_m 54) (j := nw1 - 1) hx hb hK.1 hW.1 39 0 rfl rfl (vp_in_nI (n := nw1 - 1) (by omega) (by decide)) (nI_clamp (n := nw1 - 1) (by omega)) (show (g_m 54) (nw1 - 1) = nI w0 from by rw [hnw, hWe]; rw [hWe] at hWA; exact hWA.top) dX12_comesOut_17 ?_
        refine lv_istore_n (lv' := [(2, .int (nI w0)), (0, .ref (ad_m 0)), (1, .int 1)]) hx hb dX12_comesOut_18 rfl hl (by decide) rfl (fun ls hl => ?_)
        refine lv_iload_n hx hb dX12_comesOut_19 rfl (lv_at hl 0 rfl) ?_
        refine lv_bipush (v := 6) hx hb dX12_comesOut_20 (by decide) ?_
        refine lv_icmp_eq (tgt := 41) hx hb dX12_comesOut_22 (by decide) (fun c_2 => ?_) (fun c_2 => ?_)
        · have c_2 : w0 = 6 := (nI_eq (a := w0) (b := 6) (by omega) (by omega)).mp c_2
          refine z_vret ((nw1, cs1, x_code_0, x_codeInt_0) : (Nat) × (Nat) × (Nat → Int32) × (Nat → Int32)) hx hb hr hlocks hW rfl dX12_comesOut_41 ?_
          show nw1 = (outW true Wt Et).1.length ∧ cs1 = c0 + (outW true Wt Et).2.length ∧ WAT (g_m 54) (outW true Wt Et).1 ∧ CODE x_code_0 x_codeInt_0 c0 (outW true Wt Et).2 ∧ LOW cs (g_m 52) x_code_0 ∧ LOW cs (g_m 53) x_codeInt_0 ∧ KI ha_ (g_m 52) x_code_0 ∧ KI ha_ (g_m 53) x_codeInt_0
          have hst : outW true W_1 E_1 = (W_1, E_1) := by rw [hWe]; show (if w0 = 6 ∨ (true = true ∧ (w0 = 8 ∨ w0 = 9)) then _ else _) = _; rw [if_pos (by first | (left; omega) | (right; exact ⟨rfl, by omega⟩))]
          rw [hO, hst]; exact ⟨hnw, hcs1, hWA, hCD, hl1, hl2, hk1, hk2⟩
        · have c_2 : ¬ (w0 = 6) := fun hz_ => c_2 ((nI_eq (a := w0) (b := 6) (by omega) (by omega)).mpr hz_)
          refine lv_iload_n hx hb dX12_comesOut_25 rfl (lv_at hl 2 rfl) ?_
          refine lv_if_eq (tgt := 42) hx hb dX12_comesOut_26 (by decide) (fun c_3 => by first | exact absurd c_3 (by decide) | exact absurd (by decide) c_3) (fun c_3 => ?_)
          refine lv_iload_n hx hb dX12_comesOut_29 rfl (lv_at hl 0 rfl) ?_
          refine lv_bipush (v := 8) hx hb dX12_comesOut_30 (by decide) ?_
          refine lv_icmp_eq (tgt := 41) hx hb dX12_comesOut_32 (by decide) (fun c_4 => ?_) (fun c_4 => ?_)
          · have c_4 : w0 = 8 := (nI_eq (a := w0) (b := 8) (by omega) (by omega)).mp c_4
            refine z_vret ((nw1, cs1, x_code_0, x_codeInt_0) : (Nat) × (Nat) × (Nat → Int32) × (Nat → Int32)) hx hb hr hlocks hW rfl dX12_comesOut_41 ?_
            show nw1 = (outW true Wt Et).1.length ∧ cs1 = c0 + (outW true Wt Et).2.length ∧ WAT (g_m 54) (outW true Wt Et).1 ∧ CODE x_code_0 x_codeInt_0 c0 (outW true Wt Et).2 ∧ LOW cs (g_m 52) x_code_0 ∧ LOW cs (g_m 53) x_codeInt_0 ∧ KI ha_ (g_m 52) x_code_0 ∧ KI ha_ (g_m 53) x_codeInt_0
            have hst : outW true W_1 E_1 = (W_1, E_1) := by rw [hWe]; show (if w0 = 6 ∨ (true = true ∧ (w0 = 8 ∨ w0 = 9)) then _ else _) = _; rw [if_pos (by first | (left; omega) | (right; exact ⟨rfl, by omega⟩))]
            rw [hO, hst]; exact ⟨hnw, hcs1, hWA, hCD, hl1, hl2, hk1, hk2⟩
          · have c_4 : ¬ (w0 = 8) := fun hz_ => c_4 ((nI_eq (a := w0) (b := 8) (by omega) (by omega)).mpr hz_)
            refine lv_iload_n hx hb dX12_comesOut_35 rfl (lv_at hl 0 rfl) ?_
            refine lv_bipush (v := 9) hx hb dX12_comesOut_36 (by decide) ?_
            refine lv_icmp_ne (tgt := 42) hx hb dX12_comesOut_38 (by decide) (fun c_5 => ?_) (fun c_5 => ?_)
            · have c_5 : ¬ (w0 = 9) := fun hz_ => c_5 ((nI_eq (a := w0) (b := 9) (by omega) (by omega)).mpr hz_)
              have hst : outW true W_1 E_1 = outW true V (E_1 ++ [(opK w0, 0)]) := by rw [hWe]; show (if w0 = 6 ∨ (true = true ∧ (w0 = 8 ∨ w0 = 9)) then _ else _) = _; rw [if_neg (by rintro (z | z); omega; rcases z.2 with z | z <;> omega)]
              refine lv_aload_n hx hb dX12_comesOut_42 rfl (lv_at hl 1 rfl) ?_
              refine lv_dup hx hb dX12_comesOut_43 rfl ?_
              refine va_get (v := .int (nI nw1)) (C := RX12) (T := TX12) (N := 75) (ci := 11) hx hb hts in_X12 hown hK.1 hW.1 0 rfl rfl 55 (by decide) (hts _ q1691) (fun _ h9 => h9) rfl dX12_comesOut_44 ?_
              refine lv_iconst (v := 1) hx hb dX12_comesOut_47 (by decide) ?_
              refine lv_isub hx hb dX12_comesOut_48 ?_
              refine lv_topi (nm_r (e' := nI (nw1 - 1)) (pk_sub (a := nw1) (b := 1) (by omega)) ?_)
              refine z_put (v := .int (nI (nw1 - 1))) (C := RX12) (T := TX12) (N := 75) (ci := 11) (wn := (wj [(mw Y ad_m (sA 55 (fun _ => nI (nw1 - 1)) (sA 53 x_codeInt_0 (sA 52 x_code_0 (sA 51 (fun _ => nI cs1) g_m)))) w_m)])) hx hb hts in_X12 tyX12 tyX12_ok nmX12 hown hK.1 hW 0 rfl rfl 55 (by decide) (hts _ q1691) (fun _ h9 => h9) rfl rfl rfl (Nat.le_of_ble_eq_true rfl) dX12_comesOut_49 rfl (fun H locs hW => ?_)
              refine lv_aload_n hx hb dX12_comesOut_52 rfl (lv_at hl 1 rfl) ?_
              refine lv_iload_n hx hb dX12_comesOut_53 rfl (lv_at hl 0 rfl) ?_
              refine lv_bipush (v := 8) hx hb dX12_comesOut_54 (by decide) ?_
              refine lv_icmp_ne (tgt := 63) hx hb dX12_comesOut_56 (by decide) (fun c_6 => ?_) (fun c_6 => ?_)
              · have c_6 : ¬ (w0 = 8) := fun hz_ => c_6 ((nI_eq (a := w0) (b := 8) (by omega) (by omega)).mpr hz_)
                refine lv_iload_n hx hb dX12_comesOut_63 rfl (lv_at hl 0 rfl) ?_
                refine lv_bipush (v := 9) hx hb dX12_comesOut_64 (by decide) ?_
                refine lv_icmp_ne (tgt := 73) hx hb dX12_comesOut_66 (by decide) (fun c_7 => ?_) (fun c_7 => ?_)
                · have c_7 : ¬ (w0 = 9) := fun hz_ => c_7 ((nI_eq (a := w0) (b := 9) (by omega) (by omega)).mpr hz_)
                  refine lv_iload_n hx hb dX12_comesOut_73 rfl (lv_at hl 0 rfl) ?_
                  refine lv_bipush (v := 10) hx hb dX12_comesOut_74 (by decide) ?_
                  refine lv_icmp_ne (tgt := 83) hx hb dX12_comesOut_76 (by decide) (fun c_8 => ?_) (fun c_8 => ?_)
                  · have c_8 : ¬ (w0 = 10) := fun hz_ => c_8 ((nI_eq (a := w0) (b := 10) (by omega) (by omega)).mpr hz_)
                    refine lv_iconst (v := 5) hx hb dX12_comesOut_83 (by decide) ?_
                    refine lv_iconst (v := 0) hx hb dX12_comesOut_84 (by decide) ?_
                    refine z_callv (wc := wj [(mw Y ad_m (sA 55 (fun _ => nI (nw1 - 1)) (sA 53 x_codeInt_0 (sA 52 x_code_0 (sA 51 (fun _ => nI cs1) g_m)))) w_m)]) (wr := wj []) (va_runV (As := [.int 5, .int 0]) (rest := []) ⟨hx, hb, hml, hown, hts⟩ (m_X12_emit l D Y ad_m (sA 55 (fun _ => nI (nw1 - 1)) (sA 53 x_codeInt_0 (sA 52 x_code_0 (sA 51 (fun _ => nI cs1) g_m)))) w_m 5 0 cs1 H.size (show cs1 < 840 from by first | assumption | omega | grind)) (cwV 2 hts (lw_V q1973 q1975 qs80 q133 q1976) rfl rfl rfl (by decide +kernel) ⟨Nat.le_of_ble_eq_true rfl, Nat.le_of_ble_eq_true rfl⟩) (zPreV hK hW hR (wj_split3 (B := [(mw Y ad_m (sA 55 (fun _ => nI (nw1 - 1)) (sA 53 x_codeInt_0 (sA 52 x_code_0 (sA 51 (fun _ => nI cs1) g_m)))) w_m)]) (R := []) (C := [(mw Y ad_m (sA 55 (fun _ => nI (nw1 - 1)) (sA 53 x_codeInt_0 (sA 52 x_code_0 (sA 51 (fun _ => nI cs1) g_m)))) w_m)]) (O := []) (X := []) (List.Perm.refl _)) (va_recv hK.1 hW.1 (ci := 11) (q0 := 0) rfl rfl)) rfl rfl hl.1 rfl (lv_room (Nat.le_of_ble_eq_true rfl)) dX12_comesOut_85 ⟨Nat.le_refl _, Nat.le_refl _⟩) hW hA (wj_split (B := [(mw Y ad_m (sA 55 (fun _ => nI (nw1 - 1)) (sA 53 x_codeInt_0 (sA 52 x_code_0 (sA 51 (fun _ => nI cs1) g_m)))) w_m)]) (C := [(mw Y ad_m (sA 55 (fun _ => nI (nw1 - 1)) (sA 53 x_codeInt_0 (sA 52 x_code_0 (sA 51 (fun _ => nI cs1) g_m)))) w_m)]) (R := []) (List.Perm.refl _)) (fun  u H locs hp_10 hW => ?_)
                    obtain ⟨ucodes_11, ucode_12, ucodeInt_13⟩ := u
                    have hp_10 : ucodes_11 = cs1 + 1 ∧ ucode_12 = upd x_code_0 cs1 (nI 5) ∧ ucodeInt_13 = upd x_codeInt_0 cs1 0 := hp_10
                    have hW : zW D A s.heap H locs (wj [(mw Y ad_m (sA 55 (fun _ => nI (nw1 - 1)) (sA 53 ucodeInt_13 (sA 52 ucode_12 (sA 51 (fun _ => nI ucodes_11) g_m)))) w_m)]) := hW.join
                    obtain ⟨ec1, ec2, ec3⟩ := hp_10
                    refine lv_goto (tgt := 0) hx hb dX12_comesOut_88 (by decide) ?_
                    exact ih_0 ucode_12 ucodeInt_13 (nw1 - 1) ucodes_11 V (E_1 ++ [(opK w0, 0)]) (by omega) (by omega) (by omega) (by rw [List.length_append]; show _ = c0 + (E_1.length + 1); omega) (by omega) (by exact fun v hv => hok v (by rw [hWe]; exact List.mem_cons_of_mem _ hv)) (by rw [hWe] at hWA; exact hWA.tail) (by rw [ec2, ec3, hcs1]; have := hCD.snoc (opK w0) 0; rwa [show opK w0 = 5 from by unfold opK; split <;> (try omega) <;> (split <;> (try omega) <;> (split <;> omega))] at this ⊢) (by rw [hO, hst]) (by rw [ec2]; exact hl1.put (by omega) _) (by rw [ec3]; exact hl2.put (by omega) _) (by rw [ec2]; exact hk1.put (by omega) _) (by rw [ec3]; exact hk2.put (by omega) _) _ _ hW _ (lv_sub hl [1, 2] rfl)
                  · have c_8 : w0 = 10 := (nI_eq (a := w0) (b := 10) (by omega) (by omega)).mp c_8
                    refine lv_iconst (v := 4) hx hb dX12_comesOut_79 (by decide) ?_
                    refine lv_goto (tgt := 84) hx hb dX12_comesOut_80 (by decide) ?_
                    refine lv_iconst (v := 0) hx hb dX12_comesOut_84 (by decide) ?_
                    refine z_callv (wc := wj [(mw Y ad_m (sA 55 (fun _ => nI (nw1 - 1)) (sA 53 x_codeInt_0 (sA 52 x_code_0 (sA 51 (fun _ => nI cs1) g_m)))) w_m)]) (wr := wj []) (va_runV (As := [.int 4, .int 0]) (rest := []) ⟨hx, hb, hml, hown, hts⟩ (m_X12_emit l D Y ad_m (sA 55 (fun _ => nI (nw1 - 1)) (sA 53 x_codeInt_0 (sA 52 x_code_0 (sA 51 (fun _ => nI cs1) g_m)))) w_m 4 0 cs1 H.size (show cs1 < 840 from by first | assumption | omega | grind)) (cwV 2 hts (lw_V q1973 q1975 qs80 q133 q1976) rfl rfl rfl (by decide +kernel) ⟨Nat.le_of_ble_eq_true rfl, Nat.le_of_ble_eq_true rfl⟩) (zPreV hK hW hR (wj_split3 (B := [(mw Y ad_m (sA 55 (fun _ => nI (nw1 - 1)) (sA 53 x_codeInt_0 (sA 52 x_code_0 (sA 51 (fun _ => nI cs1) g_m)))) w_m)]) (R := []) (C := [(mw Y ad_m (sA 55 (fun _ => nI (nw1 - 1)) (sA 53 x_codeInt_0 (sA 52 x_code_0 (sA 51 (fun _ => nI cs1) g_m)))) w_m)]) (O := []) (X := []) (List.Perm.refl _)) (va_recv hK.1 hW.1 (ci := 11) (q0 := 0) rfl rfl)) rfl rfl hl.1 rfl (lv_room (Nat.le_of_ble_eq_true rfl)) dX12_comesOut_85 ⟨Nat.le_refl _, Nat.le_refl _⟩) hW hA (wj_split (B := [(mw Y ad_m (sA 55 (fun _ => nI (nw1 - 1)) (sA 53 x_codeInt_0 (sA 52 x_code_0 (sA 51 (fun _ => nI cs1) g_m)))) w_m)]) (C := [(mw Y ad_m (sA 55 (fun _ => nI (nw1 - 1)) (sA 53 x_codeInt_0 (sA 52 x_code_0 (sA 51 (fun _ => nI cs1) g_m)))) w_m)]) (R := []) (List.Perm.refl _)) (fun  u H locs hp_15 hW => ?_)
                    obtain ⟨ucodes_16, ucode_17, ucodeInt_18⟩ := u
                    have hp_15 : ucodes_16 = cs1 + 1 ∧ ucode_17 = upd x_code_0 cs1 (nI 4) ∧ ucodeInt_18 = upd x_codeInt_0 cs1 0 := hp_15
                    have hW : zW D A s.heap H locs (wj [(mw Y ad_m (sA 55 (fun _ => nI (nw1 - 1)) (sA 53 ucodeInt_18 (sA 52 ucode_17 (sA 51 (fun _ => nI ucodes_16) g_m)))) w_m)]) := hW.join
                    obtain ⟨ec1, ec2, ec3⟩ := hp_15
                    refine lv_goto (tgt := 0) hx hb dX12_comesOut_88 (by decide) ?_
                    exact ih_0 ucode_17 ucodeInt_18 (nw1 - 1) ucodes_16 V (E_1 ++ [(opK w0, 0)]) (by omega) (by omega) (by omega) (by rw [List.length_append]; show _ = c0 + (E_1.length + 1); omega) (by omega) (by exact fun v hv => hok v (by rw [hWe]; exact List.mem_cons_of_mem _ hv)) (by rw [hWe] at hWA; exact hWA.tail) (by rw [ec2, ec3, hcs1]; have := hCD.snoc (opK w0) 0; rwa [show opK w0 = 4 from by unfold opK; split <;> (try omega) <;> (split <;> (try omega) <;> (split <;> omega))] at this ⊢) (by rw [hO, hst]) (by rw [ec2]; exact hl1.put (by omega) _) (by rw [ec3]; exact hl2.put (by omega) _) (by rw [ec2]; exact hk1.put (by omega) _) (by rw [ec3]; exact hk2.put (by omega) _) _ _ hW _ (lv_sub hl [1, 2] rfl)
                · have c_7 : w0 = 9 := (nI_eq (a := w0) (b := 9) (by omega) (by omega)).mp c_7
                  refine lv_iconst (v := 3) hx hb dX12_comesOut_69 (by decide) ?_
                  refine lv_goto (tgt := 84) hx hb dX12_comesOut_70 (by decide) ?_
                  refine lv_iconst (v := 0) hx hb dX12_comesOut_84 (by decide) ?_
                  refine z_callv (wc := wj [(mw Y ad_m (sA 55 (fun _ => nI (nw1 - 1)) (sA 53 x_codeInt_0 (sA 52 x_code_0 (sA 51 (fun _ => nI cs1) g_m)))) w_m)]) (wr := wj []) (va_runV (As := [.int 3, .int 0]) (rest := []) ⟨hx, hb, hml, hown, hts⟩ (m_X12_emit l D Y ad_m (sA 55 (fun _ => nI (nw1 - 1)) (sA 53 x_codeInt_0 (sA 52 x_code_0 (sA 51 (fun _ => nI cs1) g_m)))) w_m 3 0 cs1 H.size (show cs1 < 840 from by first | assumption | omega | grind)) (cwV 2 hts (lw_V q1973 q1975 qs80 q133 q1976) rfl rfl rfl (by decide +kernel) ⟨Nat.le_of_ble_eq_true rfl, Nat.le_of_ble_eq_true rfl⟩) (zPreV hK hW hR (wj_split3 (B := [(mw Y ad_m (sA 55 (fun _ => nI (nw1 - 1)) (sA 53 x_codeInt_0 (sA 52 x_code_0 (sA 51 (fun _ => nI cs1) g_m)))) w_m)]) (R := []) (C := [(mw Y ad_m (sA 55 (fun _ => nI (nw1 - 1)) (sA 53 x_codeInt_0 (sA 52 x_code_0 (sA 51 (fun _ => nI cs1) g_m)))) w_m)]) (O := []) (X := []) (List.Perm.refl _)) (va_recv hK.1 hW.1 (ci := 11) (q0 := 0) rfl rfl)) rfl rfl hl.1 rfl (lv_room (Nat.le_of_ble_eq_true rfl)) dX12_comesOut_85 ⟨Nat.le_refl _, Nat.le_refl _⟩) hW hA (wj_split (B := [(mw Y ad_m (sA 55 (fun _ => nI (nw1 - 1)) (sA 53 x_codeInt_0 (sA 52 x_code_0 (sA 51 (fun _ => nI cs1) g_m)))) w_m)]) (C := [(mw Y ad_m (sA 55 (fun _ => nI (nw1 - 1)) (sA 53 x_codeInt_0 (sA 52 x_code_0 (sA 51 (fun _ => nI cs1) g_m)))) w_m)]) (R := []) (List.Perm.refl _)) (fun  u H locs hp_20 hW => ?_)
                  obtain ⟨ucodes_21, ucode_22, ucodeInt_23⟩ := u
                  have hp_20 : ucodes_21 = cs1 + 1 ∧ ucode_22 = upd x_code_0 cs1 (nI 3) ∧ ucodeInt_23 = upd x_codeInt_0 cs1 0 := hp_20
                  have hW : zW D A s.heap H locs (wj [(mw Y ad_m (sA 55 (fun _ => nI (nw1 - 1)) (sA 53 ucodeInt_23 (sA 52 ucode_22 (sA 51 (fun _ => nI ucodes_21) g_m)))) w_m)]) := hW.join
                  obtain ⟨ec1, ec2, ec3⟩ := hp_20
                  refine lv_goto (tgt := 0) hx hb dX12_comesOut_88 (by decide) ?_
                  exact ih_0 ucode_22 ucodeInt_23 (nw1 - 1) ucodes_21 V (E_1 ++ [(opK w0, 0)]) (by omega) (by omega) (by omega) (by rw [List.length_append]; show _ = c0 + (E_1.length + 1); omega) (by omega) (by exact fun v hv => hok v (by rw [hWe]; exact List.mem_cons_of_mem _ hv)) (by rw [hWe] at hWA; exact hWA.tail) (by rw [ec2, ec3, hcs1]; have := hCD.snoc (opK w0) 0; rwa [show opK w0 = 3 from by unfold opK; split <;> (try omega) <;> (split <;> (try omega) <;> (split <;> omega))] at this ⊢) (by rw [hO, hst]) (by rw [ec2]; exact hl1.put (by omega) _) (by rw [ec3]; exact hl2.put (by omega) _) (by rw [ec2]; exact hk1.put (by omega) _) (by rw [ec3]; exact hk2.put (by omega) _) _ _ hW _ (lv_sub hl [1, 2] rfl)
              · have c_6 : w0 = 8 := (nI_eq (a := w0) (b := 8) (by omega) (by omega)).mp c_6
                refine lv_iconst (v := 2) hx hb dX12_comesOut_59 (by decide) ?_
                refine lv_goto (tgt := 84) hx hb dX12_comesOut_60 (by decide) ?_
                refine lv_iconst (v := 0) hx hb dX12_comesOut_84 (by decide) ?_
                refine z_callv (wc := wj [(mw Y ad_m (sA 55 (fun _ => nI (nw1 - 1)) (sA 53 x_codeInt_0 (sA 52 x_code_0 (sA 51 (fun _ => nI cs1) g_m)))) w_m)]) (wr := wj []) (va_runV (As := [.int 2, .int 0]) (rest := []) ⟨hx, hb, hml, hown, hts⟩ (m_X12_emit l D Y ad_m (sA 55 (fun _ => nI (nw1 - 1)) (sA 53 x_codeInt_0 (sA 52 x_code_0 (sA 51 (fun _ => nI cs1) g_m)))) w_m 2 0 cs1 H.size (show cs1 < 840 from by first | assumption | omega | grind)) (cwV 2 hts (lw_V q1973 q1975 qs80 q133 q1976) rfl rfl rfl (by decide +kernel) ⟨Nat.le_of_ble_eq_true rfl, Nat.le_of_ble_eq_true rfl⟩) (zPreV hK hW hR (wj_split3 (B := [(mw Y ad_m (sA 55 (fun _ => nI (nw1 - 1)) (sA 53 x_codeInt_0 (sA 52 x_code_0 (sA 51 (fun _ => nI cs1) g_m)))) w_m)]) (R := []) (C := [(mw Y ad_m (sA 55 (fun _ => nI (nw1 - 1)) (sA 53 x_codeInt_0 (sA 52 x_code_0 (sA 51 (fun _ => nI cs1) g_m)))) w_m)]) (O := []) (X := []) (List.Perm.refl _)) (va_recv hK.1 hW.1 (ci := 11) (q0 := 0) rfl rfl)) rfl rfl hl.1 rfl (lv_room (Nat.le_of_ble_eq_true rfl)) dX12_comesOut_85 ⟨Nat.le_refl _, Nat.le_refl _⟩) hW hA (wj_split (B := [(mw Y ad_m (sA 55 (fun _ => nI (nw1 - 1)) (sA 53 x_codeInt_0 (sA 52 x_code_0 (sA 51 (fun _ => nI cs1) g_m)))) w_m)]) (C := [(mw Y ad_m (sA 55 (fun _ => nI (nw1 - 1)) (sA 53 x_codeInt_0 (sA 52 x_code_0 (sA 51 (fun _ => nI cs1) g_m)))) w_m)]) (R := []) (List.Perm.refl _)) (fun  u H locs hp_25 hW => ?_)
                obtain ⟨ucodes_26, ucode_27, ucodeInt_28⟩ := u
                have hp_25 : ucodes_26 = cs1 + 1 ∧ ucode_27 = upd x_code_0 cs1 (nI 2) ∧ ucodeInt_28 = upd x_codeInt_0 cs1 0 := hp_25
                have hW : zW D A s.heap H locs (wj [(mw Y ad_m (sA 55 (fun _ => nI (nw1 - 1)) (sA 53 ucodeInt_28 (sA 52 ucode_27 (sA 51 (fun _ => nI ucodes_26) g_m)))) w_m)]) := hW.join
                obtain ⟨ec1, ec2, ec3⟩ := hp_25
                refine lv_goto (tgt := 0) hx hb dX12_comesOut_88 (by decide) ?_
                exact ih_0 ucode_27 ucodeInt_28 (nw1 - 1) ucodes_26 V (E_1 ++ [(opK w0, 0)]) (by omega) (by omega) (by omega) (by rw [List.length_append]; show _ = c0 + (E_1.length + 1); omega) (by omega) (by exact fun v hv => hok v (by rw [hWe]; exact List.mem_cons_of_mem _ hv)) (by rw [hWe] at hWA; exact hWA.tail) (by rw [ec2, ec3, hcs1]; have := hCD.snoc (opK w0) 0; rwa [show opK w0 = 2 from by unfold opK; split <;> (try omega) <;> (split <;> (try omega) <;> (split <;> omega))] at this ⊢) (by rw [hO, hst]) (by rw [ec2]; exact hl1.put (by omega) _) (by rw [ec3]; exact hl2.put (by omega) _) (by rw [ec2]; exact hk1.put (by omega) _) (by rw [ec3]; exact hk2.put (by omega) _) _ _ hW _ (lv_sub hl [1, 2] rfl)
            · have c_5 : w0 = 9 := (nI_eq (a := w0) (b := 9) (by omega) (by omega)).mp c_5
              refine z_vret ((nw1, cs1, x_code_0, x_codeInt_0) : (Nat) × (Nat) × (Nat → Int32) × (Nat → Int32)) hx hb hr hlocks hW rfl dX12_comesOut_41 ?_
              show nw1 = (outW true Wt Et).1.length ∧ cs1 = c0 + (outW true Wt Et).2.length ∧ WAT (g_m 54) (outW true Wt Et).1 ∧ CODE x_code_0 x_codeInt_0 c0 (outW true Wt Et).2 ∧ LOW cs (g_m 52) x_code_0 ∧ LOW cs (g_m 53) x_codeInt_0 ∧ KI ha_ (g_m 52) x_code_0 ∧ KI ha_ (g_m 53) x_codeInt_0
              have hst : outW true W_1 E_1 = (W_1, E_1) := by rw [hWe]; show (if w0 = 6 ∨ (true = true ∧ (w0 = 8 ∨ w0 = 9)) then _ else _) = _; rw [if_pos (by first | (left; omega) | (right; exact ⟨rfl, by omega⟩))]
              rw [hO, hst]; exact ⟨hnw, hcs1, hWA, hCD, hl1, hl2, hk1, hk2⟩
  exact loop_0 _ (g_m 52) (g_m 53) nw cs Wt Et (Nat.lt_succ_self _) (by exact hnw) (by omega) (by exact hcs) (by omega) (by exact hok) (by exact hWA) (by exact hCD) (by rfl) (by exact LOW.refl _ _) (by exact LOW.refl _ _) (by exact KI.refl _ _) (by exact KI.refl _ _) _ _ hW _ (lv_sub hl [0, 1] rfl)
set_option maxHeartbeats 1000000 in
set_option maxRecDepth 100000 in
theorem m_X12_unit (l : Launch) (D : va_G) (Y : Nat → ClassId) (ad_m : Nat → Nat) (g_m : Nat → Nat → Int32) (w_m : Nat → Nat → Int64) (kd : Nat → Nat) (pl : Nat → Nat) (vl : Nat → Int32) (nv : Nat → Nat) (x : PO PS) (fl : Nat) (fp : Nat) (tt : Nat) (wk : Nat) (wp : Nat) (cs : Nat) (ha_ : Nat) (sz : Nat) (hTK : TKR kd pl vl nv (g_m 5) (g_m 6) (g_m 7) (w_m 8)) (hFM : FM kd pl x fl fp tt wk wp) (hcs : ha_ ≤ cs ∧ cs < ha_ + 420 ∧ (ha_ = 420 * 0 ∨ ha_ = 420 * 1)) : Met l yX12_unit (ws_ yX12_unit cX12_unit 1 none) ({ frames := 3, cells := 0, slots := 0, locals := 53 }) (zPc D Y [.ref (ad_m 0)] sz (wj []) (wj [(mw Y ad_m (sA 51 (fun _ => nI cs) (sA 16 (fun _ => nI wp) (sA 15 (fun _ => nI wk) (sA 14 (fun _ => nI fp) (sA 13 (fun _ => nI fl) (sA 11 (fun _ => nI tt) g_m)))))) w_m)])) (va_Qv (fun (u : (Nat) × (Nat) × (Nat) × (Nat) × (Nat → Int32) × (Nat → Int32)) => (FM kd pl (PO.bd x (unitX kd)) u.1 u.2.1 u.2.2.1 wk wp) ∧ (cs ≤ u.2.2.2.1 ∧ u.2.2.2.1 ≤ cs + 1 ∧ (fl = 0 → kd tt = 2 ∨ (33 ≤ kd tt ∧ kd tt ≤ 39) → u.2.2.2.1 = cs + 1 ∧ u.2.2.2.2.1 = upd (g_m 52) cs (nI (unitQ kd vl tt).1) ∧ u.2.2.2.2.2 = upd (g_m 53) cs (unitQ kd vl tt).2) ∧ (¬ (fl = 0 ∧ (kd tt = 2 ∨ (33 ≤ kd tt ∧ kd tt ≤ 39))) → u.2.2.2.1 = cs ∧ u.2.2.2.2.1 = (g_m 52) ∧ u.2.2.2.2.2 = (g_m 53)))) (zB D (fun (u : (Nat) × (Nat) × (Nat) × (Nat) × (Nat → Int32) × (Nat → Int32)) => (wj [(mw Y ad_m (sA 53 u.2.2.2.2.2 (sA 52 u.2.2.2.2.1 (sA 51 (fun _ => nI u.2.2.2.1) (sA 16 (fun _ => nI wp) (sA 15 (fun _ => nI wk) (sA 14 (fun _ => nI u.2.1) (sA 13 (fun _ => nI u.1) (sA 11 (fun _ => nI u.2.2.1) g_m)))))))) w_m)])) (va_A (wj [(mw Y ad_m (sA 51 (fun _ => nI cs) (sA 16 (fun _ => nI wp) (sA 15 (fun _ => nI wk) (sA 14 (fun _ => nI fp) (sA 13 (fun _ => nI fl) (sA 11 (fun _ => nI tt) g_m)))))) w_m)]) sz)) (va_A (wj [(mw Y ad_m (sA 51 (fun _ => nI cs) (sA 16 (fun _ => nI wp) (sA 15 (fun _ => nI wk) (sA 14 (fun _ => nI fp) (sA 13 (fun _ => nI fl) (sA 11 (fun _ => nI tt) g_m)))))) w_m)]) sz)) 0 0 (va_A (wj [(mw Y ad_m (sA 51 (fun _ => nI cs) (sA 16 (fun _ => nI wp) (sA 15 (fun _ => nI wk) (sA 14 (fun _ => nI fp) (sA 13 (fun _ => nI fl) (sA 11 (fun _ => nI tt) g_m)))))) w_m)]) sz) := by
  refine Met.ofW (cc := cX12_unit) (maxL := 1) (ret := none) (by decide) rfl ?_
  intro p e s m args below meth c s₁ B hml hv
  obtain ⟨rfl, hsz, hW, hR, hK, hA⟩ := zEntry hv
  subst hsz
  have hx := B.exec
  have hb := B.bytes
  have hr := B.returns
  have hlocks := B.notSynchronized
  have hts : ∀ w ∈ lw_all, w.before _ s = true := fun w h => atoms_spec (ws := (ws_ yX12_unit cX12_unit 1 none)) B.pre w (List.mem_cons_of_mem _ h)
  have hown : s.vm.findClass RX12 = some m.cls := findClass_of_methodNamed B.named
  generalize hAe : va_A (wj [(mw Y ad_m (sA 51 (fun _ => nI cs) (sA 16 (fun _ => nI wp) (sA 15 (fun _ => nI wk) (sA 14 (fun _ => nI fp) (sA 13 (fun _ => nI fl) (sA 11 (fun _ => nI tt) g_m)))))) w_m)]) s.heap.size = A at hW hR hA ⊢
  have hl := lv_entry ([.ref (ad_m 0)]) (n := 1) (Nat.le_of_ble_eq_true rfl)
  rw [lg_entry_eq]
  generalize (lg_sl ([.ref (ad_m 0)]) ++ List.replicate (1 - (lg_sl ([.ref (ad_m 0)])).length) Slot.unset).toArray = ls at hl ⊢
  have hl : lv_has ls 1 [(0, .ref (ad_m 0))] := hl
  have hbnd := hFM.bnd
  have hkb := hTK.kb tt
  have hpb := hTK.pb tt
  refine lv_aload_n hx hb dX12_unit_0 rfl (lv_at hl 0 rfl) ?_
  refine lv_iconst (v := 2) hx hb dX12_unit_1 (by decide) ?_
  refine z_calli (wc := wj [(mw Y ad_m (sA 51 (fun _ => nI cs) (sA 16 (fun _ => nI wp) (sA 15 (fun _ => nI wk) (sA 14 (fun _ => nI fp) (sA 13 (fun _ => nI fl) (sA 11 (fun _ => nI tt) g_m)))))) w_m)]) (wr := wj []) (va_runV (As := [.int 2]) (rest := []) ⟨hx, hb, hml, hown, hts⟩ (m_X12_isF l D Y ad_m (sA 51 (fun _ => nI cs) (sA 16 (fun _ => nI wp) (sA 15 (fun _ => nI wk) (sA 14 (fun _ => nI fp) (sA 13 (fun _ => nI fl) (sA 11 (fun _ => nI tt) g_m)))))) w_m kd pl vl nv fl tt 2 s.heap.size (show TKR kd pl vl nv (g_m 5) (g_m 6) (g_m 7) (w_m 8) from by first | assumption | omega | grind) (show tt ≤ 400 from by first | assumption | omega | grind) (show fl = 0 → OKP kd tt from by exact fun z => FM.okp (by assumption) z) (show 2 < 100 from by first | assumption | omega | grind) (show fl ≤ 2 from by first | assumption | omega | grind)) (cwV 1 hts (lw_V q1901 q1903 qs62 q133 q1904) rfl rfl rfl (by decide +kernel) ⟨Nat.le_of_ble_eq_true rfl, Nat.le_of_ble_eq_true rfl⟩) (zPreV hK hW hR (wj_split3 (B := [(mw Y ad_m (sA 51 (fun _ => nI cs) (sA 16 (fun _ => nI wp) (sA 15 (fun _ => nI wk) (sA 14 (fun _ => nI fp) (sA 13 (fun _ => nI fl) (sA 11 (fun _ => nI tt) g_m)))))) w_m)]) (R := []) (C := [(mw Y ad_m (sA 51 (fun _ => nI cs) (sA 16 (fun _ => nI wp) (sA 15 (fun _ => nI wk) (sA 14 (fun _ => nI fp) (sA 13 (fun _ => nI fl) (sA 11 (fun _ => nI tt) g_m)))))) w_m)]) (O := []) (X := []) (List.Perm.refl _)) (va_recv hK.1 hW.1 (ci := 11) (q0 := 0) rfl rfl)) rfl rfl hl.1 rfl (lv_room (Nat.le_of_ble_eq_true rfl)) dX12_unit_2 ⟨Nat.le_refl _, Nat.le_refl _⟩) hW hA (wj_split (B := [(mw Y ad_m (sA 51 (fun _ => nI cs) (sA 16 (fun _ => nI wp) (sA 15 (fun _ => nI wk) (sA 14 (fun _ => nI fp) (sA 13 (fun _ => nI fl) (sA 11 (fun _ => nI tt) g_m)))))) w_m)]) (C := [(mw Y ad_m (sA 51 (fun _ => nI cs) (sA 16 (fun _ => nI wp) (sA 15 (fun _ => nI wk) (sA 14 (fun _ => nI fp) (sA 13 (fun _ => nI fl) (sA 11 (fun _ => nI tt) g_m)))))) w_m)]) (R := []) (List.Perm.refl _)) (fun r_1 u H locs hp_2 hW => ?_)
  have hp_2 : r_1 = zb (fl = 0 ∧ kd tt = 2) := hp_2
  have hW : zW D A s.heap H locs (wj [(mw Y ad_m (sA 51 (fun _ => nI cs) (sA 16 (fun _ => nI wp) (sA 15 (fun _ => nI wk) (sA 14 (fun _ => nI fp) (sA 13 (fun _ => nI fl) (sA 11 (fun _ => nI tt) g_m)))))) w_m)]) := hW.join
  have ho_ := True.intro
  refine lv_if_eq (tgt := 29) hx hb dX12_unit_5 (by decide) (fun c_3 => ?_) (fun c_3 => ?_)
  · have c_3 : ¬ (fl = 0 ∧ kd tt = 2) := zb_eq hp_2 c_3
    refine lv_aload_n hx hb dX12_unit_29 rfl (lv_at hl 0 rfl) ?_
    refine va_get (v := .int (nI fl)) (C := RX12) (T := TX12) (N := 75) (ci := 11) hx hb hts in_X12 hown hK.1 hW.1 0 rfl rfl 13 (by decide) (hts _ q1649) (fun _ h9 => h9) rfl dX12_unit_30 ?_
    refine lv_if_ne (tgt := 88) hx hb dX12_unit_33 (by decide) (fun c_4 => ?_) (fun c_4 => ?_)
    · have c_4 : ¬ (fl = 0) := fun hz_ => c_4 ((nI_eq (a := fl) (b := 0) (by omega) (by omega)).mpr hz_)
      refine lv_aload_n hx hb dX12_unit_88 rfl (lv_at hl 0 rfl) ?_
      refine lv_iconst (v := 1) hx hb dX12_unit_89 (by decide) ?_
      refine z_callv (wc := wj [(mw Y ad_m (sA 51 (fun _ => nI cs) (sA 16 (fun _ => nI wp) (sA 15 (fun _ => nI wk) (sA 14 (fun _ => nI fp) (sA 13 (fun _ => nI fl) (sA 11 (fun _ => nI tt) g_m)))))) w_m)]) (wr := wj []) (va_runV (As := [.int 1]) (rest := []) ⟨hx, hb, hml, hown, hts⟩ (m_X12_fail l D Y ad_m (sA 51 (fun _ => nI cs) (sA 16 (fun _ => nI wp) (sA 15 (fun _ => nI wk) (sA 14 (fun _ => nI fp) (sA 13 (fun _ => nI fl) (sA 11 (fun _ => nI tt) g_m)))))) w_m kd pl vl nv x fl fp tt wk wp 1 H.size (show TKR kd pl vl nv (g_m 5) (g_m 6) (g_m 7) (w_m 8) from by first | assumption | omega | grind) (show FM kd pl x fl fp tt wk wp from by first | assumption | omega | grind) (show 1 ≤ 1 ∧ 1 ≤ 2 from by first | assumption | omega | grind)) (cwV 1 hts (lw_V q1913 q1915 qs65 q133 q1916) rfl rfl rfl (by decide +kernel) ⟨Nat.le_of_ble_eq_true rfl, Nat.le_of_ble_eq_true rfl⟩) (zPreV hK hW hR (wj_split3 (B := [(mw Y ad_m (sA 51 (fun _ => nI cs) (sA 16 (fun _ => nI wp) (sA 15 (fun _ => nI wk) (sA 14 (fun _ => nI fp) (sA 13 (fun _ => nI fl) (sA 11 (fun _ => nI tt) g_m)))))) w_m)]) (R := []) (C := [(mw Y ad_m (sA 51 (fun _ => nI cs) (sA 16 (fun _ => nI wp) (sA 15 (fun _ => nI wk) (sA 14 (fun _ => nI fp) (sA 13 (fun _ => nI fl) (sA 11 (fun _ => nI tt) g_m)))))) w_m)]) (O := []) (X := []) (List.Perm.refl _)) (va_recv hK.1 hW.1 (ci := 11) (q0 := 0) rfl rfl)) rfl rfl hl.1 rfl (lv_room (Nat.le_of_ble_eq_true rfl)) dX12_unit_90 ⟨Nat.le_refl _, Nat.le_refl _⟩) hW hA (wj_split (B := [(mw Y ad_m (sA 51 (fun _ => nI cs) (sA 16 (fun _ => nI wp) (sA 15 (fun _ => nI wk) (sA 14 (fun _ => nI fp) (sA 13 (fun _ => nI fl) (sA 11 (fun _ => nI tt) g_m)))))) w_m)]) (C := [(mw Y ad_m (sA 51 (fun _ => nI cs) (sA 16 (fun _ => nI wp) (sA 15 (fun _ => nI wk) (sA 14 (fun _ => nI fp) (sA 13 (fun _ => nI fl) (sA 11 (fun _ => nI tt) g_m)))))) w_m)]) (R := []) (List.Perm.refl _)) (fun  u H locs hp_6 hW => ?_)
      obtain ⟨ufault_7, ufaultPlace_8⟩ := u
      have hp_6 : FM kd pl (PO.bd x (failR 1)) ufault_7 ufaultPlace_8 tt wk wp := hp_6
      have hW : zW D A s.heap H locs (wj [(mw Y ad_m (sA 51 (fun _ => nI cs) (sA 16 (fun _ => nI wp) (sA 15 (fun _ => nI wk) (sA 14 (fun _ => nI ufaultPlace_8) (sA 13 (fun _ => nI ufault_7) (sA 11 (fun _ => nI tt) g_m)))))) w_m)]) := hW.join
      refine z_vret ((ufault_7, ufaultPlace_8, tt, cs, g_m 52, g_m 53) : (Nat) × (Nat) × (Nat) × (Nat) × (Nat → Int32) × (Nat → Int32)) hx hb hr hlocks hW rfl dX12_unit_93 ?_
      show (FM kd pl (PO.bd x (unitX kd)) ufault_7 ufaultPlace_8 tt wk wp) ∧ (cs ≤ cs ∧ cs ≤ cs + 1 ∧ (fl = 0 → kd tt = 2 ∨ (33 ≤ kd tt ∧ kd tt ≤ 39) → cs = cs + 1 ∧ (g_m 52) = upd (g_m 52) cs (nI (unitQ kd vl tt).1) ∧ (g_m 53) = upd (g_m 53) cs (unitQ kd vl tt).2) ∧ (¬ (fl = 0 ∧ (kd tt = 2 ∨ (33 ≤ kd tt ∧ kd tt ≤ 39))) → cs = cs ∧ (g_m 52) = (g_m 52) ∧ (g_m 53) = (g_m 53)))
      refine ⟨?_, ?_⟩
      · have e9 : PO.bd x (unitX kd) = PO.bd x (failR 1) := bd_congr (fun s0 h0 => by
          have hs := (show FM kd pl (Except.ok s0) fl fp tt wk wp by rw [← h0]; exact hFM).sv
          unfold unitX; rw [if_neg (by rw [← hs.2.1]; omega)]; rfl)
        rw [e9]; exact hp_6
      · refine ⟨by omega, by omega, fun z1 z2 => by omega, fun _ => ⟨rfl, rfl, rfl⟩⟩
    · have c_4 : fl = 0 := (nI_eq (a := fl) (b := 0) (by omega) (by omega)).mp c_4
      have ho := hFM.okp (by omega)
      refine lv_aload_n hx hb dX12_unit_36 rfl (lv_at hl 0 rfl) ?_
      refine va_get (v := .ref (ad_m 5)) (C := RX12) (T := TX12) (N := 75) (ci := 11) hx hb hts in_X12 hown hK.1 hW.1 0 rfl rfl 5 (by decide) (hts _ q1641) (fun _ h9 => h9) rfl dX12_unit_37 ?_
      refine lv_aload_n hx hb dX12_unit_40 rfl (lv_at hl 0 rfl) ?_
      refine va_get (v := .int (nI tt)) (C := RX12) (T := TX12) (N := 75) (ci := 11) hx hb hts in_X12 hown hK.1 hW.1 0 rfl rfl 11 (by decide) (hts _ q1647) (fun _ h9 => h9) rfl dX12_unit_41 ?_
      refine z_iald (v := nI (kd tt)) (f := g_m 5) (j := tt) hx hb hK.1 hW.1 3 0 rfl rfl (vp_in_nI (n := tt) (by omega) (by decide)) (nI_clamp (n := tt) (by omega)) (hTK.k (j := tt) (by omega) (by first | assumption | exact hok (by omega) | exact hFM.okp (by omega))) dX12_unit_44 ?_
      refine lv_bipush (v := 33) hx hb dX12_unit_45 (by decide) ?_
      refine lv_icmp_lt (tgt := 88) hx hb dX12_unit_47 (by decide) (fun c_9 => ?_) (fun c_9 => ?_)
      · have c_9 : kd tt < 33 := (nI_ltI (a := kd tt) (b := 33) (by omega) (by omega)).mp c_9
        refine lv_aload_n hx hb dX12_unit_88 rfl (lv_at hl 0 rfl) ?_
        refine lv_iconst (v := 1) hx hb dX12_unit_89 (by decide) ?_
        refine z_callv (wc := wj [(mw Y ad_m (sA 51 (fun _ => nI cs) (sA 16 (fun _ => nI wp) (sA 15 (fun _ => nI wk) (sA 14 (fun _ => nI fp) (sA 13 (fun _ => nI fl) (sA 11 (fun _ => nI tt) g_m)))))) w_m)]) (wr := wj []) (va_runV (As := [.int 1]) (rest := []) ⟨hx, hb, hml, hown, hts⟩ (m_X12_fail l D Y ad_m (sA 51 (fun _ => nI cs) (sA 16 (fun _ => nI wp) (sA 15 (fun _ => nI wk) (sA 14 (fun _ => nI fp) (sA 13 (fun _ => nI fl) (sA 11 (fun _ => nI tt) g_m)))))) w_m kd pl vl nv x fl fp tt wk wp 1 H.size (show TKR kd pl vl nv (g_m 5) (g_m 6) (g_m 7) (w_m 8) from by first | assumption | omega | grind) (show FM kd pl x fl fp tt wk wp from by first | assumption | omega | grind) (show 1 ≤ 1 ∧ 1 ≤ 2 from by first | assumption | omega | grind)) (cwV 1 hts (lw_V q1913 q1915 qs65 q133 q1916) rfl rfl rfl (by decide +kernel) ⟨Nat.le_of_ble_eq_true rfl, Nat.le_of_ble_eq_true rfl⟩) (zPreV hK hW hR (wj_split3 (B := [(mw Y ad_m (sA 51 (fun _ => nI cs) (sA 16 (fun _ => nI wp) (sA 15 (fun _ => nI wk) (sA 14 (fun _ => nI fp) (sA 13 (fun _ => nI fl) (sA 11 (fun _ => nI tt) g_m)))))) w_m)]) (R := []) (C := [(mw Y ad_m (sA 51 (fun _ => nI cs) (sA 16 (fun _ => nI wp) (sA 15 (fun _ => nI wk) (sA 14 (fun _ => nI fp) (sA 13 (fun _ => nI fl) (sA 11 (fun _ => nI tt) g_m)))))) w_m)]) (O := []) (X := []) (List.Perm.refl _)) (va_recv hK.1 hW.1 (ci := 11) (q0 := 0) rfl rfl)) rfl rfl hl.1 rfl (lv_room (Nat.le_of_ble_eq_true rfl)) dX12_unit_90 ⟨Nat.le_refl _, Nat.le_refl _⟩) hW hA (wj_split (B := [(mw Y ad_m (sA 51 (fun _ => nI cs) (sA 16 (fun _ => nI wp) (sA 15 (fun _ => nI wk) (sA 14 (fun _ => nI fp) (sA 13 (fun _ => nI fl) (sA 11 (fun _ => nI tt) g_m)))))) w_m)]) (C := [(mw Y ad_m (sA 51 (fun _ => nI cs) (sA 16 (fun _ => nI wp) (sA 15 (fun _ => nI wk) (sA 14 (fun _ => nI fp) (sA 13 (fun _ => nI fl) (sA 11 (fun _ => nI tt) g_m)))))) w_m)]) (R := []) (List.Perm.refl _)) (fun  u H locs hp_11 hW => ?_)
        obtain ⟨ufault_12, ufaultPlace_13⟩ := u
        have hp_11 : FM kd pl (PO.bd x (failR 1)) ufault_12 ufaultPlace_13 tt wk wp := hp_11
        have hW : zW D A s.heap H locs (wj [(mw Y ad_m (sA 51 (fun _ => nI cs) (sA 16 (fun _ => nI wp) (sA 15 (fun _ => nI wk) (sA 14 (fun _ => nI ufaultPlace_13) (sA 13 (fun _ => nI ufault_12) (sA 11 (fun _ => nI tt) g_m)))))) w_m)]) := hW.join
        refine z_vret ((ufault_12, ufaultPlace_13, tt, cs, g_m 52, g_m 53) : (Nat) × (Nat) × (Nat) × (Nat) × (Nat → Int32) × (Nat → Int32)) hx hb hr hlocks hW rfl dX12_unit_93 ?_
        show (FM kd pl (PO.bd x (unitX kd)) ufault_12 ufaultPlace_13 tt wk wp) ∧ (cs ≤ cs ∧ cs ≤ cs + 1 ∧ (fl = 0 → kd tt = 2 ∨ (33 ≤ kd tt ∧ kd tt ≤ 39) → cs = cs + 1 ∧ (g_m 52) = upd (g_m 52) cs (nI (unitQ kd vl tt).1) ∧ (g_m 53) = upd (g_m 53) cs (unitQ kd vl tt).2) ∧ (¬ (fl = 0 ∧ (kd tt = 2 ∨ (33 ≤ kd tt ∧ kd tt ≤ 39))) → cs = cs ∧ (g_m 52) = (g_m 52) ∧ (g_m 53) = (g_m 53)))
        refine ⟨?_, ?_⟩
        · have e9 : PO.bd x (unitX kd) = PO.bd x (failR 1) := bd_congr (fun s0 h0 => by
            have hs := (show FM kd pl (Except.ok s0) fl fp tt wk wp by rw [← h0]; exact hFM).sv
            unfold unitX; rw [if_neg (by rw [← hs.2.1]; omega)]; rfl)
          rw [e9]; exact hp_11
        · refine ⟨by omega, by omega, fun z1 z2 => by omega, fun _ => ⟨rfl, rfl, rfl⟩⟩
      · have c_9 : ¬ (kd tt < 33) := fun hz_ => c_9 ((nI_ltI (a := kd tt) (b := 33) (by omega) (by omega)).mpr hz_)
        refine lv_aload_n hx hb dX12_unit_50 rfl (lv_at hl 0 rfl) ?_
        refine va_get (v := .ref (ad_m 5)) (C := RX12) (T := TX12) (N := 75) (ci := 11) hx hb hts in_X12 hown hK.1 hW.1 0 rfl rfl 5 (by decide) (hts _ q1641) (fun _ h9 => h9) rfl dX12_unit_51 ?_
        refine lv_aload_n hx hb dX12_unit_54 rfl (lv_at hl 0 rfl) ?_
        refine va_get (v := .int (nI tt)) (C := RX12) (T := TX12) (N := 75) (ci := 11) hx hb hts in_X12 hown hK.1 hW.1 0 rfl rfl 11 (by decide) (hts _ q1647) (fun _ h9 => h9) rfl dX12_unit_55 ?_
        refine z_iald (v := nI (kd tt)) (f := g_m 5) (j := tt) hx hb hK.1 hW.1 3 0 rfl rfl (vp_in_nI (n := tt) (by omega) (by decide)) (nI_clamp (n := tt) (by omega)) (hTK.k (j := tt) (by omega) (by first | assumption | exact hok (by omega) | exact hFM.okp (by omega))) dX12_unit_58 ?_
        refine lv_bipush (v := 39) hx hb dX12_unit_59 (by decide) ?_
        refine lv_icmp_gt (tgt := 88) hx hb dX12_unit_61 (by decide) (fun c_14 => ?_) (fun c_14 => ?_)
        · have c_14 : 39 < kd tt := (nI_ltI (a := 39) (b := kd tt) (by omega) (by omega)).mp c_14
          refine lv_aload_n hx hb dX12_unit_88 rfl (lv_at hl 0 rfl) ?_
          refine lv_iconst (v := 1) hx hb dX12_unit_89 (by decide) ?_
          refine z_callv (wc := wj [(mw Y ad_m (sA 51 (fun _ => nI cs) (sA 16 (fun _ => nI wp) (sA 15 (fun _ => nI wk) (sA 14 (fun _ => nI fp) (sA 13 (fun _ => nI fl) (sA 11 (fun _ => nI tt) g_m)))))) w_m)]) (wr := wj []) (va_runV (As := [.int 1]) (rest := []) ⟨hx, hb, hml, hown, hts⟩ (m_X12_fail l D Y ad_m (sA 51 (fun _ => nI cs) (sA 16 (fun _ => nI wp) (sA 15 (fun _ => nI wk) (sA 14 (fun _ => nI fp) (sA 13 (fun _ => nI fl) (sA 11 (fun _ => nI tt) g_m)))))) w_m kd pl vl nv x fl fp tt wk wp 1 H.size (show TKR kd pl vl nv (g_m 5) (g_m 6) (g_m 7) (w_m 8) from by first | assumption | omega | grind) (show FM kd pl x fl fp tt wk wp from by first | assumption | omega | grind) (show 1 ≤ 1 ∧ 1 ≤ 2 from by first | assumption | omega | grind)) (cwV 1 hts (lw_V q1913 q1915 qs65 q133 q1916) rfl rfl rfl (by decide +kernel) ⟨Nat.le_of_ble_eq_true rfl, Nat.le_of_ble_eq_true rfl⟩) (zPreV hK hW hR (wj_split3 (B := [(mw Y ad_m (sA 51 (fun _ => nI cs) (sA 16 (fun _ => nI wp) (sA 15 (fun _ => nI wk) (sA 14 (fun _ => nI fp) (sA 13 (fun _ => nI fl) (sA 11 (fun _ => nI tt) g_m)))))) w_m)]) (R := []) (C := [(mw Y ad_m (sA 51 (fun _ => nI cs) (sA 16 (fun _ => nI wp) (sA 15 (fun _ => nI wk) (sA 14 (fun _ => nI fp) (sA 13 (fun _ => nI fl) (sA 11 (fun _ => nI tt) g_m)))))) w_m)]) (O := []) (X := []) (List.Perm.refl _)) (va_recv hK.1 hW.1 (ci := 11) (q0 := 0) rfl rfl)) rfl rfl hl.1 rfl (lv_room (Nat.le_of_ble_eq_true rfl)) dX12_unit_90 ⟨Nat.le_refl _, Nat.le_refl _⟩) hW hA (wj_split (B := [(mw Y ad_m (sA 51 (fun _ => nI cs) (sA 16 (fun _ => nI wp) (sA 15 (fun _ => nI wk) (sA 14 (fun _ => nI fp) (sA 13 (fun _ => nI fl) (sA 11 (fun _ => nI tt) g_m)))))) w_m)]) (C := [(mw Y ad_m (sA 51 (fun _ => nI cs) (sA 16 (fun _ => nI wp) (sA 15 (fun _ => nI wk) (sA 14 (fun _ => nI fp) (sA 13 (fun _ => nI fl) (sA 11 (fun _ => nI tt) g_m)))))) w_m)]) (R := []) (List.Perm.refl _)) (fun  u H locs hp_16 hW => ?_)
          obtain ⟨ufault_17, ufaultPlace_18⟩ := u
          have hp_16 : FM kd pl (PO.bd x (failR 1)) ufault_17 ufaultPlace_18 tt wk wp := hp_16
          have hW : zW D A s.heap H locs (wj [(mw Y ad_m (sA 51 (fun _ => nI cs) (sA 16 (fun _ => nI wp) (sA 15 (fun _ => nI wk) (sA 14 (fun _ => nI ufaultPlace_18) (sA 13 (fun _ => nI ufault_17) (sA 11 (fun _ => nI tt) g_m)))))) w_m)]) := hW.join
          refine z_vret ((ufault_17, ufaultPlace_18, tt, cs, g_m 52, g_m 53) : (Nat) × (Nat) × (Nat) × (Nat) × (Nat → Int32) × (Nat → Int32)) hx hb hr hlocks hW rfl dX12_unit_93 ?_
          show (FM kd pl (PO.bd x (unitX kd)) ufault_17 ufaultPlace_18 tt wk wp) ∧ (cs ≤ cs ∧ cs ≤ cs + 1 ∧ (fl = 0 → kd tt = 2 ∨ (33 ≤ kd tt ∧ kd tt ≤ 39) → cs = cs + 1 ∧ (g_m 52) = upd (g_m 52) cs (nI (unitQ kd vl tt).1) ∧ (g_m 53) = upd (g_m 53) cs (unitQ kd vl tt).2) ∧ (¬ (fl = 0 ∧ (kd tt = 2 ∨ (33 ≤ kd tt ∧ kd tt ≤ 39))) → cs = cs ∧ (g_m 52) = (g_m 52) ∧ (g_m 53) = (g_m 53)))
          refine ⟨?_, ?_⟩
          · have e9 : PO.bd x (unitX kd) = PO.bd x (failR 1) := bd_congr (fun s0 h0 => by
              have hs := (show FM kd pl (Except.ok s0) fl fp tt wk wp by rw [← h0]; exact hFM).sv
              unfold unitX; rw [if_neg (by rw [← hs.2.1]; omega)]; rfl)
            rw [e9]; exact hp_16
          · refine ⟨by omega, by omega, fun z1 z2 => by omega, fun _ => ⟨rfl, rfl, rfl⟩⟩
        · have c_14 : ¬ (39 < kd tt) := fun hz_ => c_14 ((nI_ltI (a := 39) (b := kd tt) (by omega) (by omega)).mpr hz_)
          refine lv_aload_n hx hb dX12_unit_64 rfl (lv_at hl 0 rfl) ?_
          refine lv_iconst (v := 1) hx hb dX12_unit_65 (by decide) ?_
          refine lv_aload_n hx hb dX12_unit_66 rfl (lv_at hl 0 rfl) ?_
          refine va_get (v := .ref (ad_m 5)) (C := RX12) (T := TX12) (N := 75) (ci := 11) hx hb hts in_X12 hown hK.1 hW.1 0 rfl rfl 5 (by decide) (hts _ q1641) (fun _ h9 => h9) rfl dX12_unit_67 ?_
          refine lv_aload_n hx hb dX12_unit_70 rfl (lv_at hl 0 rfl) ?_
          refine va_get (v := .int (nI tt)) (C := RX12) (T := TX12) (N := 75) (ci := 11) hx hb hts in_X12 hown hK.1 hW.1 0 rfl rfl 11 (by decide) (hts _ q1647) (fun _ h9 => h9) rfl dX12_unit_71 ?_
          refine z_iald (v := nI (kd tt)) (f := g_m 5) (j := tt) hx hb hK.1 hW.1 3 0 rfl rfl (vp_in_nI (n := tt) (by omega) (by decide)) (nI_clamp (n := tt) (by omega)) (hTK.k (j := tt) (by omega) (by first | assumption | exact hok (by omega) | exact hFM.okp (by omega))) dX12_unit_74 ?_
          refine lv_bipush (v := 33) hx hb dX12_unit_75 (by decide) ?_
          refine lv_isub hx hb dX12_unit_77 ?_
          refine lv_topi (nm_r (e' := nI (kd tt - 33)) (pk_sub (a := kd tt) (b := 33) (by omega)) ?_)
          refine z_callv (wc := wj [(mw Y ad_m (sA 51 (fun _ => nI cs) (sA 16 (fun _ => nI wp) (sA 15 (fun _ => nI wk) (sA 14 (fun _ => nI fp) (sA 13 (fun _ => nI fl) (sA 11 (fun _ => nI tt) g_m)))))) w_m)]) (wr := wj []) (va_runV (As := [.int 1, .int (nI (kd tt - 33))]) (rest := []) ⟨hx, hb, hml, hown, hts⟩ (m_X12_emit l D Y ad_m (sA 51 (fun _ => nI cs) (sA 16 (fun _ => nI wp) (sA 15 (fun _ => nI wk) (sA 14 (fun _ => nI fp) (sA 13 (fun _ => nI fl) (sA 11 (fun _ => nI tt) g_m)))))) w_m 1 (nI (kd tt - 33)) cs H.size (show cs < 840 from by first | assumption | omega | grind)) (cwV 2 hts (lw_V q1973 q1975 qs80 q133 q1976) rfl rfl rfl (by decide +kernel) ⟨Nat.le_of_ble_eq_true rfl, Nat.le_of_ble_eq_true rfl⟩) (zPreV hK hW hR (wj_split3 (B := [(mw Y ad_m (sA 51 (fun _ => nI cs) (sA 16 (fun _ => nI wp) (sA 15 (fun _ => nI wk) (sA 14 (fun _ => nI fp) (sA 13 (fun _ => nI fl) (sA 11 (fun _ => nI tt) g_m)))))) w_m)]) (R := []) (C := [(mw Y ad_m (sA 51 (fun _ => nI cs) (sA 16 (fun _ => nI wp) (sA 15 (fun _ => nI wk) (sA 14 (fun _ => nI fp) (sA 13 (fun _ => nI fl) (sA 11 (fun _ => nI tt) g_m)))))) w_m)]) (O := []) (X := []) (List.Perm.refl _)) (va_recv hK.1 hW.1 (ci := 11) (q0 := 0) rfl rfl)) rfl rfl hl.1 rfl (lv_room (Nat.le_of_ble_eq_true rfl)) dX12_unit_78 ⟨Nat.le_refl _, Nat.le_refl _⟩) hW hA (wj_split (B := [(mw Y ad_m (sA 51 (fun _ => nI cs) (sA 16 (fun _ => nI wp) (sA 15 (fun _ => nI wk) (sA 14 (fun _ => nI fp) (sA 13 (fun _ => nI fl) (sA 11 (fun _ => nI tt) g_m)))))) w_m)]) (C := [(mw Y ad_m (sA 51 (fun _ => nI cs) (sA 16 (fun _ => nI wp) (sA 15 (fun _ => nI wk) (sA 14 (fun _ => nI fp) (sA 13 (fun _ => nI fl) (sA 11 (fun _ => nI tt) g_m)))))) w_m)]) (R := []) (List.Perm.refl _)) (fun  u H locs hp_20 hW => ?_)
          obtain ⟨ucodes_21, ucode_22, ucodeInt_23⟩ := u
          have hp_20 : ucodes_21 = cs + 1 ∧ ucode_22 = upd (g_m 52) cs (nI 1) ∧ ucodeInt_23 = upd (g_m 53) cs (nI (kd tt - 33)) := hp_20
          have hW : zW D A s.heap H locs (wj [(mw Y ad_m (sA 53 ucodeInt_23 (sA 52 ucode_22 (sA 51 (fun _ => nI ucodes_21) (sA 16 (fun _ => nI wp) (sA 15 (fun _ => nI wk) (sA 14 (fun _ => nI fp) (sA 13 (fun _ => nI fl) (sA 11 (fun _ => nI tt) g_m)))))))) w_m)]) := hW.join
          obtain ⟨ec1, ec2, ec3⟩ := hp_20
          refine lv_aload_n hx hb dX12_unit_81 rfl (lv_at hl 0 rfl) ?_
          refine z_callv (wc := wj [(mw Y ad_m (sA 53 ucodeInt_23 (sA 52 ucode_22 (sA 51 (fun _ => nI ucodes_21) (sA 16 (fun _ => nI wp) (sA 15 (fun _ => nI wk) (sA 14 (fun _ => nI fp) (sA 13 (fun _ => nI fl) (sA 11 (fun _ => nI tt) g_m)))))))) w_m)]) (wr := wj []) (va_runV (As := []) (rest := []) ⟨hx, hb, hml, hown, hts⟩ (m_X12_goesOn l D Y ad_m (sA 53 ucodeInt_23 (sA 52 ucode_22 (sA 51 (fun _ => nI ucodes_21) (sA 16 (fun _ => nI wp) (sA 15 (fun _ => nI wk) (sA 14 (fun _ => nI fp) (sA 13 (fun _ => nI fl) (sA 11 (fun _ => nI tt) g_m)))))))) w_m kd pl vl nv x fl fp tt wk wp H.size (show TKR kd pl vl nv (g_m 5) (g_m 6) (g_m 7) (w_m 8) from by first | assumption | omega | grind) (show FM kd pl x fl fp tt wk wp from by first | assumption | omega | grind) (show fl = 0 → kd tt ≠ 0 ∧ kd tt ≠ 3 from by intro _; omega)) (cwV 0 hts (lw_V q1917 q1919 qs66 q133 q1920) rfl rfl rfl (by decide +kernel) ⟨Nat.le_of_ble_eq_true rfl, Nat.le_of_ble_eq_true rfl⟩) (zPreV hK hW hR (wj_split3 (B := [(mw Y ad_m (sA 53 ucodeInt_23 (sA 52 ucode_22 (sA 51 (fun _ => nI ucodes_21) (sA 16 (fun _ => nI wp) (sA 15 (fun _ => nI wk) (sA 14 (fun _ => nI fp) (sA 13 (fun _ => nI fl) (sA 11 (fun _ => nI tt) g_m)))))))) w_m)]) (R := []) (C := [(mw Y ad_m (sA 53 ucodeInt_23 (sA 52 ucode_22 (sA 51 (fun _ => nI ucodes_21) (sA 16 (fun _ => nI wp) (sA 15 (fun _ => nI wk) (sA 14 (fun _ => nI fp) (sA 13 (fun _ => nI fl) (sA 11 (fun _ => nI tt) g_m)))))))) w_m)]) (O := []) (X := []) (List.Perm.refl _)) (va_recv hK.1 hW.1 (ci := 11) (q0 := 0) rfl rfl)) rfl rfl hl.1 rfl (lv_room (Nat.le_of_ble_eq_true rfl)) dX12_unit_82 ⟨Nat.le_refl _, Nat.le_refl _⟩) hW hA (wj_split (B := [(mw Y ad_m (sA 53 ucodeInt_23 (sA 52 ucode_22 (sA 51 (fun _ => nI ucodes_21) (sA 16 (fun _ => nI wp) (sA 15 (fun _ => nI wk) (sA 14 (fun _ => nI fp) (sA 13 (fun _ => nI fl) (sA 11 (fun _ => nI tt) g_m)))))))) w_m)]) (C := [(mw Y ad_m (sA 53 ucodeInt_23 (sA 52 ucode_22 (sA 51 (fun _ => nI ucodes_21) (sA 16 (fun _ => nI wp) (sA 15 (fun _ => nI wk) (sA 14 (fun _ => nI fp) (sA 13 (fun _ => nI fl) (sA 11 (fun _ => nI tt) g_m)))))))) w_m)]) (R := []) (List.Perm.refl _)) (fun  u H locs hp_25 hW => ?_)
          obtain ⟨ufault_26, ufaultPlace_27, ut_28⟩ := u
          have hp_25 : FM kd pl (PO.bd x passR) ufault_26 ufaultPlace_27 ut_28 wk wp := hp_25
          have hW : zW D A s.heap H locs (wj [(mw Y ad_m (sA 53 ucodeInt_23 (sA 52 ucode_22 (sA 51 (fun _ => nI ucodes_21) (sA 16 (fun _ => nI wp) (sA 15 (fun _ => nI wk) (sA 14 (fun _ => nI ufaultPlace_27) (sA 13 (fun _ => nI ufault_26) (sA 11 (fun _ => nI ut_28) g_m)))))))) w_m)]) := hW.join
          refine lv_goto (tgt := 93) hx hb dX12_unit_85 (by decide) ?_
          refine z_vret ((ufault_26, ufaultPlace_27, ut_28, ucodes_21, ucode_22, ucodeInt_23) : (Nat) × (Nat) × (Nat) × (Nat) × (Nat → Int32) × (Nat → Int32)) hx hb hr hlocks hW rfl dX12_unit_93 ?_
          show (FM kd pl (PO.bd x (unitX kd)) ufault_26 ufaultPlace_27 ut_28 wk wp) ∧ (cs ≤ ucodes_21 ∧ ucodes_21 ≤ cs + 1 ∧ (fl = 0 → kd tt = 2 ∨ (33 ≤ kd tt ∧ kd tt ≤ 39) → ucodes_21 = cs + 1 ∧ ucode_22 = upd (g_m 52) cs (nI (unitQ kd vl tt).1) ∧ ucodeInt_23 = upd (g_m 53) cs (unitQ kd vl tt).2) ∧ (¬ (fl = 0 ∧ (kd tt = 2 ∨ (33 ≤ kd tt ∧ kd tt ≤ 39))) → ucodes_21 = cs ∧ ucode_22 = (g_m 52) ∧ ucodeInt_23 = (g_m 53)))
          refine ⟨?_, ?_⟩
          · have e9 : PO.bd x (unitX kd) = PO.bd x passR := bd_congr (fun s0 h0 => by
              have hs := (show FM kd pl (Except.ok s0) fl fp tt wk wp by rw [← h0]; exact hFM).sv
              unfold unitX; rw [if_pos (by rw [← hs.2.1]; omega)])
            rw [e9]; exact hp_25
          · refine ⟨by omega, by omega, fun _ _ => ⟨ec1, ?_, ?_⟩, fun z => absurd z (by omega)⟩
            · rw [ec2]; unfold unitQ; rw [if_neg (by omega)]
            · rw [ec3]; unfold unitQ; rw [if_neg (by omega)]
  · have c_3 : fl = 0 ∧ kd tt = 2 := zb_ne hp_2 c_3
    have hk2 : kd tt = 2 := by omega
    refine lv_aload_n hx hb dX12_unit_8 rfl (lv_at hl 0 rfl) ?_
    refine lv_iconst (v := 0) hx hb dX12_unit_9 (by decide) ?_
    refine lv_aload_n hx hb dX12_unit_10 rfl (lv_at hl 0 rfl) ?_
    refine va_get (v := .ref (ad_m 7)) (C := RX12) (T := TX12) (N := 75) (ci := 11) hx hb hts in_X12 hown hK.1 hW.1 0 rfl rfl 7 (by decide) (hts _ q1643) (fun _ h9 => h9) rfl dX12_unit_11 ?_
    refine lv_aload_n hx hb dX12_unit_14 rfl (lv_at hl 0 rfl) ?_
    refine va_get (v := .int (nI tt)) (C := RX12) (T := TX12) (N := 75) (ci := 11) hx hb hts in_X12 hown hK.1 hW.1 0 rfl rfl 11 (by decide) (hts _ q1647) (fun _ h9 => h9) rfl dX12_unit_15 ?_
    refine z_iald (v := vl tt) (f := g_m 7) (j := tt) hx hb hK.1 hW.1 5 0 rfl rfl (vp_in_nI (n := tt) (by omega) (by decide)) (nI_clamp (n := tt) (by omega)) (hTK.v (j := tt) (by omega) (by first | assumption | exact hok (by omega) | exact hFM.okp (by omega)) (by first | assumption | omega)) dX12_unit_18 ?_
    refine z_callv (wc := wj [(mw Y ad_m (sA 51 (fun _ => nI cs) (sA 16 (fun _ => nI wp) (sA 15 (fun _ => nI wk) (sA 14 (fun _ => nI fp) (sA 13 (fun _ => nI fl) (sA 11 (fun _ => nI tt) g_m)))))) w_m)]) (wr := wj []) (va_runV (As := [.int 0, .int (vl tt)]) (rest := []) ⟨hx, hb, hml, hown, hts⟩ (m_X12_emit l D Y ad_m (sA 51 (fun _ => nI cs) (sA 16 (fun _ => nI wp) (sA 15 (fun _ => nI wk) (sA 14 (fun _ => nI fp) (sA 13 (fun _ => nI fl) (sA 11 (fun _ => nI tt) g_m)))))) w_m 0 (vl tt) cs H.size (show cs < 840 from by first | assumption | omega | grind)) (cwV 2 hts (lw_V q1973 q1975 qs80 q133 q1976) rfl rfl rfl (by decide +kernel) ⟨Nat.le_of_ble_eq_true rfl, Nat.le_of_ble_eq_true rfl⟩) (zPreV hK hW hR (wj_split3 (B := [(mw Y ad_m (sA 51 (fun _ => nI cs) (sA 16 (fun _ => nI wp) (sA 15 (fun _ => nI wk) (sA 14 (fun _ => nI fp) (sA 13 (fun _ => nI fl) (sA 11 (fun _ => nI tt) g_m)))))) w_m)]) (R := []) (C := [(mw Y ad_m (sA 51 (fun _ => nI cs) (sA 16 (fun _ => nI wp) (sA 15 (fun _ => nI wk) (sA 14 (fun _ => nI fp) (sA 13 (fun _ => nI fl) (sA 11 (fun _ => nI tt) g_m)))))) w_m)]) (O := []) (X := []) (List.Perm.refl _)) (va_recv hK.1 hW.1 (ci := 11) (q0 := 0) rfl rfl)) rfl rfl hl.1 rfl (lv_room (Nat.le_of_ble_eq_true rfl)) dX12_unit_19 ⟨Nat.le_refl _, Nat.le_refl _⟩) hW hA (wj_split (B := [(mw Y ad_m (sA 51 (fun _ => nI cs) (sA 16 (fun _ => nI wp) (sA 15 (fun _ => nI wk) (sA 14 (fun _ => nI fp) (sA 13 (fun _ => nI fl) (sA 11 (fun _ => nI tt) g_m)))))) w_m)]) (C := [(mw Y ad_m (sA 51 (fun _ => nI cs) (sA 16 (fun _ => nI wp) (sA 15 (fun _ => nI wk) (sA 14 (fun _ => nI fp) (sA 13 (fun _ => nI fl) (sA 11 (fun _ => nI tt) g_m)))))) w_m)]) (R := []) (List.Perm.refl _)) (fun  u H locs hp_30 hW => ?_)
    obtain ⟨ucodes_31, ucode_32, ucodeInt_33⟩ := u
    have hp_30 : ucodes_31 = cs + 1 ∧ ucode_32 = upd (g_m 52) cs (nI 0) ∧ ucodeInt_33 = upd (g_m 53) cs (vl tt) := hp_30
    have hW : zW D A s.heap H locs (wj [(mw Y ad_m (sA 53 ucodeInt_33 (sA 52 ucode_32 (sA 51 (fun _ => nI ucodes_31) (sA 16 (fun _ => nI wp) (sA 15 (fun _ => nI wk) (sA 14 (fun _ => nI fp) (sA 13 (fun _ => nI fl) (sA 11 (fun _ => nI tt) g_m)))))))) w_m)]) := hW.join
    obtain ⟨ec1, ec2, ec3⟩ := hp_30
    refine lv_aload_n hx hb dX12_unit_22 rfl (lv_at hl 0 rfl) ?_
    refine z_callv (wc := wj [(mw Y ad_m (sA 53 ucodeInt_33 (sA 52 ucode_32 (sA 51 (fun _ => nI ucodes_31) (sA 16 (fun _ => nI wp) (sA 15 (fun _ => nI wk) (sA 14 (fun _ => nI fp) (sA 13 (fun _ => nI fl) (sA 11 (fun _ => nI tt) g_m)))))))) w_m)]) (wr := wj []) (va_runV (As := []) (rest := []) ⟨hx, hb, hml, hown, hts⟩ (m_X12_goesOn l D Y ad_m (sA 53 ucodeInt_33 (sA 52 ucode_32 (sA 51 (fun _ => nI ucodes_31) (sA 16 (fun _ => nI wp) (sA 15 (fun _ => nI wk) (sA 14 (fun _ => nI fp) (sA 13 (fun _ => nI fl) (sA 11 (fun _ => nI tt) g_m)))))))) w_m kd pl vl nv x fl fp tt wk wp H.size (show TKR kd pl vl nv (g_m 5) (g_m 6) (g_m 7) (w_m 8) from by first | assumption | omega | grind) (show FM kd pl x fl fp tt wk wp from by first | assumption | omega | grind) (show fl = 0 → kd tt ≠ 0 ∧ kd tt ≠ 3 from by intro _; omega)) (cwV 0 hts (lw_V q1917 q1919 qs66 q133 q1920) rfl rfl rfl (by decide +kernel) ⟨Nat.le_of_ble_eq_true rfl, Nat.le_of_ble_eq_true rfl⟩) (zPreV hK hW hR (wj_split3 (B := [(mw Y ad_m (sA 53 ucodeInt_33 (sA 52 ucode_32 (sA 51 (fun _ => nI ucodes_31) (sA 16 (fun _ => nI wp) (sA 15 (fun _ => nI wk) (sA 14 (fun _ => nI fp) (sA 13 (fun _ => nI fl) (sA 11 (fun _ => nI tt) g_m)))))))) w_m)]) (R := []) (C := [(mw Y ad_m (sA 53 ucodeInt_33 (sA 52 ucode_32 (sA 51 (fun _ => nI ucodes_31) (sA 16 (fun _ => nI wp) (sA 15 (fun _ => nI wk) (sA 14 (fun _ => nI fp) (sA 13 (fun _ => nI fl) (sA 11 (fun _ => nI tt) g_m)))))))) w_m)]) (O := []) (X := []) (List.Perm.refl _)) (va_recv hK.1 hW.1 (ci := 11) (q0 := 0) rfl rfl)) rfl rfl hl.1 rfl (lv_room (Nat.le_of_ble_eq_true rfl)) dX12_unit_23 ⟨Nat.le_refl _, Nat.le_refl _⟩) hW hA (wj_split (B := [(mw Y ad_m (sA 53 ucodeInt_33 (sA 52 ucode_32 (sA 51 (fun _ => nI ucodes_31) (sA 16 (fun _ => nI wp) (sA 15 (fun _ => nI wk) (sA 14 (fun _ => nI fp) (sA 13 (fun _ => nI fl) (sA 11 (fun _ => nI tt) g_m)))))))) w_m)]) (C := [(mw Y ad_m (sA 53 ucodeInt_33 (sA 52 ucode_32 (sA 51 (fun _ => nI ucodes_31) (sA 16 (fun _ => nI wp) (sA 15 (fun _ => nI wk) (sA 14 (fun _ => nI fp) (sA 13 (fun _ => nI fl) (sA 11 (fun _ => nI tt) g_m)))))))) w_m)]) (R := []) (List.Perm.refl _)) (fun  u H locs hp_35 hW => ?_)
    obtain ⟨ufault_36, ufaultPlace_37, ut_38⟩ := u
    have hp_35 : FM kd pl (PO.bd x passR) ufault_36 ufaultPlace_37 ut_38 wk wp := hp_35
    have hW : zW D A s.heap H locs (wj [(mw Y ad_m (sA 53 ucodeInt_33 (sA 52 ucode_32 (sA 51 (fun _ => nI ucodes_31) (sA 16 (fun _ => nI wp) (sA 15 (fun _ => nI wk) (sA 14 (fun _ => nI ufaultPlace_37) (sA 13 (fun _ => nI ufault_36) (sA 11 (fun _ => nI ut_38) g_m)))))))) w_m)]) := hW.join
    refine lv_goto (tgt := 93) hx hb dX12_unit_26 (by decide) ?_
    refine z_vret ((ufault_36, ufaultPlace_37, ut_38, ucodes_31, ucode_32, ucodeInt_33) : (Nat) × (Nat) × (Nat) × (Nat) × (Nat → Int32) × (Nat → Int32)) hx hb hr hlocks hW rfl dX12_unit_93 ?_
    show (FM kd pl (PO.bd x (unitX kd)) ufault_36 ufaultPlace_37 ut_38 wk wp) ∧ (cs ≤ ucodes_31 ∧ ucodes_31 ≤ cs + 1 ∧ (fl = 0 → kd tt = 2 ∨ (33 ≤ kd tt ∧ kd tt ≤ 39) → ucodes_31 = cs + 1 ∧ ucode_32 = upd (g_m 52) cs (nI (unitQ kd vl tt).1) ∧ ucodeInt_33 = upd (g_m 53) cs (unitQ kd vl tt).2) ∧ (¬ (fl = 0 ∧ (kd tt = 2 ∨ (33 ≤ kd tt ∧ kd tt ≤ 39))) → ucodes_31 = cs ∧ ucode_32 = (g_m 52) ∧ ucodeInt_33 = (g_m 53)))
    refine ⟨?_, ?_⟩
    · have e9 : PO.bd x (unitX kd) = PO.bd x passR := bd_congr (fun s0 h0 => by
        have hs := (show FM kd pl (Except.ok s0) fl fp tt wk wp by rw [← h0]; exact hFM).sv
        unfold unitX; rw [if_pos (by rw [← hs.2.1]; omega)])
      rw [e9]; exact hp_35
    · refine ⟨by omega, by omega, fun _ _ => ⟨ec1, ?_, ?_⟩, fun z => absurd z (by omega)⟩
      · rw [ec2]; unfold unitQ; rw [if_pos hk2]
      · rw [ec3]; unfold unitQ; rw [if_pos hk2]
