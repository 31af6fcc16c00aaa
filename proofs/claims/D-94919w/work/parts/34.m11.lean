/-! the model: what was weighed, slots, counts, the tape -/
set_option maxRecDepth 100000
set_option maxHeartbeats 4000000 in
set_option maxRecDepth 100000 in
theorem m_X12_undo (l : Launch) (D : va_G) (Y : Nat → ClassId) (ad_m : Nat → Nat) (g_m : Nat → Nat → Int32) (w_m : Nat → Nat → Int64) (lv : Nat) (cn : Nat → Nat) (t : tab) (lw : Nat → Option LAW) (σ : tab) (U : List tab) (un : Nat) (B_ : Int) (sz : Nat) (hlv : lv < 2) (hTW : TW cn t lw) (hTM : TM lv cn t lw g_m) (hKN : KN (cn 2) σ U (g_m 59) (g_m 65) un) (hF1 : ∀ h, h < cn 1 → σ 1 h = t 2 h) (hF2 : σ 18 0 = t 12 2) (hWF : WF cn B_ σ) : Met l yX12_undo (ws_ yX12_undo cX12_undo 2 (some .boolean)) ({ frames := 1, cells := 0, slots := 0, locals := 12 }) (zPc D Y [.ref (ad_m 0)] sz (wj []) (wj [(mw Y ad_m (sA 64 (fun _ => nI un) (sA 18 (fun _ => nI lv) g_m)) w_m)])) (va_Qi (fun (r : Int32) (u : (Nat → Int32) × (Nat)) => r = (undoO σ U).1 ∧ KN (cn 2) (undoO σ U).2.1 (undoO σ U).2.2 u.1 (g_m 65) u.2) (zB D (fun (u : (Nat → Int32) × (Nat)) => (wj [(mw Y ad_m (sA 64 (fun _ => nI u.2) (sA 59 u.1 (sA 18 (fun _ => nI lv) g_m))) w_m)])) (va_A (wj [(mw Y ad_m (sA 64 (fun _ => nI un) (sA 18 (fun _ => nI lv) g_m)) w_m)]) sz)) (va_A (wj [(mw Y ad_m (sA 64 (fun _ => nI un) (sA 18 (fun _ => nI lv) g_m)) w_m)]) sz)) 0 0 (va_A (wj [(mw Y ad_m (sA 64 (fun _ => nI un) (sA 18 (fun _ => nI lv) g_m)) w_m)]) sz) := by
  refine Met.ofW (cc := cX12_undo) (maxL := 2) (ret := (some .boolean)) (by decide) rfl ?_
  intro p e s m args below meth c s₁ B hml hv
  obtain ⟨rfl, hsz, hW, hR, hK, hA⟩ := zEntry hv
  subst hsz
  have hx := B.exec
  have hb := B.bytes
  have hr := B.returns
  have hlocks := B.notSynchronized
  have hts : ∀ w ∈ lw_all, w.before _ s = true := fun w h => atoms_spec (ws := (ws_ yX12_undo cX12_undo 2 (some .boolean))) B.pre w (List.mem_cons_of_mem _ h)
  have hown : s.vm.findClass RX12 = some m.cls := findClass_of_methodNamed B.named
  generalize hAe : va_A (wj [(mw Y ad_m (sA 64 (fun _ => nI un) (sA 18 (fun _ => nI lv) g_m)) w_m)]) s.heap.size = A at hW hR hA ⊢
  have hl := lv_entry ([.ref (ad_m 0)]) (n := 2) (Nat.le_of_ble_eq_true rfl)
  rw [lg_entry_eq]
  generalize (lg_sl ([.ref (ad_m 0)]) ++ List.replicate (2 - (lg_sl ([.ref (ad_m 0)])).length) Slot.unset).toArray = ls at hl ⊢
  have hl : lv_has ls 2 [(0, .ref (ad_m 0))] := hl
  have hk8 := hTW.n2
  have hk6 := hTW.n1
  have hk60 := hTW.n0
  have hk5 := hTW.n3
  have hu41 : un ≤ 40 := by have h4 := hKN.2.2.2; have h3 := hKN.2.2.1; omega
  refine lv_aload_n hx hb dX12_undo_0 rfl (lv_at hl 0 rfl) ?_
  refine va_get (v := .int (nI un)) (C := RX12) (T := TX12) (N := 75) (ci := 11) hx hb hts in_X12 hown hK.1 hW.1 0 rfl rfl 64 (by decide) (hts _ q1700) (fun _ h9 => h9) rfl dX12_undo_1 ?_
  refine lv_if_ne (tgt := 9) hx hb dX12_undo_4 (by decide) (fun c_1 => ?_) (fun c_1 => ?_)
  · have c_1 : ¬ (un = 0) := fun hz_ => c_1 ((nI_eq (a := un) (b := 0) (by omega) (by omega)).mpr hz_)
    have h0 := c_1
    have hu40 : un ≤ 40 := by have h4 := hKN.2.2.2; have h3 := hKN.2.2.1; omega
    refine lv_aload_n hx hb dX12_undo_9 rfl (lv_at hl 0 rfl) ?_
    refine lv_dup hx hb dX12_undo_10 rfl ?_
    refine va_get (v := .int (nI un)) (C := RX12) (T := TX12) (N := 75) (ci := 11) hx hb hts in_X12 hown hK.1 hW.1 0 rfl rfl 64 (by decide) (hts _ q1700) (fun _ h9 => h9) rfl dX12_undo_11 ?_
    refine lv_iconst (v := 1) hx hb dX12_undo_14 (by decide) ?_
    refine lv_isub hx hb dX12_undo_15 ?_
    refine lv_topi (nm_r (e' := nI (un - 1)) (pk_sub (a := un) (b := 1) (by omega)) ?_)
    refine z_put (v := .int (nI (un - 1))) (C := RX12) (T := TX12) (N := 75) (ci := 11) (wn := (wj [(mw Y ad_m (sA 64 (fun _ => nI (un - 1)) (sA 18 (fun _ => nI lv) g_m)) w_m)])) hx hb hts in_X12 tyX12 tyX12_ok nmX12 hown hK.1 hW 0 rfl rfl 64 (by decide) (hts _ q1700) (fun _ h9 => h9) rfl rfl rfl (Nat.le_of_ble_eq_true rfl) dX12_undo_16 rfl (fun H locs hW => ?_)
    refine lv_iconst (v := 0) hx hb dX12_undo_19 (by decide) ?_
    refine lv_istore_n (lv' := [(1, .int 0), (0, .ref (ad_m 0))]) hx hb dX12_undo_20 rfl hl (by decide) rfl (fun ls hl => ?_)
    have loop_21 : ∀ (n : Nat) (k : Nat) (x_now_21 : Nat → Int32), 120 - k < n → (k ≤ 120) → (∀ j, j < k → x_now_21 j = (g_m 65) (120 * (un - 1) + j)) → ∀ (H : Heap) (locs : List Loc), zW D A s.heap H locs (wj [(mw Y ad_m (sA 64 (fun _ => nI (un - 1)) (sA 59 x_now_21 (sA 18 (fun _ => nI lv) g_m))) w_m)]) → ∀ (ls : Array Slot), lv_has ls 2 [(1, .int (nI k)), (0, .ref (ad_m 0))] → W p l e (headSpec (ws_ yX12_undo cX12_undo 2 (some .boolean)) ({ frames := 1, cells := 0, slots := 0, locals := 12 })).room s m ([.ref (ad_m 0)] : List Value).toArray below meth c H locs 0 0 (MQ below (va_Qi (fun (r : Int32) (u : (Nat → Int32) × (Nat)) => r = (undoO σ U).1 ∧ KN (cn 2) (undoO σ U).2.1 (undoO σ U).2.2 u.1 (g_m 65) u.2) (zB D (fun (u : (Nat → Int32) × (Nat)) => (wj [(mw Y ad_m (sA 64 (fun _ => nI u.2) (sA 59 u.1 (sA 18 (fun _ => nI lv) g_m))) w_m)])) A) A) ([.ref (ad_m 0)] : List Value).toArray s 0 0 A) (F0 m 21 ls []) := by
      intro n
      induction n with
      | zero =>
        intro k x_now_21 hmz
        exact absurd hmz (Nat.not_lt_zero _)
      | succ n ih =>
        intro k x_now_21 hm_21 hi hn H locs hW ls hl
        have ih_21 := ih
        clear ih
        refine lv_iload_n hx hb dX12_undo_21 rfl (lv_at hl 0 rfl) ?_
        refine lv_bipush (v := 120) hx hb dX12_undo_22 (by decide) ?_
        refine lv_icmp_ge (tgt := 53) hx hb dX12_undo_24 (by decide) (fun c_2 => ?_) (fun c_2 => ?_)
        · have c_2 : 120 ≤ k := (nI_leI (a := 120) (b := k) (by omega) (by omega)).mp c_2
          refine lv_iconst (v := 1) hx hb dX12_undo_53 (by decide) ?_
          refine z_ireti ((x_now_21, un - 1) : (Nat → Int32) × (Nat)) hx hb hr hlocks rfl hW rfl dX12_undo_54 ?_
          show 1 = (undoO σ U).1 ∧ KN (cn 2) (undoO σ U).2.1 (undoO σ U).2.2 x_now_21 (g_m 65) (un - 1)
          exact hKN.pop hk8 h0 (fun j hj => hn j (by omega))
        · have c_2 : ¬ (120 ≤ k) := fun hz_ => c_2 ((nI_leI (a := 120) (b := k) (by omega) (by omega)).mpr hz_)
          refine lv_aload_n hx hb dX12_undo_27 rfl (lv_at hl 1 rfl) ?_
          refine va_get (v := .ref (ad_m 59)) (C := RX12) (T := TX12) (N := 75) (ci := 11) hx hb hts in_X12 hown hK.1 hW.1 0 rfl rfl 59 (by decide) (hts _ q1695) (fun _ h9 => h9) rfl dX12_undo_28 ?_
          refine lv_iload_n hx hb dX12_undo_31 rfl (lv_at hl 0 rfl) ?_
          refine lv_aload_n hx hb dX12_undo_32 rfl (lv_at hl 1 rfl) ?_
          refine va_get (v := .ref (ad_m 65)) (C := RX12) (T := TX12) (N := 75) (ci := 11) hx hb hts in_X12 hown hK.1 hW.1 0 rfl rfl 65 (by decide) (hts _ q1701) (fun _ h9 => h9) rfl dX12_undo_33 ?_
          refine lv_bipush (v := 120) hx hb dX12_undo_36 (by decide) ?_
          refine lv_aload_n hx hb dX12_undo_38 rfl (lv_at hl 1 rfl) ?_
          refine va_get (v := .int (nI (un - 1))) (C := RX12) (T := TX12) (N := 75) (ci := 11) hx hb hts in_X12 hown hK.1 hW.1 0 rfl rfl 64 (by decide) (hts _ q1700) (fun _ h9 => h9) rfl dX12_undo_39 ?_
          refine lv_imul hx hb dX12_undo_42 ?_
          refine lv_topi (nm_r (e' := nI (120 * (un - 1))) (pk_mul 120 (un - 1)) ?_)
          refine lv_iload_n hx hb dX12_undo_43 rfl (lv_at hl 0 rfl) ?_
          refine lv_iadd hx hb dX12_undo_44 ?_
          refine lv_topi (nm_r (e' := nI (120 * (un - 1) + k)) (nI_add (120 * (un - 1)) k) ?_)
          refine z_iald (v := (g_m 65) (120 * (un - 1) + k)) (f := g_m 65) (j := 120 * (un - 1) + k) hx hb hK.1 hW.1 46 0 rfl rfl (vp_in_nI (n := 120 * (un - 1) + k) (by omega) (by decide)) (nI_clamp (n := 120 * (un - 1) + k) (by omega)) rfl dX12_undo_45 ?_
          refine z_iast (x := (g_m 65) (120 * (un - 1) + k)) (f := x_now_21) (j := k) (wn := (wj [(mw Y ad_m (sA 64 (fun _ => nI (un - 1)) (sA 59 (upd x_now_21 k ((g_m 65) (120 * (un - 1) + k))) (sA 18 (fun _ => nI lv) g_m))) w_m)])) hx hb hK.1 hW 42 0 rfl rfl (vp_in_nI (n := k) (by omega) (by decide)) (nI_clamp (n := k) (by omega)) dX12_undo_46 rfl (fun H locs hW => ?_)
          refine lv_iinc (v := nI (k + 1)) (lv' := [(1, .int (nI (k + 1))), (0, .ref (ad_m 0))]) hx hb dX12_undo_47 hl (k := 0) rfl (nI_add k 1) (by decide) rfl (fun ls hl => ?_)
          refine lv_goto (tgt := 21) hx hb dX12_undo_50 (by decide) ?_
          exact ih_21 (k + 1) (upd x_now_21 k ((g_m 65) (120 * (un - 1) + k))) (by omega) (by omega) (by intro j hj; unfold upd; split <;> grind) _ _ hW _ (lv_sub hl [0, 1] rfl)
    exact loop_21 _ 0 (g_m 59) (Nat.lt_succ_self _) (by omega) (by intro j hj; omega) _ _ hW _ (lv_sub hl [0, 1] rfl)
  · have c_1 : un = 0 := (nI_eq (a := un) (b := 0) (by omega) (by omega)).mp c_1
    have h0 := c_1
    refine lv_iconst (v := 0) hx hb dX12_undo_7 (by decide) ?_
    refine z_ireti ((g_m 59, un) : (Nat → Int32) × (Nat)) hx hb hr hlocks rfl hW rfl dX12_undo_8 ?_
    show 0 = (undoO σ U).1 ∧ KN (cn 2) (undoO σ U).2.1 (undoO σ U).2.2 (g_m 59) (g_m 65) un
    rw [hKN.pop0 h0]
    exact ⟨rfl, hKN⟩
set_option maxHeartbeats 4000000 in
set_option maxRecDepth 100000 in
theorem m_X12_hold (l : Launch) (D : va_G) (Y : Nat → ClassId) (ad_m : Nat → Nat) (g_m : Nat → Nat → Int32) (w_m : Nat → Nat → Int64) (lv : Nat) (cn : Nat → Nat) (t : tab) (lw : Nat → Option LAW) (σ : tab) (U : List tab) (un : Nat) (B_ : Int) (sx : Int32) (hd : Nat → Option tab) (sz : Nat) (hlv : lv < 2) (hTW : TW cn t lw) (hTM : TM lv cn t lw g_m) (hKN : KN (cn 2) σ U (g_m 59) (g_m 65) un) (hF1 : ∀ h, h < cn 1 → σ 1 h = t 2 h) (hF2 : σ 18 0 = t 12 2) (hWF : WF cn B_ σ) (hHD : HD (cn 2) hd (g_m 73) (g_m 74)) : Met l yX12_hold (ws_ yX12_hold cX12_hold 3 (some .boolean)) ({ frames := 2, cells := 0, slots := 0, locals := 34 }) (zPc D Y [.ref (ad_m 0), .int sx] sz (wj []) (wj [(mw Y ad_m (sA 64 (fun _ => nI un) (sA 18 (fun _ => nI lv) g_m)) w_m)])) (va_Qi (fun (r : Int32) (u : (Nat → Int32) × (Nat → Int32)) => r = (holdO σ hd sx).1 ∧ HD (cn 2) (holdO σ hd sx).2 u.1 u.2) (zB D (fun (u : (Nat → Int32) × (Nat → Int32)) => (wj [(mw Y ad_m (sA 74 u.2 (sA 73 u.1 (sA 64 (fun _ => nI un) (sA 18 (fun _ => nI lv) g_m)))) w_m)])) (va_A (wj [(mw Y ad_m (sA 64 (fun _ => nI un) (sA 18 (fun _ => nI lv) g_m)) w_m)]) sz)) (va_A (wj [(mw Y ad_m (sA 64 (fun _ => nI un) (sA 18 (fun _ => nI lv) g_m)) w_m)]) sz)) 0 0 (va_A (wj [(mw Y ad_m (sA 64 (fun _ => nI un) (sA 18 (fun _ => nI lv) g_m)) w_m)]) sz) := by
  refine Met.ofW (cc := cX12_hold) (maxL := 3) (ret := (some .boolean)) (by decide) rfl ?_
  intro p e s m args below meth c s₁ B hml hv
  obtain ⟨rfl, hsz, hW, hR, hK, hA⟩ := zEntry hv
  subst hsz
  have hx := B.exec
  have hb := B.bytes
  have hr := B.returns
  have hlocks := B.notSynchronized
  have hts : ∀ w ∈ lw_all, w.before _ s = true := fun w h => atoms_spec (ws := (ws_ yX12_hold cX12_hold 3 (some .boolean))) B.pre w (List.mem_cons_of_mem _ h)
  have hown : s.vm.findClass RX12 = some m.cls := findClass_of_methodNamed B.named
  generalize hAe : va_A (wj [(mw Y ad_m (sA 64 (fun _ => nI un) (sA 18 (fun _ => nI lv) g_m)) w_m)]) s.heap.size = A at hW hR hA ⊢
  have hl := lv_entry ([.ref (ad_m 0), .int sx]) (n := 3) (Nat.le_of_ble_eq_true rfl)
  rw [lg_entry_eq]
  generalize (lg_sl ([.ref (ad_m 0), .int sx]) ++ List.replicate (3 - (lg_sl ([.ref (ad_m 0), .int sx])).length) Slot.unset).toArray = ls at hl ⊢
  have hl : lv_has ls 3 [(0, .ref (ad_m 0)), (1, .int sx)] := hl
  have hk8 := hTW.n2
  have hk6 := hTW.n1
  have hk60 := hTW.n0
  have hk5 := hTW.n3
  refine lv_iload_n hx hb dX12_hold_0 rfl (lv_at hl 1 rfl) ?_
  refine lv_iconst (v := 0) hx hb dX12_hold_1 (by decide) ?_
  refine lv_iconst (v := 2) hx hb dX12_hold_2 (by decide) ?_
  refine z_calli (wc := wj []) (wr := wj [(mw Y ad_m (sA 64 (fun _ => nI un) (sA 18 (fun _ => nI lv) g_m)) w_m)]) (va_runS (As := [.int sx, .int 0, .int 2]) (rest := []) ⟨hx, hb, hml, hown, hts⟩ (m_X12_in l D Y sx 0 2 s.heap.size) (va_cwS 3 hts (lw_S q1997 q1998 q133 q1999) rfl rfl rfl (by decide +kernel) ⟨Nat.le_of_ble_eq_true rfl, Nat.le_of_ble_eq_true rfl⟩) (zPre hK hW hR (wj_split3 (B := [(mw Y ad_m (sA 64 (fun _ => nI un) (sA 18 (fun _ => nI lv) g_m)) w_m)]) (R := []) (C := []) (O := []) (X := [(mw Y ad_m (sA 64 (fun _ => nI un) (sA 18 (fun _ => nI lv) g_m)) w_m)]) (List.Perm.refl _))) rfl rfl hl.1 rfl (lv_room (Nat.le_of_ble_eq_true rfl)) dX12_hold_3 ⟨Nat.le_refl _, Nat.le_refl _⟩) hW hA (wj_split (B := [(mw Y ad_m (sA 64 (fun _ => nI un) (sA 18 (fun _ => nI lv) g_m)) w_m)]) (C := []) (R := [(mw Y ad_m (sA 64 (fun _ => nI un) (sA 18 (fun _ => nI lv) g_m)) w_m)]) (List.Perm.refl _)) (fun r_1 u H locs hp_2 hW => ?_)
  have hp_2 : r_1 = zb (¬ sx < 0 ∧ ¬ 2 < sx) := hp_2
  have hW : zW D A s.heap H locs (wj [(mw Y ad_m (sA 64 (fun _ => nI un) (sA 18 (fun _ => nI lv) g_m)) w_m)]) := hW.join
  refine lv_if_ne (tgt := 11) hx hb dX12_hold_6 (by decide) (fun c_3 => ?_) (fun c_3 => ?_)
  · have c_3 : ¬ sx < 0 ∧ ¬ 2 < sx := zb_ne hp_2 c_3
    obtain ⟨sq, lsq, hsq, esq⟩ := inP_nat (x := sx) (a := 0) (b := 2) c_3 (by omega) (by omega)
    have csq : sx.toNatClampNeg = sq := by rw [esq]; exact nI_clamp (by omega)
    refine lv_aload_n hx hb dX12_hold_11 rfl (lv_at hl 0 rfl) ?_
    refine va_get (v := .ref (ad_m 73)) (C := RX12) (T := TX12) (N := 75) (ci := 11) hx hb hts in_X12 hown hK.1 hW.1 0 rfl rfl 73 (by decide) (hts _ q1709) (fun _ h9 => h9) rfl dX12_hold_12 ?_
    refine lv_iload_n hx hb dX12_hold_15 rfl (lv_at hl 1 rfl) ?_
    refine lv_topi (nm_r (e' := nI sq) esq ?_)
    refine lv_iconst (v := 1) hx hb dX12_hold_16 (by decide) ?_
    refine z_zast (x := 1) (f := g_m 73) (j := sq) (wn := (wj [(mw Y ad_m (sA 73 (upd (g_m 73) sq 1) (sA 64 (fun _ => nI un) (sA 18 (fun _ => nI lv) g_m))) w_m)])) hx hb hK.1 hW 51 2 rfl rfl (vp_in_nI (n := sq) (by omega) (by decide)) (nI_clamp (n := sq) (by omega)) rfl dX12_hold_17 rfl (fun H locs hW => ?_)
    refine lv_iconst (v := 0) hx hb dX12_hold_18 (by decide) ?_
    refine lv_istore_n (lv' := [(2, .int 0), (0, .ref (ad_m 0)), (1, .int sx)]) hx hb dX12_hold_19 rfl hl (by decide) rfl (fun ls hl => ?_)
    have loop_20 : ∀ (n : Nat) (k : Nat) (x_heldRows_20 : Nat → Int32), 120 - k < n → (k ≤ 120) → (∀ j, j < k → x_heldRows_20 (120 * sq + j) = (g_m 59) j) → (∀ i j, i < 3 → i ≠ sq → j < 120 → x_heldRows_20 (120 * i + j) = (g_m 74) (120 * i + j)) → ∀ (H : Heap) (locs : List Loc), zW D A s.heap H locs (wj [(mw Y ad_m (sA 74 x_heldRows_20 (sA 73 (upd (g_m 73) sq 1) (sA 64 (fun _ => nI un) (sA 18 (fun _ => nI lv) g_m)))) w_m)]) → ∀ (ls : Array Slot), lv_has ls 3 [(2, .int (nI k)), (0, .ref (ad_m 0)), (1, .int sx)] → W p l e (headSpec (ws_ yX12_hold cX12_hold 3 (some .boolean)) ({ frames := 2, cells := 0, slots := 0, locals := 34 })).room s m ([.ref (ad_m 0), .int sx] : List Value).toArray below meth c H locs 0 0 (MQ below (va_Qi (fun (r : Int32) (u : (Nat → Int32) × (Nat → Int32)) => r = (holdO σ hd sx).1 ∧ HD (cn 2) (holdO σ hd sx).2 u.1 u.2) (zB D (fun (u : (Nat → Int32) × (Nat → Int32)) => (wj [(mw Y ad_m (sA 74 u.2 (sA 73 u.1 (sA 64 (fun _ => nI un) (sA 18 (fun _ => nI lv) g_m)))) w_m)])) A) A) ([.ref (ad_m 0), .int sx] : List Value).toArray s 0 0 A) (F0 m 20 ls []) := by
      intro n
      induction n with
      | zero =>
        intro k x_heldRows_20 hmz
        exact absurd hmz (Nat.not_lt_zero _)
      | succ n ih =>
        intro k x_heldRows_20 hm_20 hi h1 h2 H locs hW ls hl
        have ih_20 := ih
        clear ih
        refine lv_iload_n hx hb dX12_hold_20 rfl (lv_at hl 0 rfl) ?_
        refine lv_bipush (v := 120) hx hb dX12_hold_21 (by decide) ?_
        refine lv_icmp_ge (tgt := 49) hx hb dX12_hold_23 (by decide) (fun c_4 => ?_) (fun c_4 => ?_)
        · have c_4 : 120 ≤ k := (nI_leI (a := 120) (b := k) (by omega) (by omega)).mp c_4
          refine lv_iconst (v := 1) hx hb dX12_hold_49 (by decide) ?_
          refine z_ireti ((upd (g_m 73) sq 1, x_heldRows_20) : (Nat → Int32) × (Nat → Int32)) hx hb hr hlocks rfl hW rfl dX12_hold_50 ?_
          show 1 = (holdO σ hd sx).1 ∧ HD (cn 2) (holdO σ hd sx).2 (upd (g_m 73) sq 1) x_heldRows_20
          have e : holdO σ hd sx = _ := zi_t c_3 _ _
          rw [e]
          refine ⟨rfl, ?_⟩
          show HD (cn 2) (fun j => if j = sx.toNatClampNeg then some σ else hd j) _ _
          rw [csq]
          exact hHD.put (by omega) hk8 hKN.mr (fun j hj => h1 j (by omega)) h2
        · have c_4 : ¬ (120 ≤ k) := fun hz_ => c_4 ((nI_leI (a := 120) (b := k) (by omega) (by omega)).mpr hz_)
          refine lv_aload_n hx hb dX12_hold_26 rfl (lv_at hl 1 rfl) ?_
          refine va_get (v := .ref (ad_m 74)) (C := RX12) (T := TX12) (N := 75) (ci := 11) hx hb hts in_X12 hown hK.1 hW.1 0 rfl rfl 74 (by decide) (hts _ q1710) (fun _ h9 => h9) rfl dX12_hold_27 ?_
          refine lv_bipush (v := 120) hx hb dX12_hold_30 (by decide) ?_
          refine lv_iload_n hx hb dX12_hold_32 rfl (lv_at hl 2 rfl) ?_
          refine lv_topi (nm_r (e' := nI sq) esq ?_)
          refine lv_imul hx hb dX12_hold_33 ?_
          refine lv_topi (nm_r (e' := nI (120 * sq)) (pk_mul 120 sq) ?_)
          refine lv_iload_n hx hb dX12_hold_34 rfl (lv_at hl 0 rfl) ?_
          refine lv_iadd hx hb dX12_hold_35 ?_
          refine lv_topi (nm_r (e' := nI (120 * sq + k)) (nI_add (120 * sq) k) ?_)
          refine lv_aload_n hx hb dX12_hold_36 rfl (lv_at hl 1 rfl) ?_
          refine va_get (v := .ref (ad_m 59)) (C := RX12) (T := TX12) (N := 75) (ci := 11) hx hb hts in_X12 hown hK.1 hW.1 0 rfl rfl 59 (by decide) (hts _ q1695) (fun _ h9 => h9) rfl dX12_hold_37 ?_
          refine lv_iload_n hx hb dX12_hold_40 rfl (lv_at hl 0 rfl) ?_
          refine z_iald (v := (g_m 59) k) (f := g_m 59) (j := k) hx hb hK.1 hW.1 42 0 rfl rfl (vp_in_nI (n := k) (by omega) (by decide)) (nI_clamp (n := k) (by omega)) rfl dX12_hold_41 ?_
          refine z_iast (x := (g_m 59) k) (f := x_heldRows_20) (j := 120 * sq + k) (wn := (wj [(mw Y ad_m (sA 74 (upd x_heldRows_20 (120 * sq + k) ((g_m 59) k)) (sA 73 (upd (g_m 73) sq 1) (sA 64 (fun _ => nI un) (sA 18 (fun _ => nI lv) g_m)))) w_m)])) hx hb hK.1 hW 52 0 rfl rfl (vp_in_nI (n := 120 * sq + k) (by omega) (by decide)) (nI_clamp (n := 120 * sq + k) (by omega)) dX12_hold_42 rfl (fun H locs hW => ?_)
          refine lv_iinc (v := nI (k + 1)) (lv' := [(2, .int (nI (k + 1))), (0, .ref (ad_m 0)), (1, .int sx)]) hx hb dX12_hold_43 hl (k := 0) rfl (nI_add k 1) (by decide) rfl (fun ls hl => ?_)
          refine lv_goto (tgt := 20) hx hb dX12_hold_46 (by decide) ?_
          exact ih_20 (k + 1) (upd x_heldRows_20 (120 * sq + k) ((g_m 59) k)) (by omega) (by omega) (by intro j hj; unfold upd; split <;> grind) (by intro i j hi hne hj; rw [← h2 i j hi hne hj]; exact pk_un (by omega)) _ _ hW _ (lv_sub hl [0, 1, 2] rfl)
    exact loop_20 _ 0 (g_m 74) (Nat.lt_succ_self _) (by omega) (by intro j hj; omega) (by intro i j _ _ _; rfl) _ _ hW _ (lv_sub hl [0, 1, 2] rfl)
  · have c_3 : ¬ (¬ sx < 0 ∧ ¬ 2 < sx) := zb_eq hp_2 c_3
    refine lv_iconst (v := 0) hx hb dX12_hold_9 (by decide) ?_
    refine z_ireti ((g_m 73, g_m 74) : (Nat → Int32) × (Nat → Int32)) hx hb hr hlocks rfl hW rfl dX12_hold_10 ?_
    show 0 = (holdO σ hd sx).1 ∧ HD (cn 2) (holdO σ hd sx).2 (g_m 73) (g_m 74)
    have e : holdO σ hd sx = _ := zi_f (by assumption) _ _
    rw [e]
    exact ⟨rfl, hHD⟩
set_option maxHeartbeats 4000000 in
set_option maxRecDepth 100000 in
theorem m_X12_restore (l : Launch) (D : va_G) (Y : Nat → ClassId) (ad_m : Nat → Nat) (g_m : Nat → Nat → Int32) (w_m : Nat → Nat → Int64) (lv : Nat) (cn : Nat → Nat) (t : tab) (lw : Nat → Option LAW) (σ : tab) (U : List tab) (un : Nat) (B_ : Int) (sx : Int32) (hd : Nat → Option tab) (sz : Nat) (hlv : lv < 2) (hTW : TW cn t lw) (hTM : TM lv cn t lw g_m) (hKN : KN (cn 2) σ U (g_m 59) (g_m 65) un) (hF1 : ∀ h, h < cn 1 → σ 1 h = t 2 h) (hF2 : σ 18 0 = t 12 2) (hWF : WF cn B_ σ) (hHD : HD (cn 2) hd (g_m 73) (g_m 74)) : Met l yX12_restore (ws_ yX12_restore cX12_restore 3 (some .boolean)) ({ frames := 2, cells := 0, slots := 0, locals := 34 }) (zPc D Y [.ref (ad_m 0), .int sx] sz (wj []) (wj [(mw Y ad_m (sA 64 (fun _ => nI un) (sA 18 (fun _ => nI lv) g_m)) w_m)])) (va_Qi (fun (r : Int32) (u : (Nat → Int32) × (Nat)) => r = (restoreO σ U hd sx).1 ∧ KN (cn 2) (restoreO σ U hd sx).2.1 (restoreO σ U hd sx).2.2 u.1 (g_m 65) u.2) (zB D (fun (u : (Nat → Int32) × (Nat)) => (wj [(mw Y ad_m (sA 64 (fun _ => nI u.2) (sA 59 u.1 (sA 18 (fun _ => nI lv) g_m))) w_m)])) (va_A (wj [(mw Y ad_m (sA 64 (fun _ => nI un) (sA 18 (fun _ => nI lv) g_m)) w_m)]) sz)) (va_A (wj [(mw Y ad_m (sA 64 (fun _ => nI un) (sA 18 (fun _ => nI lv) g_m)) w_m)]) sz)) 0 0 (va_A (wj [(mw Y ad_m (sA 64 (fun _ => nI un) (sA 18 (fun _ => nI lv) g_m)) w_m)]) sz) := by
  refine Met.ofW (cc := cX12_restore) (maxL := 3) (ret := (some .boolean)) (by decide) rfl ?_
  intro p e s m args below meth c s₁ B hml hv
  obtain ⟨rfl, hsz, hW, hR, hK, hA⟩ := zEntry hv
  subst hsz
  have hx := B.exec
  have hb := B.bytes
  have hr := B.returns
  have hlocks := B.notSynchronized
  have hts : ∀ w ∈ lw_all, w.before _ s = true := fun w h => atoms_spec (ws := (ws_ yX12_restore cX12_restore 3 (some .boolean))) B.pre w (List.mem_cons_of_mem _ h)
  have hown : s.vm.findClass RX12 = some m.cls := findClass_of_methodNamed B.named
  generalize hAe : va_A (wj [(mw Y ad_m (sA 64 (fun _ => nI un) (sA 18 (fun _ => nI lv) g_m)) w_m)]) s.heap.size = A at hW hR hA ⊢
  have hl := lv_entry ([.ref (ad_m 0), .int sx]) (n := 3) (Nat.le_of_ble_eq_true rfl)
  rw [lg_entry_eq]
  generalize (lg_sl ([.ref (ad_m 0), .int sx]) ++ List.replicate (3 - (lg_sl ([.ref (ad_m 0), .int sx])).length) Slot.unset).toArray = ls at hl ⊢
  have hl : lv_has ls 3 [(0, .ref (ad_m 0)), (1, .int sx)] := hl
  have hk8 := hTW.n2
  have hk6 := hTW.n1
  have hk60 := hTW.n0
  have hk5 := hTW.n3
  refine lv_iload_n hx hb dX12_restore_0 rfl (lv_at hl 1 rfl) ?_
  refine lv_iconst (v := 0) hx hb dX12_restore_1 (by decide) ?_
  refine lv_iconst (v := 2) hx hb dX12_restore_2 (by decide) ?_
  refine z_calli (wc := wj []) (wr := wj [(mw Y ad_m (sA 64 (fun _ => nI un) (sA 18 (fun _ => nI lv) g_m)) w_m)]) (va_runS (As := [.int sx, .int 0, .int 2]) (rest := []) ⟨hx, hb, hml, hown, hts⟩ (m_X12_in l D Y sx 0 2 s.heap.size) (va_cwS 3 hts (lw_S q1997 q1998 q133 q1999) rfl rfl rfl (by decide +kernel) ⟨Nat.le_of_ble_eq_true rfl, Nat.le_of_ble_eq_true rfl⟩) (zPre hK hW hR (wj_split3 (B := [(mw Y ad_m (sA 64 (fun _ => nI un) (sA 18 (fun _ => nI lv) g_m)) w_m)]) (R := []) (C := []) (O := []) (X := [(mw Y ad_m (sA 64 (fun _ => nI un) (sA 18 (fun _ => nI lv) g_m)) w_m)]) (List.Perm.refl _))) rfl rfl hl.1 rfl (lv_room (Nat.le_of_ble_eq_true rfl)) dX12_restore_3 ⟨Nat.le_refl _, Nat.le_refl _⟩) hW hA (wj_split (B := [(mw Y ad_m (sA 64 (fun _ => nI un) (sA 18 (fun _ => nI lv) g_m)) w_m)]) (C := []) (R := [(mw Y ad_m (sA 64 (fun _ => nI un) (sA 18 (fun _ => nI lv) g_m)) w_m)]) (List.Perm.refl _)) (fun r_1 u H locs hp_2 hW => ?_)
  have hp_2 : r_1 = zb (¬ sx < 0 ∧ ¬ 2 < sx) := hp_2
  have hW : zW D A s.heap H locs (wj [(mw Y ad_m (sA 64 (fun _ => nI un) (sA 18 (fun _ => nI lv) g_m)) w_m)]) := hW.join
  refine lv_if_eq (tgt := 18) hx hb dX12_restore_6 (by decide) (fun c_3 => ?_) (fun c_3 => ?_)
  · have c_3 : ¬ (¬ sx < 0 ∧ ¬ 2 < sx) := zb_eq hp_2 c_3
    refine lv_iconst (v := 0) hx hb dX12_restore_18 (by decide) ?_
    refine z_ireti ((g_m 59, un) : (Nat → Int32) × (Nat)) hx hb hr hlocks rfl hW rfl dX12_restore_19 ?_
    show 0 = (restoreO σ U hd sx).1 ∧ KN (cn 2) (restoreO σ U hd sx).2.1 (restoreO σ U hd sx).2.2 (g_m 59) (g_m 65) un
    have e : restoreO σ U hd sx = _ := zi_f (by assumption) _ _
    rw [e]
    exact ⟨rfl, hKN⟩
  · have c_3 : ¬ sx < 0 ∧ ¬ 2 < sx := zb_ne hp_2 c_3
    obtain ⟨sq, lsq, hsq, esq⟩ := inP_nat (x := sx) (a := 0) (b := 2) c_3 (by omega) (by omega)
    have csq : sx.toNatClampNeg = sq := by rw [esq]; exact nI_clamp (by omega)
    refine lv_aload_n hx hb dX12_restore_9 rfl (lv_at hl 0 rfl) ?_
    refine va_get (v := .ref (ad_m 73)) (C := RX12) (T := TX12) (N := 75) (ci := 11) hx hb hts in_X12 hown hK.1 hW.1 0 rfl rfl 73 (by decide) (hts _ q1709) (fun _ h9 => h9) rfl dX12_restore_10 ?_
    refine lv_iload_n hx hb dX12_restore_13 rfl (lv_at hl 1 rfl) ?_
    refine lv_topi (nm_r (e' := nI sq) esq ?_)
    refine z_zald (v := (g_m 73) sq) (f := g_m 73) (j := sq) hx hb hK.1 hW.1 51 2 rfl rfl (vp_in_nI (n := sq) (by omega) (by decide)) (nI_clamp (n := sq) (by omega)) rfl dX12_restore_14 ?_
    refine lv_if_ne (tgt := 20) hx hb dX12_restore_15 (by decide) (fun c_4 => ?_) (fun c_4 => ?_)
    · obtain ⟨τs, hτs⟩ : ∃ τ, hd sq = some τ := by
        have q := (hHD sq (by omega)).1
        cases h9 : hd sq with
        | none => rw [h9] at q; exact absurd q c_4
        | some τ => exact ⟨τ, rfl⟩
      refine lv_iconst (v := 0) hx hb dX12_restore_20 (by decide) ?_
      refine lv_istore_n (lv' := [(2, .int 0), (0, .ref (ad_m 0)), (1, .int sx)]) hx hb dX12_restore_21 rfl hl (by decide) rfl (fun ls hl => ?_)
      have loop_22 : ∀ (n : Nat) (k : Nat) (x_now_22 : Nat → Int32), 120 - k < n → (k ≤ 120) → (∀ j, j < k → x_now_22 j = (g_m 74) (120 * sq + j)) → ∀ (H : Heap) (locs : List Loc), zW D A s.heap H locs (wj [(mw Y ad_m (sA 64 (fun _ => nI un) (sA 59 x_now_22 (sA 18 (fun _ => nI lv) g_m))) w_m)]) → ∀ (ls : Array Slot), lv_has ls 3 [(2, .int (nI k)), (0, .ref (ad_m 0)), (1, .int sx)] → W p l e (headSpec (ws_ yX12_restore cX12_restore 3 (some .boolean)) ({ frames := 2, cells := 0, slots := 0, locals := 34 })).room s m ([.ref (ad_m 0), .int sx] : List Value).toArray below meth c H locs 0 0 (MQ below (va_Qi (fun (r : Int32) (u : (Nat → Int32) × (Nat)) => r = (restoreO σ U hd sx).1 ∧ KN (cn 2) (restoreO σ U hd sx).2.1 (restoreO σ U hd sx).2.2 u.1 (g_m 65) u.2) (zB D (fun (u : (Nat → Int32) × (Nat)) => (wj [(mw Y ad_m (sA 64 (fun _ => nI u.2) (sA 59 u.1 (sA 18 (fun _ => nI lv) g_m))) w_m)])) A) A) ([.ref (ad_m 0), .int sx] : List Value).toArray s 0 0 A) (F0 m 22 ls []) := by
        intro n
        induction n with
        | zero =>
          intro k x_now_22 hmz
          exact absurd hmz (Nat.not_lt_zero _)
        | succ n ih =>
          intro k x_now_22 hm_22 hi h1 H locs hW ls hl
          have ih_22 := ih
          clear ih
          refine lv_iload_n hx hb dX12_restore_22 rfl (lv_at hl 0 rfl) ?_
          refine lv_bipush (v := 120) hx hb dX12_restore_23 (by decide) ?_
          refine lv_icmp_ge (tgt := 51) hx hb dX12_restore_25 (by decide) (fun c_5 => ?_) (fun c_5 => ?_)
          · have c_5 : 120 ≤ k := (nI_leI (a := 120) (b := k) (by omega) (by omega)).mp c_5
            refine lv_aload_n hx hb dX12_restore_51 rfl (lv_at hl 1 rfl) ?_
            refine lv_iconst (v := 0) hx hb dX12_restore_52 (by decide) ?_
            refine z_put (v := .int 0) (C := RX12) (T := TX12) (N := 75) (ci := 11) (wn := (wj [(mw Y ad_m (sA 64 (fun _ => 0) (sA 59 x_now_22 (sA 18 (fun _ => nI lv) g_m))) w_m)])) hx hb hts in_X12 tyX12 tyX12_ok nmX12 hown hK.1 hW 0 rfl rfl 64 (by decide) (hts _ q1700) (fun _ h9 => h9) rfl rfl rfl (Nat.le_of_ble_eq_true rfl) dX12_restore_53 rfl (fun H locs hW => ?_)
            refine lv_iconst (v := 1) hx hb dX12_restore_56 (by decide) ?_
            refine z_ireti ((x_now_22, 0) : (Nat → Int32) × (Nat)) hx hb hr hlocks rfl hW rfl dX12_restore_57 ?_
            show 1 = (restoreO σ U hd sx).1 ∧ KN (cn 2) (restoreO σ U hd sx).2.1 (restoreO σ U hd sx).2.2 x_now_22 (g_m 65) 0
            have e : restoreO σ U hd sx = _ := zi_t c_3 _ _
            rw [e]
            simp only [csq]
            rw [hτs]
            exact ⟨rfl, ((hHD sq (by omega)).2 τs hτs).copy hk8 (fun j hj => h1 j (by omega)), (fun i τ hi => by cases hi), rfl, Nat.zero_le 40⟩
          · have c_5 : ¬ (120 ≤ k) := fun hz_ => c_5 ((nI_leI (a := 120) (b := k) (by omega) (by omega)).mpr hz_)
            refine lv_aload_n hx hb dX12_restore_28 rfl (lv_at hl 1 rfl) ?_
            refine va_get (v := .ref (ad_m 59)) (C := RX12) (T := TX12) (N := 75) (ci := 11) hx hb hts in_X12 hown hK.1 hW.1 0 rfl rfl 59 (by decide) (hts _ q1695) (fun _ h9 => h9) rfl dX12_restore_29 ?_
            refine lv_iload_n hx hb dX12_restore_32 rfl (lv_at hl 0 rfl) ?_
            refine lv_aload_n hx hb dX12_restore_33 rfl (lv_at hl 1 rfl) ?_
            refine va_get (v := .ref (ad_m 74)) (C := RX12) (T := TX12) (N := 75) (ci := 11) hx hb hts in_X12 hown hK.1 hW.1 0 rfl rfl 74 (by decide) (hts _ q1710) (fun _ h9 => h9) rfl dX12_restore_34 ?_
            refine lv_bipush (v := 120) hx hb dX12_restore_37 (by decide) ?_
            refine lv_iload_n hx hb dX12_restore_39 rfl (lv_at hl 2 rfl) ?_
            refine lv_topi (nm_r (e' := nI sq) esq ?_)
            refine lv_imul hx hb dX12_restore_40 ?_
            refine lv_topi (nm_r (e' := nI (120 * sq)) (pk_mul 120 sq) ?_)
            refine lv_iload_n hx hb dX12_restore_41 rfl (lv_at hl 0 rfl) ?_
            refine lv_iadd hx hb dX12_restore_42 ?_
            refine lv_topi (nm_r (e' := nI (120 * sq + k)) (nI_add (120 * sq) k) ?_)
            refine z_iald (v := (g_m 74) (120 * sq + k)) (f := g_m 74) (j := 120 * sq + k) hx hb hK.1 hW.1 52 0 rfl rfl (vp_in_nI (n := 120 * sq + k) (by omega) (by decide)) (nI_clamp (n := 120 * sq + k) (by omega)) rfl dX12_restore_43 ?_
            refine z_iast (x := (g_m 74) (120 * sq + k)) (f := x_now_22) (j := k) (wn := (wj [(mw Y ad_m (sA 64 (fun _ => nI un) (sA 59 (upd x_now_22 k ((g_m 74) (120 * sq + k))) (sA 18 (fun _ => nI lv) g_m))) w_m)])) hx hb hK.1 hW 42 0 rfl rfl (vp_in_nI (n := k) (by omega) (by decide)) (nI_clamp (n := k) (by omega)) dX12_restore_44 rfl (fun H locs hW => ?_)
            refine lv_iinc (v := nI (k + 1)) (lv' := [(2, .int (nI (k + 1))), (0, .ref (ad_m 0)), (1, .int sx)]) hx hb dX12_restore_45 hl (k := 0) rfl (nI_add k 1) (by decide) rfl (fun ls hl => ?_)
            refine lv_goto (tgt := 22) hx hb dX12_restore_48 (by decide) ?_
            exact ih_22 (k + 1) (upd x_now_22 k ((g_m 74) (120 * sq + k))) (by omega) (by omega) (by intro j hj; unfold upd; split <;> grind) _ _ hW _ (lv_sub hl [0, 1, 2] rfl)
      exact loop_22 _ 0 (g_m 59) (Nat.lt_succ_self _) (by omega) (by intro j hj; omega) _ _ hW _ (lv_sub hl [0, 1, 2] rfl)
    · have hτn : hd sq = none := by
        have q := (hHD sq (by omega)).1
        cases h9 : hd sq with
        | none => rfl
        | some τ => rw [h9, c_4] at q; simp at q
      refine lv_iconst (v := 0) hx hb dX12_restore_18 (by decide) ?_
      refine z_ireti ((g_m 59, un) : (Nat → Int32) × (Nat)) hx hb hr hlocks rfl hW rfl dX12_restore_19 ?_
      show 0 = (restoreO σ U hd sx).1 ∧ KN (cn 2) (restoreO σ U hd sx).2.1 (restoreO σ U hd sx).2.2 (g_m 59) (g_m 65) un
      have e : restoreO σ U hd sx = _ := zi_t c_3 _ _
      rw [e]
      simp only [csq]
      rw [hτn]
      exact ⟨rfl, hKN⟩
set_option maxHeartbeats 4000000 in
set_option maxRecDepth 100000 in
theorem m_X12_tell (l : Launch) (D : va_G) (Y : Nat → ClassId) (ad_m : Nat → Nat) (g_m : Nat → Nat → Int32) (w_m : Nat → Nat → Int64) (lv : Nat) (cn : Nat → Nat) (t : tab) (lw : Nat → Option LAW) (tc : Nat) (T : tab) (ax : Int32) (gx : Int32) (kx : Int32) (mx : Int32) (sz : Nat) (hlv : lv < 2) (hTW : TW cn t lw) (hTM : TM lv cn t lw g_m) (hTD : TD tc T (g_m 69) (g_m 70) (g_m 71) (g_m 72)) : Met l yX12_tell (ws_ yX12_tell cX12_tell 5 (some .int)) ({ frames := 3, cells := 0, slots := 0, locals := 55 }) (zPc D Y [.ref (ad_m 0), .int ax, .int gx, .int kx, .int mx] sz (wj []) (wj [(mw Y ad_m (sA 68 (fun _ => nI tc) (sA 18 (fun _ => nI lv) g_m)) w_m)])) (va_Qi (fun (r : Int32) (u : (Nat → Int32) × (Nat → Int32) × (Nat → Int32) × (Nat → Int32) × (Nat)) => r = (tellO cn tc T ax gx kx mx).1 ∧ u.2.2.2.2 = (tellO cn tc T ax gx kx mx).2.1 ∧ TD (tellO cn tc T ax gx kx mx).2.1 (tellO cn tc T ax gx kx mx).2.2 u.1 u.2.1 u.2.2.1 u.2.2.2.1) (zB D (fun (u : (Nat → Int32) × (Nat → Int32) × (Nat → Int32) × (Nat → Int32) × (Nat)) => (wj [(mw Y ad_m (sA 72 u.2.2.2.1 (sA 71 u.2.2.1 (sA 70 u.2.1 (sA 69 u.1 (sA 68 (fun _ => nI u.2.2.2.2) (sA 18 (fun _ => nI lv) g_m)))))) w_m)])) (va_A (wj [(mw Y ad_m (sA 68 (fun _ => nI tc) (sA 18 (fun _ => nI lv) g_m)) w_m)]) sz)) (va_A (wj [(mw Y ad_m (sA 68 (fun _ => nI tc) (sA 18 (fun _ => nI lv) g_m)) w_m)]) sz)) 0 0 (va_A (wj [(mw Y ad_m (sA 68 (fun _ => nI tc) (sA 18 (fun _ => nI lv) g_m)) w_m)]) sz) := by
  refine Met.ofW (cc := cX12_tell) (maxL := 5) (ret := (some .int)) (by decide) rfl ?_
  intro p e s m args below meth c s₁ B hml hv
  obtain ⟨rfl, hsz, hW, hR, hK, hA⟩ := zEntry hv
  subst hsz
  have hx := B.exec
  have hb := B.bytes
  have hr := B.returns
  have hlocks := B.notSynchronized
  have hts : ∀ w ∈ lw_all, w.before _ s = true := fun w h => atoms_spec (ws := (ws_ yX12_tell cX12_tell 5 (some .int))) B.pre w (List.mem_cons_of_mem _ h)
  have hown : s.vm.findClass RX12 = some m.cls := findClass_of_methodNamed B.named
  generalize hAe : va_A (wj [(mw Y ad_m (sA 68 (fun _ => nI tc) (sA 18 (fun _ => nI lv) g_m)) w_m)]) s.heap.size = A at hW hR hA ⊢
  have hl := lv_entry ([.ref (ad_m 0), .int ax, .int gx, .int kx, .int mx]) (n := 5) (Nat.le_of_ble_eq_true rfl)
  rw [lg_entry_eq]
  generalize (lg_sl ([.ref (ad_m 0), .int ax, .int gx, .int kx, .int mx]) ++ List.replicate (5 - (lg_sl ([.ref (ad_m 0), .int ax, .int gx, .int kx, .int mx])).length) Slot.unset).toArray = ls at hl ⊢
  have hl : lv_has ls 5 [(0, .ref (ad_m 0)), (1, .int ax), (2, .int gx), (3, .int kx), (4, .int mx)] := hl
  have hk8 := hTW.n2
  have hk6 := hTW.n1
  have hk60 := hTW.n0
  have hk5 := hTW.n3
  have ht20 := hTD.1
  refine lv_aload_n hx hb dX12_tell_0 rfl (lv_at hl 0 rfl) ?_
  refine va_get (v := .int (nI tc)) (C := RX12) (T := TX12) (N := 75) (ci := 11) hx hb hts in_X12 hown hK.1 hW.1 0 rfl rfl 68 (by decide) (hts _ q1704) (fun _ h9 => h9) rfl dX12_tell_1 ?_
  refine lv_bipush (v := 20) hx hb dX12_tell_4 (by decide) ?_
  refine lv_icmp_eq (tgt := 47) hx hb dX12_tell_6 (by decide) (fun c_1 => ?_) (fun c_1 => ?_)
  · have c_1 : tc = 20 := (nI_eq (a := tc) (b := 20) (by omega) (by omega)).mp c_1
    refine lv_iconst (v := (-1)) hx hb dX12_tell_47 (by decide) ?_
    refine z_ireti ((g_m 69, g_m 70, g_m 71, g_m 72, tc) : (Nat → Int32) × (Nat → Int32) × (Nat → Int32) × (Nat → Int32) × (Nat)) hx hb hr hlocks rfl hW rfl dX12_tell_48 ?_
    show (-1) = (tellO cn tc T ax gx kx mx).1 ∧ tc = (tellO cn tc T ax gx kx mx).2.1 ∧ TD (tellO cn tc T ax gx kx mx).2.1 (tellO cn tc T ax gx kx mx).2.2 (g_m 69) (g_m 70) (g_m 71) (g_m 72)
    have e : tellO cn tc T ax gx kx mx = _ := zi_f (by first | (intro hq; exact hq.1 (by assumption)) | (intro hq; exact absurd hq.2.1 (by assumption)) | (intro hq; exact absurd hq.2.2.1 (by assumption)) | (intro hq; exact absurd hq.2.2.2.1 (by assumption)) | (intro hq; exact absurd hq.2.2.2.2 (by assumption))) _ _
    rw [e]
    exact ⟨rfl, rfl, hTD⟩
  · have c_1 : ¬ (tc = 20) := fun hz_ => c_1 ((nI_eq (a := tc) (b := 20) (by omega) (by omega)).mpr hz_)
    refine lv_aload_n hx hb dX12_tell_9 rfl (lv_at hl 0 rfl) ?_
    refine lv_iload_n hx hb dX12_tell_10 rfl (lv_at hl 1 rfl) ?_
    refine z_calli (wc := wj [(mw Y ad_m (sA 68 (fun _ => nI tc) (sA 18 (fun _ => nI lv) g_m)) w_m)]) (wr := wj []) (va_runV (As := [.int ax]) (rest := []) ⟨hx, hb, hml, hown, hts⟩ (m_X12_isHole l D Y ad_m (sA 68 (fun _ => nI tc) (sA 18 (fun _ => nI lv) g_m)) w_m lv cn t lw ax s.heap.size (show lv < 2 from by exact hlv) (show TW cn t lw from by exact hTW) (show TM lv cn t lw (sA 68 (fun _ => nI tc) (sA 18 (fun _ => nI lv) g_m)) from by exact hTM)) (cwV 1 hts (lw_V q2004 q2006 qs84 q133 q2007) rfl rfl rfl (by decide +kernel) ⟨Nat.le_of_ble_eq_true rfl, Nat.le_of_ble_eq_true rfl⟩) (zPreV hK hW hR (wj_split3 (B := [(mw Y ad_m (sA 68 (fun _ => nI tc) (sA 18 (fun _ => nI lv) g_m)) w_m)]) (R := []) (C := [(mw Y ad_m (sA 68 (fun _ => nI tc) (sA 18 (fun _ => nI lv) g_m)) w_m)]) (O := []) (X := []) (List.Perm.refl _)) (va_recv hK.1 hW.1 (ci := 11) (q0 := 0) rfl rfl)) rfl rfl hl.1 rfl (lv_room (Nat.le_of_ble_eq_true rfl)) dX12_tell_11 ⟨Nat.le_refl _, Nat.le_refl _⟩) hW hA (wj_split (B := [(mw Y ad_m (sA 68 (fun _ => nI tc) (sA 18 (fun _ => nI lv) g_m)) w_m)]) (C := [(mw Y ad_m (sA 68 (fun _ => nI tc) (sA 18 (fun _ => nI lv) g_m)) w_m)]) (R := []) (List.Perm.refl _)) (fun r_2 u H locs hp_3 hW => ?_)
    have hp_3 : r_2 = zb (vp_in ax (cn 1)) := hp_3
    have hW : zW D A s.heap H locs (wj [(mw Y ad_m (sA 68 (fun _ => nI tc) (sA 18 (fun _ => nI lv) g_m)) w_m)]) := hW.join
    refine lv_if_eq (tgt := 47) hx hb dX12_tell_14 (by decide) (fun c_4 => ?_) (fun c_4 => ?_)
    · have c_4 : ¬ (vp_in ax (cn 1)) := zb_eq hp_3 c_4
      refine lv_iconst (v := (-1)) hx hb dX12_tell_47 (by decide) ?_
      refine z_ireti ((g_m 69, g_m 70, g_m 71, g_m 72, tc) : (Nat → Int32) × (Nat → Int32) × (Nat → Int32) × (Nat → Int32) × (Nat)) hx hb hr hlocks rfl hW rfl dX12_tell_48 ?_
      show (-1) = (tellO cn tc T ax gx kx mx).1 ∧ tc = (tellO cn tc T ax gx kx mx).2.1 ∧ TD (tellO cn tc T ax gx kx mx).2.1 (tellO cn tc T ax gx kx mx).2.2 (g_m 69) (g_m 70) (g_m 71) (g_m 72)
      have e : tellO cn tc T ax gx kx mx = _ := zi_f (by first | (intro hq; exact hq.1 (by assumption)) | (intro hq; exact absurd hq.2.1 (by assumption)) | (intro hq; exact absurd hq.2.2.1 (by assumption)) | (intro hq; exact absurd hq.2.2.2.1 (by assumption)) | (intro hq; exact absurd hq.2.2.2.2 (by assumption))) _ _
      rw [e]
      exact ⟨rfl, rfl, hTD⟩
    · have c_4 : vp_in ax (cn 1) := zb_ne hp_3 c_4
      refine lv_aload_n hx hb dX12_tell_17 rfl (lv_at hl 0 rfl) ?_
      refine lv_iload_n hx hb dX12_tell_18 rfl (lv_at hl 2 rfl) ?_
      refine z_calli (wc := wj [(mw Y ad_m (sA 68 (fun _ => nI tc) (sA 18 (fun _ => nI lv) g_m)) w_m)]) (wr := wj []) (va_runV (As := [.int gx]) (rest := []) ⟨hx, hb, hml, hown, hts⟩ (m_X12_isGrain l D Y ad_m (sA 68 (fun _ => nI tc) (sA 18 (fun _ => nI lv) g_m)) w_m lv cn t lw gx H.size (show lv < 2 from by exact hlv) (show TW cn t lw from by exact hTW) (show TM lv cn t lw (sA 68 (fun _ => nI tc) (sA 18 (fun _ => nI lv) g_m)) from by exact hTM)) (cwV 1 hts (lw_V q1993 q1995 qs83 q133 q1996) rfl rfl rfl (by decide +kernel) ⟨Nat.le_of_ble_eq_true rfl, Nat.le_of_ble_eq_true rfl⟩) (zPreV hK hW hR (wj_split3 (B := [(mw Y ad_m (sA 68 (fun _ => nI tc) (sA 18 (fun _ => nI lv) g_m)) w_m)]) (R := []) (C := [(mw Y ad_m (sA 68 (fun _ => nI tc) (sA 18 (fun _ => nI lv) g_m)) w_m)]) (O := []) (X := []) (List.Perm.refl _)) (va_recv hK.1 hW.1 (ci := 11) (q0 := 0) rfl rfl)) rfl rfl hl.1 rfl (lv_room (Nat.le_of_ble_eq_true rfl)) dX12_tell_19 ⟨Nat.le_refl _, Nat.le_refl _⟩) hW hA (wj_split (B := [(mw Y ad_m (sA 68 (fun _ => nI tc) (sA 18 (fun _ => nI lv) g_m)) w_m)]) (C := [(mw Y ad_m (sA 68 (fun _ => nI tc) (sA 18 (fun _ => nI lv) g_m)) w_m)]) (R := []) (List.Perm.refl _)) (fun r_5 u H locs hp_6 hW => ?_)
      have hp_6 : r_5 = zb (vp_in gx (cn 0)) := hp_6
      have hW : zW D A s.heap H locs (wj [(mw Y ad_m (sA 68 (fun _ => nI tc) (sA 18 (fun _ => nI lv) g_m)) w_m)]) := hW.join
      refine lv_if_eq (tgt := 47) hx hb dX12_tell_22 (by decide) (fun c_7 => ?_) (fun c_7 => ?_)
      · have c_7 : ¬ (vp_in gx (cn 0)) := zb_eq hp_6 c_7
        refine lv_iconst (v := (-1)) hx hb dX12_tell_47 (by decide) ?_
        refine z_ireti ((g_m 69, g_m 70, g_m 71, g_m 72, tc) : (Nat → Int32) × (Nat → Int32) × (Nat → Int32) × (Nat → Int32) × (Nat)) hx hb hr hlocks rfl hW rfl dX12_tell_48 ?_
        show (-1) = (tellO cn tc T ax gx kx mx).1 ∧ tc = (tellO cn tc T ax gx kx mx).2.1 ∧ TD (tellO cn tc T ax gx kx mx).2.1 (tellO cn tc T ax gx kx mx).2.2 (g_m 69) (g_m 70) (g_m 71) (g_m 72)
        have e : tellO cn tc T ax gx kx mx = _ := zi_f (by first | (intro hq; exact hq.1 (by assumption)) | (intro hq; exact absurd hq.2.1 (by assumption)) | (intro hq; exact absurd hq.2.2.1 (by assumption)) | (intro hq; exact absurd hq.2.2.2.1 (by assumption)) | (intro hq; exact absurd hq.2.2.2.2 (by assumption))) _ _
        rw [e]
        exact ⟨rfl, rfl, hTD⟩
      · have c_7 : vp_in gx (cn 0) := zb_ne hp_6 c_7
        refine lv_iload_n hx hb dX12_tell_25 rfl (lv_at hl 3 rfl) ?_
        refine lv_iconst (v := 0) hx hb dX12_tell_26 (by decide) ?_
        refine lv_bipush (v := 99) hx hb dX12_tell_27 (by decide) ?_
        refine z_calli (wc := wj []) (wr := wj [(mw Y ad_m (sA 68 (fun _ => nI tc) (sA 18 (fun _ => nI lv) g_m)) w_m)]) (va_runS (As := [.int kx, .int 0, .int 99]) (rest := []) ⟨hx, hb, hml, hown, hts⟩ (m_X12_in l D Y kx 0 99 H.size) (va_cwS 3 hts (lw_S q1997 q1998 q133 q1999) rfl rfl rfl (by decide +kernel) ⟨Nat.le_of_ble_eq_true rfl, Nat.le_of_ble_eq_true rfl⟩) (zPre hK hW hR (wj_split3 (B := [(mw Y ad_m (sA 68 (fun _ => nI tc) (sA 18 (fun _ => nI lv) g_m)) w_m)]) (R := []) (C := []) (O := []) (X := [(mw Y ad_m (sA 68 (fun _ => nI tc) (sA 18 (fun _ => nI lv) g_m)) w_m)]) (List.Perm.refl _))) rfl rfl hl.1 rfl (lv_room (Nat.le_of_ble_eq_true rfl)) dX12_tell_29 ⟨Nat.le_refl _, Nat.le_refl _⟩) hW hA (wj_split (B := [(mw Y ad_m (sA 68 (fun _ => nI tc) (sA 18 (fun _ => nI lv) g_m)) w_m)]) (C := []) (R := [(mw Y ad_m (sA 68 (fun _ => nI tc) (sA 18 (fun _ => nI lv) g_m)) w_m)]) (List.Perm.refl _)) (fun r_8 u H locs hp_9 hW => ?_)
        have hp_9 : r_8 = zb (¬ kx < 0 ∧ ¬ 99 < kx) := hp_9
        have hW : zW D A s.heap H locs (wj [(mw Y ad_m (sA 68 (fun _ => nI tc) (sA 18 (fun _ => nI lv) g_m)) w_m)]) := hW.join
        refine lv_if_eq (tgt := 47) hx hb dX12_tell_32 (by decide) (fun c_10 => ?_) (fun c_10 => ?_)
        · have c_10 : ¬ (¬ kx < 0 ∧ ¬ 99 < kx) := zb_eq hp_9 c_10
          refine lv_iconst (v := (-1)) hx hb dX12_tell_47 (by decide) ?_
          refine z_ireti ((g_m 69, g_m 70, g_m 71, g_m 72, tc) : (Nat → Int32) × (Nat → Int32) × (Nat → Int32) × (Nat → Int32) × (Nat)) hx hb hr hlocks rfl hW rfl dX12_tell_48 ?_
          show (-1) = (tellO cn tc T ax gx kx mx).1 ∧ tc = (tellO cn tc T ax gx kx mx).2.1 ∧ TD (tellO cn tc T ax gx kx mx).2.1 (tellO cn tc T ax gx kx mx).2.2 (g_m 69) (g_m 70) (g_m 71) (g_m 72)
          have e : tellO cn tc T ax gx kx mx = _ := zi_f (by first | (intro hq; exact hq.1 (by assumption)) | (intro hq; exact absurd hq.2.1 (by assumption)) | (intro hq; exact absurd hq.2.2.1 (by assumption)) | (intro hq; exact absurd hq.2.2.2.1 (by assumption)) | (intro hq; exact absurd hq.2.2.2.2 (by assumption))) _ _
          rw [e]
          exact ⟨rfl, rfl, hTD⟩
        · have c_10 : ¬ kx < 0 ∧ ¬ 99 < kx := zb_ne hp_9 c_10
          refine lv_iload hx hb dX12_tell_35 (lv_at hl 4 rfl) ?_
          refine lv_iconst (v := 0) hx hb dX12_tell_37 (by decide) ?_
          refine lv_sipush (v := 9999) hx hb dX12_tell_38 (by decide) ?_
          refine z_calli (wc := wj []) (wr := wj [(mw Y ad_m (sA 68 (fun _ => nI tc) (sA 18 (fun _ => nI lv) g_m)) w_m)]) (va_runS (As := [.int mx, .int 0, .int 9999]) (rest := []) ⟨hx, hb, hml, hown, hts⟩ (m_X12_in l D Y mx 0 9999 H.size) (va_cwS 3 hts (lw_S q1997 q1998 q133 q1999) rfl rfl rfl (by decide +kernel) ⟨Nat.le_of_ble_eq_true rfl, Nat.le_of_ble_eq_true rfl⟩) (zPre hK hW hR (wj_split3 (B := [(mw Y ad_m (sA 68 (fun _ => nI tc) (sA 18 (fun _ => nI lv) g_m)) w_m)]) (R := []) (C := []) (O := []) (X := [(mw Y ad_m (sA 68 (fun _ => nI tc) (sA 18 (fun _ => nI lv) g_m)) w_m)]) (List.Perm.refl _))) rfl rfl hl.1 rfl (lv_room (Nat.le_of_ble_eq_true rfl)) dX12_tell_41 ⟨Nat.le_refl _, Nat.le_refl _⟩) hW hA (wj_split (B := [(mw Y ad_m (sA 68 (fun _ => nI tc) (sA 18 (fun _ => nI lv) g_m)) w_m)]) (C := []) (R := [(mw Y ad_m (sA 68 (fun _ => nI tc) (sA 18 (fun _ => nI lv) g_m)) w_m)]) (List.Perm.refl _)) (fun r_11 u H locs hp_12 hW => ?_)
          have hp_12 : r_11 = zb (¬ mx < 0 ∧ ¬ 9999 < mx) := hp_12
          have hW : zW D A s.heap H locs (wj [(mw Y ad_m (sA 68 (fun _ => nI tc) (sA 18 (fun _ => nI lv) g_m)) w_m)]) := hW.join
          refine lv_if_ne (tgt := 49) hx hb dX12_tell_44 (by decide) (fun c_13 => ?_) (fun c_13 => ?_)
          · have c_13 : ¬ mx < 0 ∧ ¬ 9999 < mx := zb_ne hp_12 c_13
            refine lv_aload_n hx hb dX12_tell_49 rfl (lv_at hl 0 rfl) ?_
            refine va_get (v := .ref (ad_m 69)) (C := RX12) (T := TX12) (N := 75) (ci := 11) hx hb hts in_X12 hown hK.1 hW.1 0 rfl rfl 69 (by decide) (hts _ q1705) (fun _ h9 => h9) rfl dX12_tell_50 ?_
            refine lv_aload_n hx hb dX12_tell_53 rfl (lv_at hl 0 rfl) ?_
            refine va_get (v := .int (nI tc)) (C := RX12) (T := TX12) (N := 75) (ci := 11) hx hb hts in_X12 hown hK.1 hW.1 0 rfl rfl 68 (by decide) (hts _ q1704) (fun _ h9 => h9) rfl dX12_tell_54 ?_
            refine lv_iload_n hx hb dX12_tell_57 rfl (lv_at hl 1 rfl) ?_
            refine z_iast (x := ax) (f := g_m 69) (j := tc) (wn := (wj [(mw Y ad_m (sA 69 (upd (g_m 69) tc ax) (sA 68 (fun _ => nI tc) (sA 18 (fun _ => nI lv) g_m))) w_m)])) hx hb hK.1 hW 47 0 rfl rfl (vp_in_nI (n := tc) (by omega) (by decide)) (nI_clamp (n := tc) (by omega)) dX12_tell_58 rfl (fun H locs hW => ?_)
            refine lv_aload_n hx hb dX12_tell_59 rfl (lv_at hl 0 rfl) ?_
            refine va_get (v := .ref (ad_m 70)) (C := RX12) (T := TX12) (N := 75) (ci := 11) hx hb hts in_X12 hown hK.1 hW.1 0 rfl rfl 70 (by decide) (hts _ q1706) (fun _ h9 => h9) rfl dX12_tell_60 ?_
            refine lv_aload_n hx hb dX12_tell_63 rfl (lv_at hl 0 rfl) ?_
            refine va_get (v := .int (nI tc)) (C := RX12) (T := TX12) (N := 75) (ci := 11) hx hb hts in_X12 hown hK.1 hW.1 0 rfl rfl 68 (by decide) (hts _ q1704) (fun _ h9 => h9) rfl dX12_tell_64 ?_
            refine lv_iload_n hx hb dX12_tell_67 rfl (lv_at hl 2 rfl) ?_
            refine z_iast (x := gx) (f := g_m 70) (j := tc) (wn := (wj [(mw Y ad_m (sA 70 (upd (g_m 70) tc gx) (sA 69 (upd (g_m 69) tc ax) (sA 68 (fun _ => nI tc) (sA 18 (fun _ => nI lv) g_m)))) w_m)])) hx hb hK.1 hW 48 0 rfl rfl (vp_in_nI (n := tc) (by omega) (by decide)) (nI_clamp (n := tc) (by omega)) dX12_tell_68 rfl (fun H locs hW => ?_)
            refine lv_aload_n hx hb dX12_tell_69 rfl (lv_at hl 0 rfl) ?_
            refine va_get (v := .ref (ad_m 71)) (C := RX12) (T := TX12) (N := 75) (ci := 11) hx hb hts in_X12 hown hK.1 hW.1 0 rfl rfl 71 (by decide) (hts _ q1707) (fun _ h9 => h9) rfl dX12_tell_70 ?_
            refine lv_aload_n hx hb dX12_tell_73 rfl (lv_at hl 0 rfl) ?_
            refine va_get (v := .int (nI tc)) (C := RX12) (T := TX12) (N := 75) (ci := 11) hx hb hts in_X12 hown hK.1 hW.1 0 rfl rfl 68 (by decide) (hts _ q1704) (fun _ h9 => h9) rfl dX12_tell_74 ?_
            refine lv_iload_n hx hb dX12_tell_77 rfl (lv_at hl 3 rfl) ?_
            refine z_iast (x := kx) (f := g_m 71) (j := tc) (wn := (wj [(mw Y ad_m (sA 71 (upd (g_m 71) tc kx) (sA 70 (upd (g_m 70) tc gx) (sA 69 (upd (g_m 69) tc ax) (sA 68 (fun _ => nI tc) (sA 18 (fun _ => nI lv) g_m))))) w_m)])) hx hb hK.1 hW 49 0 rfl rfl (vp_in_nI (n := tc) (by omega) (by decide)) (nI_clamp (n := tc) (by omega)) dX12_tell_78 rfl (fun H locs hW => ?_)
            refine lv_aload_n hx hb dX12_tell_79 rfl (lv_at hl 0 rfl) ?_
            refine va_get (v := .ref (ad_m 72)) (C := RX12) (T := TX12) (N := 75) (ci := 11) hx hb hts in_X12 hown hK.1 hW.1 0 rfl rfl 72 (by decide) (hts _ q1708) (fun _ h9 => h9) rfl dX12_tell_80 ?_
            refine lv_aload_n hx hb dX12_tell_83 rfl (lv_at hl 0 rfl) ?_
            refine va_get (v := .int (nI tc)) (C := RX12) (T := TX12) (N := 75) (ci := 11) hx hb hts in_X12 hown hK.1 hW.1 0 rfl rfl 68 (by decide) (hts _ q1704) (fun _ h9 => h9) rfl dX12_tell_84 ?_
            refine lv_iload hx hb dX12_tell_87 (lv_at hl 4 rfl) ?_
            refine z_iast (x := mx) (f := g_m 72) (j := tc) (wn := (wj [(mw Y ad_m (sA 72 (upd (g_m 72) tc mx) (sA 71 (upd (g_m 71) tc kx) (sA 70 (upd (g_m 70) tc gx) (sA 69 (upd (g_m 69) tc ax) (sA 68 (fun _ => nI tc) (sA 18 (fun _ => nI lv) g_m)))))) w_m)])) hx hb hK.1 hW 50 0 rfl rfl (vp_in_nI (n := tc) (by omega) (by decide)) (nI_clamp (n := tc) (by omega)) dX12_tell_89 rfl (fun H locs hW => ?_)
            refine lv_aload_n hx hb dX12_tell_90 rfl (lv_at hl 0 rfl) ?_
            refine lv_dup hx hb dX12_tell_91 rfl ?_
            refine va_get (v := .int (nI tc)) (C := RX12) (T := TX12) (N := 75) (ci := 11) hx hb hts in_X12 hown hK.1 hW.1 0 rfl rfl 68 (by decide) (hts _ q1704) (fun _ h9 => h9) rfl dX12_tell_92 ?_
            refine lv_iconst (v := 1) hx hb dX12_tell_95 (by decide) ?_
            refine lv_iadd hx hb dX12_tell_96 ?_
            refine lv_topi (nm_r (e' := nI (tc + 1)) (nI_add tc 1) ?_)
            refine z_put (v := .int (nI (tc + 1))) (C := RX12) (T := TX12) (N := 75) (ci := 11) (wn := (wj [(mw Y ad_m (sA 72 (upd (g_m 72) tc mx) (sA 71 (upd (g_m 71) tc kx) (sA 70 (upd (g_m 70) tc gx) (sA 69 (upd (g_m 69) tc ax) (sA 68 (fun _ => nI (tc + 1)) (sA 18 (fun _ => nI lv) g_m)))))) w_m)])) hx hb hts in_X12 tyX12 tyX12_ok nmX12 hown hK.1 hW 0 rfl rfl 68 (by decide) (hts _ q1704) (fun _ h9 => h9) rfl rfl rfl (Nat.le_of_ble_eq_true rfl) dX12_tell_97 rfl (fun H locs hW => ?_)
            refine lv_aload_n hx hb dX12_tell_100 rfl (lv_at hl 0 rfl) ?_
            refine va_get (v := .int (nI (tc + 1))) (C := RX12) (T := TX12) (N := 75) (ci := 11) hx hb hts in_X12 hown hK.1 hW.1 0 rfl rfl 68 (by decide) (hts _ q1704) (fun _ h9 => h9) rfl dX12_tell_101 ?_
            refine lv_iconst (v := 1) hx hb dX12_tell_104 (by decide) ?_
            refine lv_isub hx hb dX12_tell_105 ?_
            refine lv_topi (nm_r (e' := nI (tc + 1 - 1)) (pk_sub (a := tc + 1) (b := 1) (by omega)) ?_)
            refine z_ireti ((upd (g_m 69) tc ax, upd (g_m 70) tc gx, upd (g_m 71) tc kx, upd (g_m 72) tc mx, tc + 1) : (Nat → Int32) × (Nat → Int32) × (Nat → Int32) × (Nat → Int32) × (Nat)) hx hb hr hlocks rfl hW rfl dX12_tell_106 ?_
            show (nI (tc + 1 - 1)) = (tellO cn tc T ax gx kx mx).1 ∧ (tc + 1) = (tellO cn tc T ax gx kx mx).2.1 ∧ TD (tellO cn tc T ax gx kx mx).2.1 (tellO cn tc T ax gx kx mx).2.2 (upd (g_m 69) tc ax) (upd (g_m 70) tc gx) (upd (g_m 71) tc kx) (upd (g_m 72) tc mx)
            have e : tellO cn tc T ax gx kx mx = _ := zi_t ⟨c_1, c_4, c_7, c_10, c_13⟩ _ _
            rw [e]
            exact ⟨rfl, rfl, hTD.push c_1 _ _ _ _⟩
          · have c_13 : ¬ (¬ mx < 0 ∧ ¬ 9999 < mx) := zb_eq hp_12 c_13
            refine lv_iconst (v := (-1)) hx hb dX12_tell_47 (by decide) ?_
            refine z_ireti ((g_m 69, g_m 70, g_m 71, g_m 72, tc) : (Nat → Int32) × (Nat → Int32) × (Nat → Int32) × (Nat → Int32) × (Nat)) hx hb hr hlocks rfl hW rfl dX12_tell_48 ?_
            show (-1) = (tellO cn tc T ax gx kx mx).1 ∧ tc = (tellO cn tc T ax gx kx mx).2.1 ∧ TD (tellO cn tc T ax gx kx mx).2.1 (tellO cn tc T ax gx kx mx).2.2 (g_m 69) (g_m 70) (g_m 71) (g_m 72)
            have e : tellO cn tc T ax gx kx mx = _ := zi_f (by first | (intro hq; exact hq.1 (by assumption)) | (intro hq; exact absurd hq.2.1 (by assumption)) | (intro hq; exact absurd hq.2.2.1 (by assumption)) | (intro hq; exact absurd hq.2.2.2.1 (by assumption)) | (intro hq; exact absurd hq.2.2.2.2 (by assumption))) _ _
            rw [e]
            exact ⟨rfl, rfl, hTD⟩
set_option maxHeartbeats 4000000 in
set_option maxRecDepth 100000 in
theorem m_X12_forget (l : Launch) (D : va_G) (Y : Nat → ClassId) (ad_m : Nat → Nat) (g_m : Nat → Nat → Int32) (w_m : Nat → Nat → Int64) (tc : Nat) (sz : Nat) : Met l yX12_forget (ws_ yX12_forget cX12_forget 2 (some .int)) ({ frames := 1, cells := 0, slots := 0, locals := 12 }) (zPc D Y [.ref (ad_m 0)] sz (wj []) (wj [(mw Y ad_m (sA 68 (fun _ => nI tc) g_m) w_m)])) (va_Qi (fun (r : Int32) (u : (Nat)) => r = nI tc ∧ u = 0) (zB D (fun (u : (Nat)) => (wj [(mw Y ad_m (sA 68 (fun _ => nI u) g_m) w_m)])) (va_A (wj [(mw Y ad_m (sA 68 (fun _ => nI tc) g_m) w_m)]) sz)) (va_A (wj [(mw Y ad_m (sA 68 (fun _ => nI tc) g_m) w_m)]) sz)) 0 0 (va_A (wj [(mw Y ad_m (sA 68 (fun _ => nI tc) g_m) w_m)]) sz) := by
  refine Met.ofW (cc := cX12_forget) (maxL := 2) (ret := (some .int)) (by decide) rfl ?_
  intro p e s m args below meth c s₁ B hml hv
  obtain ⟨rfl, hsz, hW, hR, hK, hA⟩ := zEntry hv
  subst hsz
  have hx := B.exec
  have hb := B.bytes
  have hr := B.returns
  have hlocks := B.notSynchronized
  have hts : ∀ w ∈ lw_all, w.before _ s = true := fun w h => atoms_spec (ws := (ws_ yX12_forget cX12_forget 2 (some .int))) B.pre w (List.mem_cons_of_mem _ h)
  have hown : s.vm.findClass RX12 = some m.cls := findClass_of_methodNamed B.named
  generalize hAe : va_A (wj [(mw Y ad_m (sA 68 (fun _ => nI tc) g_m) w_m)]) s.heap.size = A at hW hR hA ⊢
  have hl := lv_entry ([.ref (ad_m 0)]) (n := 2) (Nat.le_of_ble_eq_true rfl)
  rw [lg_entry_eq]
  generalize (lg_sl ([.ref (ad_m 0)]) ++ List.replicate (2 - (lg_sl ([.ref (ad_m 0)])).length) Slot.unset).toArray = ls at hl ⊢
  have hl : lv_has ls 2 [(0, .ref (ad_m 0))] := hl
  refine lv_aload_n hx hb dX12_forget_0 rfl (lv_at hl 0 rfl) ?_
  refine va_get (v := .int (nI tc)) (C := RX12) (T := TX12) (N := 75) (ci := 11) hx hb hts in_X12 hown hK.1 hW.1 0 rfl rfl 68 (by decide) (hts _ q1704) (fun _ h9 => h9) rfl dX12_forget_1 ?_
  refine lv_istore_n (lv' := [(1, .int (nI tc)), (0, .ref (ad_m 0))]) hx hb dX12_forget_4 rfl hl (by decide) rfl (fun ls hl => ?_)
  refine lv_aload_n hx hb dX12_forget_5 rfl (lv_at hl 1 rfl) ?_
  refine lv_iconst (v := 0) hx hb dX12_forget_6 (by decide) ?_
  refine z_put (v := .int 0) (C := RX12) (T := TX12) (N := 75) (ci := 11) (wn := (wj [(mw Y ad_m (sA 68 (fun _ => 0) g_m) w_m)])) hx hb hts in_X12 tyX12 tyX12_ok nmX12 hown hK.1 hW 0 rfl rfl 68 (by decide) (hts _ q1704) (fun _ h9 => h9) rfl rfl rfl (Nat.le_of_ble_eq_true rfl) dX12_forget_7 rfl (fun H locs hW => ?_)
  refine lv_iload_n hx hb dX12_forget_10 rfl (lv_at hl 0 rfl) ?_
  refine z_ireti (0 : (Nat)) hx hb hr hlocks rfl hW rfl dX12_forget_11 ?_
  show (nI tc) = nI tc ∧ 0 = 0
  exact ⟨rfl, rfl⟩
set_option maxHeartbeats 4000000 in
set_option maxRecDepth 100000 in
theorem m_X12_isSo (l : Launch) (D : va_G) (Y : Nat → ClassId) (ad_m : Nat → Nat) (g_m : Nat → Nat → Int32) (w_m : Nat → Nat → Int64) (lv : Nat) (cn : Nat → Nat) (t : tab) (lw : Nat → Option LAW) (tc : Nat) (T : tab) (ha : Nat) (ho : Nat) (wh : Nat) (kt : Nat) (sz : Nat) (hlv : lv < 2) (hTW : TW cn t lw) (hTM : TM lv cn t lw g_m) (hTD : TD tc T (g_m 69) (g_m 70) (g_m 71) (g_m 72)) (hTOK : TOK cn tc T) (hha : ha < 6) (hho : ho < 6) (hwh : wh ≤ 60) (hkt : kt ≤ tc) : Met l yX12_isSo (ws_ yX12_isSo cX12_isSo 8 (some .boolean)) ({ frames := 5, cells := 0, slots := 0, locals := 119 }) (zPc D Y [.ref (ad_m 0), .int (nI ha), .int (nI ho), .int (nI wh), .int (nI kt)] sz (wj []) (wj [(mw Y ad_m (sA 68 (fun _ => nI tc) (sA 18 (fun _ => nI lv) g_m)) w_m)])) (va_Qi (fun (r : Int32) (u : (Nat → Int32) × (Nat → Int32) × (Nat → Int32) × (Nat → Int32) × (Int32) × (Int32) × (Nat → Int32)) => r = zb (soP cn lw t T kt ha ho wh)) (zB D (fun (u : (Nat → Int32) × (Nat → Int32) × (Nat → Int32) × (Nat → Int32) × (Int32) × (Int32) × (Nat → Int32)) => (wj [(mw Y ad_m (sA 68 (fun _ => nI tc) (sA 63 u.2.1 (sA 62 u.2.2.2.2.2.2 (sA 61 (fun _ => u.2.2.2.2.2.1) (sA 60 u.1 (sA 58 (fun _ => u.2.2.2.2.1) (sA 57 u.2.2.2.1 (sA 56 u.2.2.1 (sA 18 (fun _ => nI lv) g_m))))))))) w_m)])) (va_A (wj [(mw Y ad_m (sA 68 (fun _ => nI tc) (sA 18 (fun _ => nI lv) g_m)) w_m)]) sz)) (va_A (wj [(mw Y ad_m (sA 68 (fun _ => nI tc) (sA 18 (fun _ => nI lv) g_m)) w_m)]) sz)) 0 0 (va_A (wj [(mw Y ad_m (sA 68 (fun _ => nI tc) (sA 18 (fun _ => nI lv) g_m)) w_m)]) sz) := by
  refine Met.ofW (cc := cX12_isSo) (maxL := 8) (ret := (some .boolean)) (by decide) rfl ?_
  intro p e s m args below meth c s₁ B hml hv
  obtain ⟨rfl, hsz, hW, hR, hK, hA⟩ := zEntry hv
  subst hsz
  have hx := B.exec
  have hb := B.bytes
  have hr := B.returns
  have hlocks := B.notSynchronized
  have hts : ∀ w ∈ lw_all, w.before _ s = true := fun w h => atoms_spec (ws := (ws_ yX12_isSo cX12_isSo 8 (some .boolean))) B.pre w (List.mem_cons_of_mem _ h)
  have hown : s.vm.findClass RX12 = some m.cls := findClass_of_methodNamed B.named
  generalize hAe : va_A (wj [(mw Y ad_m (sA 68 (fun _ => nI tc) (sA 18 (fun _ => nI lv) g_m)) w_m)]) s.heap.size = A at hW hR hA ⊢
  have hl := lv_entry ([.ref (ad_m 0), .int (nI ha), .int (nI ho), .int (nI wh), .int (nI kt)]) (n := 8) (Nat.le_of_ble_eq_true rfl)
  rw [lg_entry_eq]
  generalize (lg_sl ([.ref (ad_m 0), .int (nI ha), .int (nI ho), .int (nI wh), .int (nI kt)]) ++ List.replicate (8 - (lg_sl ([.ref (ad_m 0), .int (nI ha), .int (nI ho), .int (nI wh), .int (nI kt)])).length) Slot.unset).toArray = ls at hl ⊢
  have hl : lv_has ls 8 [(0, .ref (ad_m 0)), (1, .int (nI ha)), (2, .int (nI ho)), (3, .int (nI wh)), (4, .int (nI kt))] := hl
  have hk8 := hTW.n2
  have hk6 := hTW.n1
  have hk60 := hTW.n0
  have hk5 := hTW.n3
  have hk8 := hTW.n2
  have hk6 := hTW.n1
  have hk60 := hTW.n0
  have hk5 := hTW.n3
  have ht20 := hTD.1
  refine lv_aload_n hx hb dX12_isSo_0 rfl (lv_at hl 0 rfl) ?_
  refine z_callv (wc := wj [(mw Y ad_m (sA 68 (fun _ => nI tc) (sA 18 (fun _ => nI lv) g_m)) w_m)]) (wr := wj []) (va_runV (As := []) (rest := []) ⟨hx, hb, hml, hown, hts⟩ (m_X12_begins l D Y ad_m (sA 68 (fun _ => nI tc) (sA 18 (fun _ => nI lv) g_m)) w_m lv cn t lw s.heap.size (show lv < 2 from by exact hlv) (show TW cn t lw from by exact hTW) (show TM lv cn t lw (sA 68 (fun _ => nI tc) (sA 18 (fun _ => nI lv) g_m)) from by exact hTM)) (cwV 0 hts (lw_V q1625 q1627 qs54 q133 q1628) rfl rfl rfl (by decide +kernel) ⟨Nat.le_of_ble_eq_true rfl, Nat.le_of_ble_eq_true rfl⟩) (zPreV hK hW hR (wj_split3 (B := [(mw Y ad_m (sA 68 (fun _ => nI tc) (sA 18 (fun _ => nI lv) g_m)) w_m)]) (R := []) (C := [(mw Y ad_m (sA 68 (fun _ => nI tc) (sA 18 (fun _ => nI lv) g_m)) w_m)]) (O := []) (X := []) (List.Perm.refl _)) (va_recv hK.1 hW.1 (ci := 11) (q0 := 0) rfl rfl)) rfl rfl hl.1 rfl (lv_room (Nat.le_of_ble_eq_true rfl)) dX12_isSo_1 ⟨Nat.le_refl _, Nat.le_refl _⟩) hW hA (wj_split (B := [(mw Y ad_m (sA 68 (fun _ => nI tc) (sA 18 (fun _ => nI lv) g_m)) w_m)]) (C := [(mw Y ad_m (sA 68 (fun _ => nI tc) (sA 18 (fun _ => nI lv) g_m)) w_m)]) (R := []) (List.Perm.refl _)) (fun  u H locs hp_2 hW => ?_)
  obtain ⟨urow_3, ulots_4, ufarNow_5⟩ := u
  have hp_2 : RS cn (beginP cn t) urow_3 ufarNow_5 ulots_4 := hp_2
  have hW : zW D A s.heap H locs (wj [(mw Y ad_m (sA 68 (fun _ => nI tc) (sA 62 ufarNow_5 (sA 61 (fun _ => ulots_4) (sA 60 urow_3 (sA 18 (fun _ => nI lv) g_m))))) w_m)]) := hW.join
  refine lv_iconst (v := (-1)) hx hb dX12_isSo_4 (by decide) ?_
  refine lv_istore (lv' := [(5, .int (-1)), (0, .ref (ad_m 0)), (1, .int (nI ha)), (2, .int (nI ho)), (3, .int (nI wh)), (4, .int (nI kt))]) hx hb dX12_isSo_5 hl (by decide) rfl (fun ls hl => ?_)
  refine lv_iconst (v := 0) hx hb dX12_isSo_7 (by decide) ?_
  refine lv_istore (lv' := [(6, .int 0), (5, .int (-1)), (0, .ref (ad_m 0)), (1, .int (nI ha)), (2, .int (nI ho)), (3, .int (nI wh)), (4, .int (nI kt))]) hx hb dX12_isSo_8 hl (by decide) rfl (fun ls hl => ?_)
  have loop_10 : ∀ (n : Nat) (i0 : Nat) (v5_10 : Int32), kt - i0 < n → (i0 ≤ kt) → (v5_10 = nI (lastTo T i0) - 1) → ∀ (H : Heap) (locs : List Loc), zW D A s.heap H locs (wj [(mw Y ad_m (sA 68 (fun _ => nI tc) (sA 62 ufarNow_5 (sA 61 (fun _ => ulots_4) (sA 60 urow_3 (sA 18 (fun _ => nI lv) g_m))))) w_m)]) → ∀ (ls : Array Slot), lv_has ls 8 [(6, .int (nI i0)), (5, .int v5_10), (0, .ref (ad_m 0)), (1, .int (nI ha)), (2, .int (nI ho)), (3, .int (nI wh)), (4, .int (nI kt))] → W p l e (headSpec (ws_ yX12_isSo cX12_isSo 8 (some .boolean)) ({ frames := 5, cells := 0, slots := 0, locals := 119 })).room s m ([.ref (ad_m 0), .int (nI ha), .int (nI ho), .int (nI wh), .int (nI kt)] : List Value).toArray below meth c H locs 0 0 (MQ below (va_Qi (fun (r : Int32) (u : (Nat → Int32) × (Nat → Int32) × (Nat → Int32) × (Nat → Int32) × (Int32) × (Int32) × (Nat → Int32)) => r = zb (soP cn lw t T kt ha ho wh)) (zB D (fun (u : (Nat → Int32) × (Nat → Int32) × (Nat → Int32) × (Nat → Int32) × (Int32) × (Int32) × (Nat → Int32)) => (wj [(mw Y ad_m (sA 68 (fun _ => nI tc) (sA 63 u.2.1 (sA 62 u.2.2.2.2.2.2 (sA 61 (fun _ => u.2.2.2.2.2.1) (sA 60 u.1 (sA 58 (fun _ => u.2.2.2.2.1) (sA 57 u.2.2.2.1 (sA 56 u.2.2.1 (sA 18 (fun _ => nI lv) g_m))))))))) w_m)])) A) A) ([.ref (ad_m 0), .int (nI ha), .int (nI ho), .int (nI wh), .int (nI kt)] : List Value).toArray s 0 0 A) (F0 m 10 ls []) := by
    intro n
    induction n with
    | zero =>
      intro i0 v5_10 hmz
      exact absurd hmz (Nat.not_lt_zero _)
    | succ n ih =>
      intro i0 v5_10 hm_10 hi hv5 H locs hW ls hl
      have ih_10 := ih
      clear ih
      refine lv_iload hx hb dX12_isSo_10 (lv_at hl 0 rfl) ?_
      refine lv_iload hx hb dX12_isSo_12 (lv_at hl 6 rfl) ?_
      refine lv_icmp_ge (tgt := 44) hx hb dX12_isSo_14 (by decide) (fun c_6 => ?_) (fun c_6 => ?_)
      · have c_6 : kt ≤ i0 := (nI_leI (a := kt) (b := i0) (by omega) (by omega)).mp c_6
        have ekt : i0 = kt := by omega
        have hL100 : lastTo T kt ≤ 100 := last_in (fun i hi => (hTOK i (by omega)).2.2)
        have ev5 : v5_10 = nI (lastTo T kt) - 1 := by rw [hv5, ekt]
        refine lv_iconst (v := 0) hx hb dX12_isSo_44 (by decide) ?_
        refine lv_istore (lv' := [(6, .int 0), (5, .int v5_10), (0, .ref (ad_m 0)), (1, .int (nI ha)), (2, .int (nI ho)), (3, .int (nI wh)), (4, .int (nI kt))]) hx hb dX12_isSo_45 hl (by decide) rfl (fun ls hl => ?_)
        have loop_47 : ∀ (n : Nat) (mm : Nat) (x_row_47 : Nat → Int32) (x_isLoaded_47 : Nat → Int32) (x_variables_47 : Nat → Int32) (x_pile_47 : Nat → Int32) (x_isBroken_47 : Int32) (τ : tab), 101 - mm < n → (mm ≤ lastTo T kt) → (soFrom cn lw t T kt ha ho wh (lastTo T kt - mm) mm τ ↔ soP cn lw t T kt ha ho wh) → (RS cn τ x_row_47 ufarNow_5 ulots_4) → (WF cn 60000 τ) → ∀ (H : Heap) (locs : List Loc), zW D A s.heap H locs (wj [(mw Y ad_m (sA 68 (fun _ => nI tc) (sA 63 x_isLoaded_47 (sA 62 ufarNow_5 (sA 61 (fun _ => ulots_4) (sA 60 x_row_47 (sA 58 (fun _ => x_isBroken_47) (sA 57 x_pile_47 (sA 56 x_variables_47 (sA 18 (fun _ => nI lv) g_m))))))))) w_m)]) → ∀ (ls : Array Slot), lv_has ls 8 [(6, .int (nI mm)), (5, .int v5_10), (0, .ref (ad_m 0)), (1, .int (nI ha)), (2, .int (nI ho)), (3, .int (nI wh)), (4, .int (nI kt))] → W p l e (headSpec (ws_ yX12_isSo cX12_isSo 8 (some .boolean)) ({ frames := 5, cells := 0, slots := 0, locals := 119 })).room s m ([.ref (ad_m 0), .int (nI ha), .int (nI ho), .int (nI wh), .int (nI kt)] : List Value).toArray below meth c H locs 0 0 (MQ below (va_Qi (fun (r : Int32) (u : (Nat → Int32) × (Nat → Int32) × (Nat → Int32) × (Nat → Int32) × (Int32) × (Int32) × (Nat → Int32)) => r = zb (soP cn lw t T kt ha ho wh)) (zB D (fun (u : (Nat → Int32) × (Nat → Int32) × (Nat → Int32) × (Nat → Int32) × (Int32) × (Int32) × (Nat → Int32)) => (wj [(mw Y ad_m (sA 68 (fun _ => nI tc) (sA 63 u.2.1 (sA 62 u.2.2.2.2.2.2 (sA 61 (fun _ => u.2.2.2.2.2.1) (sA 60 u.1 (sA 58 (fun _ => u.2.2.2.2.1) (sA 57 u.2.2.2.1 (sA 56 u.2.2.1 (sA 18 (fun _ => nI lv) g_m))))))))) w_m)])) A) A) ([.ref (ad_m 0), .int (nI ha), .int (nI ho), .int (nI wh), .int (nI kt)] : List Value).toArray s 0 0 A) (F0 m 47 ls []) := by
          intro n
          induction n with
          | zero =>
            intro mm x_row_47 x_isLoaded_47 x_variables_47 x_pile_47 x_isBroken_47 τ hmz
            exact absurd hmz (Nat.not_lt_zero _)
          | succ n ih =>
            intro mm x_row_47 x_isLoaded_47 x_variables_47 x_pile_47 x_isBroken_47 τ hm_47 hm hs hRSr hWr H locs hW ls hl
            have ih_47 := ih
            clear ih
            refine lv_iload hx hb dX12_isSo_47 (lv_at hl 0 rfl) ?_
            refine lv_iload hx hb dX12_isSo_49 (lv_at hl 1 rfl) ?_
            refine lv_icmp_gt (tgt := 147) hx hb dX12_isSo_51 (by decide) (fun c_7 => ?_) (fun c_7 => ?_)
            · have hmge : lastTo T kt ≤ mm := by rw [ev5] at c_7; exact Nat.le_of_not_lt (fun q => absurd ((le_pred (by omega) (by omega)).mpr q) (Int32.not_le.mpr c_7))
              refine lv_iconst (v := 1) hx hb dX12_isSo_147 (by decide) ?_
              refine z_ireti ((x_row_47, x_isLoaded_47, x_variables_47, x_pile_47, x_isBroken_47, ulots_4, ufarNow_5) : (Nat → Int32) × (Nat → Int32) × (Nat → Int32) × (Nat → Int32) × (Int32) × (Int32) × (Nat → Int32)) hx hb hr hlocks rfl hW rfl dX12_isSo_148 ?_
              show 1 = zb (soP cn lw t T kt ha ho wh)
              exact zb_1 (by rw [← hs, show lastTo T kt - mm = 0 by omega]; trivial)
            · have hmlt : mm < lastTo T kt := by rw [ev5] at c_7; exact (le_pred (by omega) (by omega)).mp (Int32.not_lt.mp c_7)
              have join_71 : ∀ (x_row_71 : Nat → Int32) (ρ : tab), (soSw ha ho wh mm τ = ρ) → (RS cn ρ x_row_71 ufarNow_5 ulots_4) → (WF cn 60000 ρ) → ∀ (H : Heap) (locs : List Loc), zW D A s.heap H locs (wj [(mw Y ad_m (sA 68 (fun _ => nI tc) (sA 63 x_isLoaded_47 (sA 62 ufarNow_5 (sA 61 (fun _ => ulots_4) (sA 60 x_row_71 (sA 58 (fun _ => x_isBroken_47) (sA 57 x_pile_47 (sA 56 x_variables_47 (sA 18 (fun _ => nI lv) g_m))))))))) w_m)]) → ∀ (ls : Array Slot), lv_has ls 8 [(6, .int (nI mm)), (5, .int v5_10), (0, .ref (ad_m 0)), (1, .int (nI ha)), (2, .int (nI ho)), (3, .int (nI wh)), (4, .int (nI kt))] → W p l e (headSpec (ws_ yX12_isSo cX12_isSo 8 (some .boolean)) ({ frames := 5, cells := 0, slots := 0, locals := 119 })).room s m ([.ref (ad_m 0), .int (nI ha), .int (nI ho), .int (nI wh), .int (nI kt)] : List Value).toArray below meth c H locs 0 0 (MQ below (va_Qi (fun (r : Int32) (u : (Nat → Int32) × (Nat → Int32) × (Nat → Int32) × (Nat → Int32) × (Int32) × (Int32) × (Nat → Int32)) => r = zb (soP cn lw t T kt ha ho wh)) (zB D (fun (u : (Nat → Int32) × (Nat → Int32) × (Nat → Int32) × (Nat → Int32) × (Int32) × (Int32) × (Nat → Int32)) => (wj [(mw Y ad_m (sA 68 (fun _ => nI tc) (sA 63 u.2.1 (sA 62 u.2.2.2.2.2.2 (sA 61 (fun _ => u.2.2.2.2.2.1) (sA 60 u.1 (sA 58 (fun _ => u.2.2.2.2.1) (sA 57 u.2.2.2.1 (sA 56 u.2.2.1 (sA 18 (fun _ => nI lv) g_m))))))))) w_m)])) A) A) ([.ref (ad_m 0), .int (nI ha), .int (nI ho), .int (nI wh), .int (nI kt)] : List Value).toArray s 0 0 A) (F0 m 71 ls []) := by
                intro x_row_71 ρ hsw hRSs hWs H locs hW ls hl
                refine lv_iconst (v := 0) hx hb dX12_isSo_71 (by decide) ?_
                refine lv_istore (lv' := [(7, .int 0), (6, .int (nI mm)), (5, .int v5_10), (0, .ref (ad_m 0)), (1, .int (nI ha)), (2, .int (nI ho)), (3, .int (nI wh)), (4, .int (nI kt))]) hx hb dX12_isSo_72 hl (by decide) rfl (fun ls hl => ?_)
                have loop_74 : ∀ (n : Nat) (ii : Nat), kt - ii < n → (ii ≤ kt) → (∀ i, i < ii → T 2 i = nI mm → ρ (30 + (T 0 i).toNatClampNeg) (T 1 i).toNatClampNeg = T 3 i) → ∀ (H : Heap) (locs : List Loc), zW D A s.heap H locs (wj [(mw Y ad_m (sA 68 (fun _ => nI tc) (sA 63 x_isLoaded_47 (sA 62 ufarNow_5 (sA 61 (fun _ => ulots_4) (sA 60 x_row_71 (sA 58 (fun _ => x_isBroken_47) (sA 57 x_pile_47 (sA 56 x_variables_47 (sA 18 (fun _ => nI lv) g_m))))))))) w_m)]) → ∀ (ls : Array Slot), lv_has ls 8 [(7, .int (nI ii)), (6, .int (nI mm)), (5, .int v5_10), (0, .ref (ad_m 0)), (1, .int (nI ha)), (2, .int (nI ho)), (3, .int (nI wh)), (4, .int (nI kt))] → W p l e (headSpec (ws_ yX12_isSo cX12_isSo 8 (some .boolean)) ({ frames := 5, cells := 0, slots := 0, locals := 119 })).room s m ([.ref (ad_m 0), .int (nI ha), .int (nI ho), .int (nI wh), .int (nI kt)] : List Value).toArray below meth c H locs 0 0 (MQ below (va_Qi (fun (r : Int32) (u : (Nat → Int32) × (Nat → Int32) × (Nat → Int32) × (Nat → Int32) × (Int32) × (Int32) × (Nat → Int32)) => r = zb (soP cn lw t T kt ha ho wh)) (zB D (fun (u : (Nat → Int32) × (Nat → Int32) × (Nat → Int32) × (Nat → Int32) × (Int32) × (Int32) × (Nat → Int32)) => (wj [(mw Y ad_m (sA 68 (fun _ => nI tc) (sA 63 u.2.1 (sA 62 u.2.2.2.2.2.2 (sA 61 (fun _ => u.2.2.2.2.2.1) (sA 60 u.1 (sA 58 (fun _ => u.2.2.2.2.1) (sA 57 u.2.2.2.1 (sA 56 u.2.2.1 (sA 18 (fun _ => nI lv) g_m))))))))) w_m)])) A) A) ([.ref (ad_m 0), .int (nI ha), .int (nI ho), .int (nI wh), .int (nI kt)] : List Value).toArray s 0 0 A) (F0 m 74 ls []) := by
                  intro n
                  induction n with
                  | zero =>
                    intro ii hmz
                    exact absurd hmz (Nat.not_lt_zero _)
                  | succ n ih =>
                    intro ii hm_74 hii hso H locs hW ls hl
                    have ih_74 := ih
                    clear ih
                    refine lv_iload hx hb dX12_isSo_74 (lv_at hl 0 rfl) ?_
                    refine lv_iload hx hb dX12_isSo_76 (lv_at hl 7 rfl) ?_
                    refine lv_icmp_ge (tgt := 137) hx hb dX12_isSo_78 (by decide) (fun c_9 => ?_) (fun c_9 => ?_)
                    · have c_9 : kt ≤ ii := (nI_leI (a := kt) (b := ii) (by omega) (by omega)).mp c_9
                      have eii : ii = kt := by omega
                      refine lv_aload_n hx hb dX12_isSo_137 rfl (lv_at hl 3 rfl) ?_
                      refine z_callv (wc := wj [(mw Y ad_m (sA 68 (fun _ => nI tc) (sA 63 x_isLoaded_47 (sA 62 ufarNow_5 (sA 61 (fun _ => ulots_4) (sA 60 x_row_71 (sA 58 (fun _ => x_isBroken_47) (sA 57 x_pile_47 (sA 56 x_variables_47 (sA 18 (fun _ => nI lv) g_m))))))))) w_m)]) (wr := wj []) (va_runV (As := []) (rest := []) ⟨hx, hb, hml, hown, hts⟩ (m_X12_minuteGoes l D Y ad_m (sA 68 (fun _ => nI tc) (sA 63 x_isLoaded_47 (sA 62 ufarNow_5 (sA 61 (fun _ => ulots_4) (sA 60 x_row_71 (sA 58 (fun _ => x_isBroken_47) (sA 57 x_pile_47 (sA 56 x_variables_47 (sA 18 (fun _ => nI lv) g_m))))))))) w_m lv cn t lw ρ 60000 H.size (show lv < 2 from by exact hlv) (show TW cn t lw from by exact hTW) (show TM lv cn t lw (sA 68 (fun _ => nI tc) (sA 63 x_isLoaded_47 (sA 62 ufarNow_5 (sA 61 (fun _ => ulots_4) (sA 60 x_row_71 (sA 58 (fun _ => x_isBroken_47) (sA 57 x_pile_47 (sA 56 x_variables_47 (sA 18 (fun _ => nI lv) g_m))))))))) from by exact hTM) (show RS cn ρ x_row_71 ufarNow_5 ulots_4 from by exact hRSs) (show WF cn 60000 ρ from by exact hWs)) (cwV 0 hts (lw_V q2043 q2045 qs89 q133 q2046) rfl rfl rfl (by decide +kernel) ⟨Nat.le_of_ble_eq_true rfl, Nat.le_of_ble_eq_true rfl⟩) (zPreV hK hW hR (wj_split3 (B := [(mw Y ad_m (sA 68 (fun _ => nI tc) (sA 63 x_isLoaded_47 (sA 62 ufarNow_5 (sA 61 (fun _ => ulots_4) (sA 60 x_row_71 (sA 58 (fun _ => x_isBroken_47) (sA 57 x_pile_47 (sA 56 x_variables_47 (sA 18 (fun _ => nI lv) g_m))))))))) w_m)]) (R := []) (C := [(mw Y ad_m (sA 68 (fun _ => nI tc) (sA 63 x_isLoaded_47 (sA 62 ufarNow_5 (sA 61 (fun _ => ulots_4) (sA 60 x_row_71 (sA 58 (fun _ => x_isBroken_47) (sA 57 x_pile_47 (sA 56 x_variables_47 (sA 18 (fun _ => nI lv) g_m))))))))) w_m)]) (O := []) (X := []) (List.Perm.refl _)) (va_recv hK.1 hW.1 (ci := 11) (q0 := 0) rfl rfl)) rfl rfl hl.1 rfl (lv_room (Nat.le_of_ble_eq_true rfl)) dX12_isSo_138 ⟨Nat.le_refl _, Nat.le_refl _⟩) hW hA (wj_split (B := [(mw Y ad_m (sA 68 (fun _ => nI tc) (sA 63 x_isLoaded_47 (sA 62 ufarNow_5 (sA 61 (fun _ => ulots_4) (sA 60 x_row_71 (sA 58 (fun _ => x_isBroken_47) (sA 57 x_pile_47 (sA 56 x_variables_47 (sA 18 (fun _ => nI lv) g_m))))))))) w_m)]) (C := [(mw Y ad_m (sA 68 (fun _ => nI tc) (sA 63 x_isLoaded_47 (sA 62 ufarNow_5 (sA 61 (fun _ => ulots_4) (sA 60 x_row_71 (sA 58 (fun _ => x_isBroken_47) (sA 57 x_pile_47 (sA 56 x_variables_47 (sA 18 (fun _ => nI lv) g_m))))))))) w_m)]) (R := []) (List.Perm.refl _)) (fun  u H locs hp_11 hW => ?_)
                      obtain ⟨urow_12, uisLoaded_13, uvariables_14, upile_15, uisBroken_16⟩ := u
                      have hp_11 : RS cn (minuteP cn lw t ρ) urow_12 ufarNow_5 ulots_4 := hp_11
                      have hW : zW D A s.heap H locs (wj [(mw Y ad_m (sA 68 (fun _ => nI tc) (sA 63 uisLoaded_13 (sA 62 ufarNow_5 (sA 61 (fun _ => ulots_4) (sA 60 urow_12 (sA 58 (fun _ => uisBroken_16) (sA 57 upile_15 (sA 56 uvariables_14 (sA 18 (fun _ => nI lv) g_m))))))))) w_m)]) := hW.join
                      refine lv_iinc (v := nI (mm + 1)) (lv' := [(6, .int (nI (mm + 1))), (7, .int (nI ii)), (5, .int v5_10), (0, .ref (ad_m 0)), (1, .int (nI ha)), (2, .int (nI ho)), (3, .int (nI wh)), (4, .int (nI kt))]) hx hb dX12_isSo_141 hl (k := 1) rfl (nI_add mm 1) (by decide) rfl (fun ls hl => ?_)
                      refine lv_goto (tgt := 47) hx hb dX12_isSo_144 (by decide) ?_
                      exact ih_47 (mm + 1) urow_12 uisLoaded_13 uvariables_14 upile_15 uisBroken_16 (minuteP cn lw t ρ) (by omega) (by omega) (by
                          rw [← hs, show lastTo T kt - mm = (lastTo T kt - (mm + 1)) + 1 by omega, soFrom, hsw]
                          exact ⟨fun q => ⟨fun i hi => hso i (by omega), q⟩, fun q => q.2⟩) (by exact hp_11) (by exact WF.minute hTW hWs) _ _ hW _ (lv_sub hl [0, 2, 3, 4, 5, 6, 7] rfl)
                    · have c_9 : ¬ (kt ≤ ii) := fun hz_ => c_9 ((nI_leI (a := kt) (b := ii) (by omega) (by omega)).mpr hz_)
                      refine lv_aload_n hx hb dX12_isSo_81 rfl (lv_at hl 3 rfl) ?_
                      refine va_get (v := .ref (ad_m 71)) (C := RX12) (T := TX12) (N := 75) (ci := 11) hx hb hts in_X12 hown hK.1 hW.1 0 rfl rfl 71 (by decide) (hts _ q1707) (fun _ h9 => h9) rfl dX12_isSo_82 ?_
                      refine lv_iload hx hb dX12_isSo_85 (lv_at hl 0 rfl) ?_
                      refine z_iald (v := T 2 ii) (f := g_m 71) (j := ii) hx hb hK.1 hW.1 49 0 rfl rfl (vp_in_nI (n := ii) (by omega) (by decide)) (nI_clamp (n := ii) (by omega)) (hTD.2 ii (by omega)).2.2.1 dX12_isSo_87 ?_
                      refine lv_iload hx hb dX12_isSo_88 (lv_at hl 1 rfl) ?_
                      refine lv_icmp_ne (tgt := 131) hx hb dX12_isSo_90 (by decide) (fun c_17 => ?_) (fun c_17 => ?_)
                      · have ht2 := c_17
                        refine lv_iinc (v := nI (ii + 1)) (lv' := [(7, .int (nI (ii + 1))), (6, .int (nI mm)), (5, .int v5_10), (0, .ref (ad_m 0)), (1, .int (nI ha)), (2, .int (nI ho)), (3, .int (nI wh)), (4, .int (nI kt))]) hx hb dX12_isSo_131 hl (k := 0) rfl (nI_add ii 1) (by decide) rfl (fun ls hl => ?_)
                        refine lv_goto (tgt := 74) hx hb dX12_isSo_134 (by decide) ?_
                        exact ih_74 (ii + 1) (by omega) (by omega) (by intro i hi hq; by_cases e : i = ii; (subst e; first | exact absurd hq ht2 | (rw [cth, ctg]; exact hv3)); exact hso i (by omega) hq) _ _ hW _ (lv_sub hl [0, 1, 2, 3, 4, 5, 6, 7] rfl)
                      · have ht2 := c_17
                        obtain ⟨th, hth, eth⟩ := vp_in_of (hTOK ii (by omega)).1 (by omega)
                        obtain ⟨tg, htg, etg⟩ := vp_in_of (hTOK ii (by omega)).2.1 (by omega)
                        have cth : (T 0 ii).toNatClampNeg = th := by rw [eth]; exact nI_clamp (by omega)
                        have ctg : (T 1 ii).toNatClampNeg = tg := by rw [etg]; exact nI_clamp (by omega)
                        refine lv_aload_n hx hb dX12_isSo_93 rfl (lv_at hl 3 rfl) ?_
                        refine va_get (v := .ref (ad_m 60)) (C := RX12) (T := TX12) (N := 75) (ci := 11) hx hb hts in_X12 hown hK.1 hW.1 0 rfl rfl 60 (by decide) (hts _ q1696) (fun _ h9 => h9) rfl dX12_isSo_94 ?_
                        refine lv_bipush (v := 6) hx hb dX12_isSo_97 (by decide) ?_
                        refine lv_bipush (v := 6) hx hb dX12_isSo_99 (by decide) ?_
                        refine lv_aload_n hx hb dX12_isSo_101 rfl (lv_at hl 3 rfl) ?_
                        refine va_get (v := .ref (ad_m 69)) (C := RX12) (T := TX12) (N := 75) (ci := 11) hx hb hts in_X12 hown hK.1 hW.1 0 rfl rfl 69 (by decide) (hts _ q1705) (fun _ h9 => h9) rfl dX12_isSo_102 ?_
                        refine lv_iload hx hb dX12_isSo_105 (lv_at hl 0 rfl) ?_
                        refine z_iald (v := nI th) (f := g_m 69) (j := ii) hx hb hK.1 hW.1 47 0 rfl rfl (vp_in_nI (n := ii) (by omega) (by decide)) (nI_clamp (n := ii) (by omega)) (Eq.trans (hTD.2 ii (by omega)).1 eth) dX12_isSo_107 ?_
                        refine lv_imul hx hb dX12_isSo_108 ?_
                        refine lv_topi (nm_r (e' := nI (6 * th)) (pk_mul 6 th) ?_)
                        refine lv_iadd hx hb dX12_isSo_109 ?_
                        refine lv_topi (nm_r (e' := nI (6 + 6 * th)) (nI_add 6 (6 * th)) ?_)
                        refine lv_aload_n hx hb dX12_isSo_110 rfl (lv_at hl 3 rfl) ?_
                        refine va_get (v := .ref (ad_m 70)) (C := RX12) (T := TX12) (N := 75) (ci := 11) hx hb hts in_X12 hown hK.1 hW.1 0 rfl rfl 70 (by decide) (hts _ q1706) (fun _ h9 => h9) rfl dX12_isSo_111 ?_
                        refine lv_iload hx hb dX12_isSo_114 (lv_at hl 0 rfl) ?_
                        refine z_iald (v := nI tg) (f := g_m 70) (j := ii) hx hb hK.1 hW.1 48 0 rfl rfl (vp_in_nI (n := ii) (by omega) (by decide)) (nI_clamp (n := ii) (by omega)) (Eq.trans (hTD.2 ii (by omega)).2.1 etg) dX12_isSo_116 ?_
                        refine lv_iadd hx hb dX12_isSo_117 ?_
                        refine lv_topi (nm_r (e' := nI (6 + 6 * th + tg)) (nI_add (6 + 6 * th) tg) ?_)
                        refine z_iald (v := ρ (30 + th) tg) (f := x_row_71) (j := 6 + 6 * th + tg) hx hb hK.1 hW.1 43 0 rfl rfl (vp_in_nI (n := 6 + 6 * th + tg) (by omega) (by decide)) (nI_clamp (n := 6 + 6 * th + tg) (by omega)) (MR.hole hRSs.1 (a := th) (g := tg) (by omega) (by omega)) dX12_isSo_118 ?_
                        refine lv_aload_n hx hb dX12_isSo_119 rfl (lv_at hl 3 rfl) ?_
                        refine va_get (v := .ref (ad_m 72)) (C := RX12) (T := TX12) (N := 75) (ci := 11) hx hb hts in_X12 hown hK.1 hW.1 0 rfl rfl 72 (by decide) (hts _ q1708) (fun _ h9 => h9) rfl dX12_isSo_120 ?_
                        refine lv_iload hx hb dX12_isSo_123 (lv_at hl 0 rfl) ?_
                        refine z_iald (v := T 3 ii) (f := g_m 72) (j := ii) hx hb hK.1 hW.1 50 0 rfl rfl (vp_in_nI (n := ii) (by omega) (by decide)) (nI_clamp (n := ii) (by omega)) (hTD.2 ii (by omega)).2.2.2 dX12_isSo_125 ?_
                        refine lv_icmp_eq (tgt := 131) hx hb dX12_isSo_126 (by decide) (fun c_18 => ?_) (fun c_18 => ?_)
                        · have hv3 := c_18
                          refine lv_iinc (v := nI (ii + 1)) (lv' := [(7, .int (nI (ii + 1))), (6, .int (nI mm)), (5, .int v5_10), (0, .ref (ad_m 0)), (1, .int (nI ha)), (2, .int (nI ho)), (3, .int (nI wh)), (4, .int (nI kt))]) hx hb dX12_isSo_131 hl (k := 0) rfl (nI_add ii 1) (by decide) rfl (fun ls hl => ?_)
                          refine lv_goto (tgt := 74) hx hb dX12_isSo_134 (by decide) ?_
                          exact ih_74 (ii + 1) (by omega) (by omega) (by intro i hi hq; by_cases e : i = ii; (subst e; first | exact absurd hq ht2 | (rw [cth, ctg]; exact hv3)); exact hso i (by omega) hq) _ _ hW _ (lv_sub hl [0, 1, 2, 3, 4, 5, 6, 7] rfl)
                        · have hv3 := c_18
                          refine lv_iconst (v := 0) hx hb dX12_isSo_129 (by decide) ?_
                          refine z_ireti ((x_row_71, x_isLoaded_47, x_variables_47, x_pile_47, x_isBroken_47, ulots_4, ufarNow_5) : (Nat → Int32) × (Nat → Int32) × (Nat → Int32) × (Nat → Int32) × (Int32) × (Int32) × (Nat → Int32)) hx hb hr hlocks rfl hW rfl dX12_isSo_130 ?_
                          show 0 = zb (soP cn lw t T kt ha ho wh)
                          exact zb_0 (fun q => by rw [← hs, show lastTo T kt - mm = (lastTo T kt - (mm + 1)) + 1 by omega, soFrom, hsw] at q; exact hv3 (by have := q.1 ii (by omega) ht2; rw [cth, ctg] at this; exact this))
                exact loop_74 _ 0 (Nat.lt_succ_self _) (by omega) (by intro i hi; omega) _ _ hW _ (lv_sub hl [0, 1, 2, 3, 4, 5, 6, 7] rfl)
              refine lv_iload hx hb dX12_isSo_54 (lv_at hl 0 rfl) ?_
              refine lv_iload_n hx hb dX12_isSo_56 rfl (lv_at hl 5 rfl) ?_
              refine lv_icmp_ne (tgt := 71) hx hb dX12_isSo_57 (by decide) (fun c_19 => ?_) (fun c_19 => ?_)
              · have c_19 : ¬ (mm = wh) := fun hz_ => c_19 ((nI_eq (a := mm) (b := wh) (by omega) (by omega)).mpr hz_)
                have hwm := c_19
                exact join_71 x_row_47 τ (by first | exact if_pos ⟨hwm, hne⟩ | exact if_neg (fun q => hwm q.1) | exact if_neg (fun q => q.2 hne)) (by exact hRSr) (by exact hWr) _ _ hW _ (lv_sub hl [0, 1, 2, 3, 4, 5, 6] rfl)
              · have c_19 : mm = wh := (nI_eq (a := mm) (b := wh) (by omega) (by omega)).mp c_19
                have hwm := c_19
                refine lv_iload_n hx hb dX12_isSo_60 rfl (lv_at hl 3 rfl) ?_
                refine lv_iload_n hx hb dX12_isSo_61 rfl (lv_at hl 4 rfl) ?_
                refine lv_icmp_eq (tgt := 71) hx hb dX12_isSo_62 (by decide) (fun c_20 => ?_) (fun c_20 => ?_)
                · have c_20 : ha = ho := (nI_eq (a := ha) (b := ho) (by omega) (by omega)).mp c_20
                  have hne := c_20
                  exact join_71 x_row_47 τ (by first | exact if_pos ⟨hwm, hne⟩ | exact if_neg (fun q => hwm q.1) | exact if_neg (fun q => q.2 hne)) (by exact hRSr) (by exact hWr) _ _ hW _ (lv_sub hl [0, 1, 2, 3, 4, 5, 6] rfl)
                · have c_20 : ¬ (ha = ho) := fun hz_ => c_20 ((nI_eq (a := ha) (b := ho) (by omega) (by omega)).mpr hz_)
                  have hne := c_20
                  refine lv_aload_n hx hb dX12_isSo_65 rfl (lv_at hl 2 rfl) ?_
                  refine lv_iload_n hx hb dX12_isSo_66 rfl (lv_at hl 3 rfl) ?_
                  refine lv_iload_n hx hb dX12_isSo_67 rfl (lv_at hl 4 rfl) ?_
                  refine z_callv (wc := wj [(mw Y ad_m (sA 68 (fun _ => nI tc) (sA 63 x_isLoaded_47 (sA 62 ufarNow_5 (sA 61 (fun _ => ulots_4) (sA 60 x_row_47 (sA 58 (fun _ => x_isBroken_47) (sA 57 x_pile_47 (sA 56 x_variables_47 (sA 18 (fun _ => nI lv) g_m))))))))) w_m)]) (wr := wj []) (va_runV (As := [.int (nI ha), .int (nI ho)]) (rest := []) ⟨hx, hb, hml, hown, hts⟩ (m_X12_swaps l D Y ad_m (sA 68 (fun _ => nI tc) (sA 63 x_isLoaded_47 (sA 62 ufarNow_5 (sA 61 (fun _ => ulots_4) (sA 60 x_row_47 (sA 58 (fun _ => x_isBroken_47) (sA 57 x_pile_47 (sA 56 x_variables_47 (sA 18 (fun _ => nI lv) g_m))))))))) w_m lv cn t lw τ ha ho H.size (show lv < 2 from by exact hlv) (show TW cn t lw from by exact hTW) (show TM lv cn t lw (sA 68 (fun _ => nI tc) (sA 63 x_isLoaded_47 (sA 62 ufarNow_5 (sA 61 (fun _ => ulots_4) (sA 60 x_row_47 (sA 58 (fun _ => x_isBroken_47) (sA 57 x_pile_47 (sA 56 x_variables_47 (sA 18 (fun _ => nI lv) g_m))))))))) from by exact hTM) (show RS cn τ x_row_47 ufarNow_5 ulots_4 from by exact hRSr) (show ha < 6 from by first | assumption | omega | grind) (show ho < 6 from by first | assumption | omega | grind)) (cwV 2 hts (lw_V q2090 q2092 qs97 q133 q2093) rfl rfl rfl (by decide +kernel) ⟨Nat.le_of_ble_eq_true rfl, Nat.le_of_ble_eq_true rfl⟩) (zPreV hK hW hR (wj_split3 (B := [(mw Y ad_m (sA 68 (fun _ => nI tc) (sA 63 x_isLoaded_47 (sA 62 ufarNow_5 (sA 61 (fun _ => ulots_4) (sA 60 x_row_47 (sA 58 (fun _ => x_isBroken_47) (sA 57 x_pile_47 (sA 56 x_variables_47 (sA 18 (fun _ => nI lv) g_m))))))))) w_m)]) (R := []) (C := [(mw Y ad_m (sA 68 (fun _ => nI tc) (sA 63 x_isLoaded_47 (sA 62 ufarNow_5 (sA 61 (fun _ => ulots_4) (sA 60 x_row_47 (sA 58 (fun _ => x_isBroken_47) (sA 57 x_pile_47 (sA 56 x_variables_47 (sA 18 (fun _ => nI lv) g_m))))))))) w_m)]) (O := []) (X := []) (List.Perm.refl _)) (va_recv hK.1 hW.1 (ci := 11) (q0 := 0) rfl rfl)) rfl rfl hl.1 rfl (lv_room (Nat.le_of_ble_eq_true rfl)) dX12_isSo_68 ⟨Nat.le_refl _, Nat.le_refl _⟩) hW hA (wj_split (B := [(mw Y ad_m (sA 68 (fun _ => nI tc) (sA 63 x_isLoaded_47 (sA 62 ufarNow_5 (sA 61 (fun _ => ulots_4) (sA 60 x_row_47 (sA 58 (fun _ => x_isBroken_47) (sA 57 x_pile_47 (sA 56 x_variables_47 (sA 18 (fun _ => nI lv) g_m))))))))) w_m)]) (C := [(mw Y ad_m (sA 68 (fun _ => nI tc) (sA 63 x_isLoaded_47 (sA 62 ufarNow_5 (sA 61 (fun _ => ulots_4) (sA 60 x_row_47 (sA 58 (fun _ => x_isBroken_47) (sA 57 x_pile_47 (sA 56 x_variables_47 (sA 18 (fun _ => nI lv) g_m))))))))) w_m)]) (R := []) (List.Perm.refl _)) (fun  u H locs hp_22 hW => ?_)
                  obtain ⟨urow_23, rfl⟩ : ∃ z, z = u := ⟨_, rfl⟩
                  have hp_22 : RS cn (swapTo τ ha ho 6) urow_23 ufarNow_5 ulots_4 := hp_22
                  have hW : zW D A s.heap H locs (wj [(mw Y ad_m (sA 68 (fun _ => nI tc) (sA 63 x_isLoaded_47 (sA 62 ufarNow_5 (sA 61 (fun _ => ulots_4) (sA 60 urow_23 (sA 58 (fun _ => x_isBroken_47) (sA 57 x_pile_47 (sA 56 x_variables_47 (sA 18 (fun _ => nI lv) g_m))))))))) w_m)]) := hW.join
                  exact join_71 urow_23 (swapTo τ ha ho 6) (by first | exact if_pos ⟨hwm, hne⟩ | exact if_neg (fun q => hwm q.1) | exact if_neg (fun q => q.2 hne)) (by exact hp_22) (by exact WF.swap hWr hha hho 6 (Nat.le_refl _)) _ _ hW _ (lv_sub hl [0, 1, 2, 3, 4, 5, 6] rfl)
        exact loop_47 _ 0 urow_3 (g_m 63) (g_m 56) (g_m 57) (g_m 58 0) (beginP cn t) (Nat.lt_succ_self _) (by omega) (by exact Iff.rfl) (by exact hp_2) (by exact WF.begin hTW) _ _ hW _ (lv_sub hl [0, 1, 2, 3, 4, 5, 6] rfl)
      · have c_6 : ¬ (kt ≤ i0) := fun hz_ => c_6 ((nI_leI (a := kt) (b := i0) (by omega) (by omega)).mpr hz_)
        refine lv_aload_n hx hb dX12_isSo_17 rfl (lv_at hl 2 rfl) ?_
        refine va_get (v := .ref (ad_m 71)) (C := RX12) (T := TX12) (N := 75) (ci := 11) hx hb hts in_X12 hown hK.1 hW.1 0 rfl rfl 71 (by decide) (hts _ q1707) (fun _ h9 => h9) rfl dX12_isSo_18 ?_
        refine lv_iload hx hb dX12_isSo_21 (lv_at hl 0 rfl) ?_
        refine z_iald (v := T 2 i0) (f := g_m 71) (j := i0) hx hb hK.1 hW.1 49 0 rfl rfl (vp_in_nI (n := i0) (by omega) (by decide)) (nI_clamp (n := i0) (by omega)) (hTD.2 i0 (by omega)).2.2.1 dX12_isSo_23 ?_
        refine lv_iload hx hb dX12_isSo_24 (lv_at hl 1 rfl) ?_
        refine lv_icmp_le (tgt := 38) hx hb dX12_isSo_26 (by decide) (fun c_24 => ?_) (fun c_24 => ?_)
        · refine lv_iinc (v := nI (i0 + 1)) (lv' := [(6, .int (nI (i0 + 1))), (5, .int v5_10), (0, .ref (ad_m 0)), (1, .int (nI ha)), (2, .int (nI ho)), (3, .int (nI wh)), (4, .int (nI kt))]) hx hb dX12_isSo_38 hl (k := 0) rfl (nI_add i0 1) (by decide) rfl (fun ls hl => ?_)
          refine lv_goto (tgt := 10) hx hb dX12_isSo_41 (by decide) ?_
          exact ih_10 (i0 + 1) v5_10 (by omega) (by omega) (by first | exact last_yes (hTOK i0 (by omega)).2.2 hv5 (by assumption) (last_in (fun i hi => (hTOK i (by omega)).2.2)) | exact last_no (hTOK i0 (by omega)).2.2 hv5 (by assumption) (last_in (fun i hi => (hTOK i (by omega)).2.2))) _ _ hW _ (lv_sub hl [0, 1, 2, 3, 4, 5, 6] rfl)
        · refine lv_aload_n hx hb dX12_isSo_29 rfl (lv_at hl 2 rfl) ?_
          refine va_get (v := .ref (ad_m 71)) (C := RX12) (T := TX12) (N := 75) (ci := 11) hx hb hts in_X12 hown hK.1 hW.1 0 rfl rfl 71 (by decide) (hts _ q1707) (fun _ h9 => h9) rfl dX12_isSo_30 ?_
          refine lv_iload hx hb dX12_isSo_33 (lv_at hl 0 rfl) ?_
          refine z_iald (v := T 2 i0) (f := g_m 71) (j := i0) hx hb hK.1 hW.1 49 0 rfl rfl (vp_in_nI (n := i0) (by omega) (by decide)) (nI_clamp (n := i0) (by omega)) (hTD.2 i0 (by omega)).2.2.1 dX12_isSo_35 ?_
          refine lv_istore (lv' := [(5, .int (T 2 i0)), (6, .int (nI i0)), (0, .ref (ad_m 0)), (1, .int (nI ha)), (2, .int (nI ho)), (3, .int (nI wh)), (4, .int (nI kt))]) hx hb dX12_isSo_36 hl (by decide) rfl (fun ls hl => ?_)
          refine lv_iinc (v := nI (i0 + 1)) (lv' := [(6, .int (nI (i0 + 1))), (5, .int (T 2 i0)), (0, .ref (ad_m 0)), (1, .int (nI ha)), (2, .int (nI ho)), (3, .int (nI wh)), (4, .int (nI kt))]) hx hb dX12_isSo_38 hl (k := 1) rfl (nI_add i0 1) (by decide) rfl (fun ls hl => ?_)
          refine lv_goto (tgt := 10) hx hb dX12_isSo_41 (by decide) ?_
          exact ih_10 (i0 + 1) (T 2 i0) (by omega) (by omega) (by first | exact last_yes (hTOK i0 (by omega)).2.2 hv5 (by assumption) (last_in (fun i hi => (hTOK i (by omega)).2.2)) | exact last_no (hTOK i0 (by omega)).2.2 hv5 (by assumption) (last_in (fun i hi => (hTOK i (by omega)).2.2))) _ _ hW _ (lv_sub hl [0, 1, 2, 3, 4, 5, 6] rfl)
  exact loop_10 _ 0 (-1) (Nat.lt_succ_self _) (by omega) (by rfl) _ _ hW _ (lv_sub hl [0, 1, 2, 3, 4, 5, 6] rfl)
set_option maxHeartbeats 4000000 in
set_option maxRecDepth 100000 in
theorem m_X12_jokes (l : Launch) (D : va_G) (Y : Nat → ClassId) (ad_m : Nat → Nat) (g_m : Nat → Nat → Int32) (w_m : Nat → Nat → Int64) (lv : Nat) (cn : Nat → Nat) (t : tab) (lw : Nat → Option LAW) (tc : Nat) (T : tab) (kx : Int32) (ix : Int32) (sz : Nat) (hlv : lv < 2) (hTW : TW cn t lw) (hTM : TM lv cn t lw g_m) (hTD : TD tc T (g_m 69) (g_m 70) (g_m 71) (g_m 72)) (hTOK : TOK cn tc T) : Met l yX12_jokes (ws_ yX12_jokes cX12_jokes 7 (some .int)) ({ frames := 6, cells := 0, slots := 0, locals := 146 }) (zPc D Y [.ref (ad_m 0), .int kx, .int ix] sz (wj []) (wj [(mw Y ad_m (sA 68 (fun _ => nI tc) (sA 18 (fun _ => nI lv) g_m)) w_m)])) (va_Qi (fun (r : Int32) (u : (Nat → Int32) × (Nat → Int32) × (Nat → Int32) × (Nat → Int32) × (Int32) × (Int32) × (Nat → Int32)) => r = jokesO cn lw t tc T kx ix) (zB D (fun (u : (Nat → Int32) × (Nat → Int32) × (Nat → Int32) × (Nat → Int32) × (Int32) × (Int32) × (Nat → Int32)) => (wj [(mw Y ad_m (sA 68 (fun _ => nI tc) (sA 63 u.2.1 (sA 62 u.2.2.2.2.2.2 (sA 61 (fun _ => u.2.2.2.2.2.1) (sA 60 u.1 (sA 58 (fun _ => u.2.2.2.2.1) (sA 57 u.2.2.2.1 (sA 56 u.2.2.1 (sA 18 (fun _ => nI lv) g_m))))))))) w_m)])) (va_A (wj [(mw Y ad_m (sA 68 (fun _ => nI tc) (sA 18 (fun _ => nI lv) g_m)) w_m)]) sz)) (va_A (wj [(mw Y ad_m (sA 68 (fun _ => nI tc) (sA 18 (fun _ => nI lv) g_m)) w_m)]) sz)) 0 0 (va_A (wj [(mw Y ad_m (sA 68 (fun _ => nI tc) (sA 18 (fun _ => nI lv) g_m)) w_m)]) sz) := by
  refine Met.ofW (cc := cX12_jokes) (maxL := 7) (ret := (some .int)) (by decide) rfl ?_
  intro p e s m args below meth c s₁ B hml hv
  obtain ⟨rfl, hsz, hW, hR, hK, hA⟩ := zEntry hv
  subst hsz
  have hx := B.exec
  have hb := B.bytes
  have hr := B.returns
  have hlocks := B.notSynchronized
  have hts : ∀ w ∈ lw_all, w.before _ s = true := fun w h => atoms_spec (ws := (ws_ yX12_jokes cX12_jokes 7 (some .int))) B.pre w (List.mem_cons_of_mem _ h)
  have hown : s.vm.findClass RX12 = some m.cls := findClass_of_methodNamed B.named
  generalize hAe : va_A (wj [(mw Y ad_m (sA 68 (fun _ => nI tc) (sA 18 (fun _ => nI lv) g_m)) w_m)]) s.heap.size = A at hW hR hA ⊢
  have hl := lv_entry ([.ref (ad_m 0), .int kx, .int ix]) (n := 7) (Nat.le_of_ble_eq_true rfl)
  rw [lg_entry_eq]
  generalize (lg_sl ([.ref (ad_m 0), .int kx, .int ix]) ++ List.replicate (7 - (lg_sl ([.ref (ad_m 0), .int kx, .int ix])).length) Slot.unset).toArray = ls at hl ⊢
  have hl : lv_has ls 7 [(0, .ref (ad_m 0)), (1, .int kx), (2, .int ix)] := hl
  have hk8 := hTW.n2
  have hk6 := hTW.n1
  have hk60 := hTW.n0
  have hk5 := hTW.n3
  have ht20 := hTD.1
  refine lv_iload_n hx hb dX12_jokes_0 rfl (lv_at hl 1 rfl) ?_
  refine lv_iconst (v := 0) hx hb dX12_jokes_1 (by decide) ?_
  refine lv_aload_n hx hb dX12_jokes_2 rfl (lv_at hl 0 rfl) ?_
  refine va_get (v := .int (nI tc)) (C := RX12) (T := TX12) (N := 75) (ci := 11) hx hb hts in_X12 hown hK.1 hW.1 0 rfl rfl 68 (by decide) (hts _ q1704) (fun _ h9 => h9) rfl dX12_jokes_3 ?_
  refine z_calli (wc := wj []) (wr := wj [(mw Y ad_m (sA 68 (fun _ => nI tc) (sA 18 (fun _ => nI lv) g_m)) w_m)]) (va_runS (As := [.int kx, .int 0, .int (nI tc)]) (rest := []) ⟨hx, hb, hml, hown, hts⟩ (m_X12_in l D Y kx 0 (nI tc) s.heap.size) (va_cwS 3 hts (lw_S q1997 q1998 q133 q1999) rfl rfl rfl (by decide +kernel) ⟨Nat.le_of_ble_eq_true rfl, Nat.le_of_ble_eq_true rfl⟩) (zPre hK hW hR (wj_split3 (B := [(mw Y ad_m (sA 68 (fun _ => nI tc) (sA 18 (fun _ => nI lv) g_m)) w_m)]) (R := []) (C := []) (O := []) (X := [(mw Y ad_m (sA 68 (fun _ => nI tc) (sA 18 (fun _ => nI lv) g_m)) w_m)]) (List.Perm.refl _))) rfl rfl hl.1 rfl (lv_room (Nat.le_of_ble_eq_true rfl)) dX12_jokes_6 ⟨Nat.le_refl _, Nat.le_refl _⟩) hW hA (wj_split (B := [(mw Y ad_m (sA 68 (fun _ => nI tc) (sA 18 (fun _ => nI lv) g_m)) w_m)]) (C := []) (R := [(mw Y ad_m (sA 68 (fun _ => nI tc) (sA 18 (fun _ => nI lv) g_m)) w_m)]) (List.Perm.refl _)) (fun r_1 u H locs hp_2 hW => ?_)
  have hp_2 : r_1 = zb (¬ kx < 0 ∧ ¬ (nI tc) < kx) := hp_2
  have hW : zW D A s.heap H locs (wj [(mw Y ad_m (sA 68 (fun _ => nI tc) (sA 18 (fun _ => nI lv) g_m)) w_m)]) := hW.join
  refine lv_if_eq (tgt := 17) hx hb dX12_jokes_9 (by decide) (fun c_3 => ?_) (fun c_3 => ?_)
  · have c_3 : ¬ (¬ kx < 0 ∧ ¬ (nI tc) < kx) := zb_eq hp_2 c_3
    refine lv_iconst (v := (-1)) hx hb dX12_jokes_17 (by decide) ?_
    refine z_ireti ((g_m 60, g_m 63, g_m 56, g_m 57, g_m 58 0, g_m 61 0, g_m 62) : (Nat → Int32) × (Nat → Int32) × (Nat → Int32) × (Nat → Int32) × (Int32) × (Int32) × (Nat → Int32)) hx hb hr hlocks rfl hW rfl dX12_jokes_18 ?_
    show (-1) = jokesO cn lw t tc T kx ix
    unfold jokesO
    exact Eq.symm (zi_f (by first | (intro hq; exact absurd hq.1 (by assumption)) | (intro hq; exact absurd hq.2 (by assumption)) | (intro hq; exact hq.2 (Int32.not_le.mp (by assumption)))) _ _)
  · have c_3 : ¬ kx < 0 ∧ ¬ (nI tc) < kx := zb_ne hp_2 c_3
    obtain ⟨kq, lkq, hkq, ekq⟩ := inP_nat (x := kx) (a := 0) (b := tc) c_3 (by omega) (by omega)
    have ckq : kx.toNatClampNeg = kq := by rw [ekq]; exact nI_clamp (by omega)
    refine lv_iload_n hx hb dX12_jokes_12 rfl (lv_at hl 2 rfl) ?_
    refine lv_iconst (v := (-1)) hx hb dX12_jokes_13 (by decide) ?_
    refine lv_icmp_ge (tgt := 19) hx hb dX12_jokes_14 (by decide) (fun c_4 => ?_) (fun c_4 => ?_)
    · refine lv_iconst (v := 0) hx hb dX12_jokes_19 (by decide) ?_
      refine lv_istore_n (lv' := [(3, .int 0), (0, .ref (ad_m 0)), (1, .int kx), (2, .int ix)]) hx hb dX12_jokes_20 rfl hl (by decide) rfl (fun ls hl => ?_)
      refine lv_aload_n hx hb dX12_jokes_21 rfl (lv_at hl 1 rfl) ?_
      refine lv_iconst (v := 0) hx hb dX12_jokes_22 (by decide) ?_
      refine lv_iconst (v := 0) hx hb dX12_jokes_23 (by decide) ?_
      refine lv_iconst (v := 0) hx hb dX12_jokes_24 (by decide) ?_
      refine lv_iload_n hx hb dX12_jokes_25 rfl (lv_at hl 2 rfl) ?_
      refine lv_topi (nm_r (e' := nI kq) ekq ?_)
      refine z_calli (wc := wj [(mw Y ad_m (sA 68 (fun _ => nI tc) (sA 18 (fun _ => nI lv) g_m)) w_m)]) (wr := wj []) (va_runV (As := [.int 0, .int 0, .int 0, .int (nI kq)]) (rest := []) ⟨hx, hb, hml, hown, hts⟩ (m_X12_isSo l D Y ad_m (sA 68 (fun _ => nI tc) (sA 18 (fun _ => nI lv) g_m)) w_m lv cn t lw tc T 0 0 0 kq H.size (show lv < 2 from by exact hlv) (show TW cn t lw from by exact hTW) (show TM lv cn t lw (sA 68 (fun _ => nI tc) (sA 18 (fun _ => nI lv) g_m)) from by exact hTM) (show TD tc T (g_m 69) (g_m 70) (g_m 71) (g_m 72) from by exact hTD) (show TOK cn tc T from by exact hTOK) (show 0 < 6 from by first | assumption | omega | grind) (show 0 < 6 from by first | assumption | omega | grind) (show 0 ≤ 60 from by first | assumption | omega | grind) (show kq ≤ tc from by first | assumption | omega | grind)) (cwV 4 hts (lw_V q2240 q2242 qs111 q133 q2243) rfl rfl rfl (by decide +kernel) ⟨Nat.le_of_ble_eq_true rfl, Nat.le_of_ble_eq_true rfl⟩) (zPreV hK hW hR (wj_split3 (B := [(mw Y ad_m (sA 68 (fun _ => nI tc) (sA 18 (fun _ => nI lv) g_m)) w_m)]) (R := []) (C := [(mw Y ad_m (sA 68 (fun _ => nI tc) (sA 18 (fun _ => nI lv) g_m)) w_m)]) (O := []) (X := []) (List.Perm.refl _)) (va_recv hK.1 hW.1 (ci := 11) (q0 := 0) rfl rfl)) rfl rfl hl.1 rfl (lv_room (Nat.le_of_ble_eq_true rfl)) dX12_jokes_26 ⟨Nat.le_refl _, Nat.le_refl _⟩) hW hA (wj_split (B := [(mw Y ad_m (sA 68 (fun _ => nI tc) (sA 18 (fun _ => nI lv) g_m)) w_m)]) (C := [(mw Y ad_m (sA 68 (fun _ => nI tc) (sA 18 (fun _ => nI lv) g_m)) w_m)]) (R := []) (List.Perm.refl _)) (fun r_5 u H locs hp_6 hW => ?_)
      obtain ⟨urow_7, uisLoaded_8, uvariables_9, upile_10, uisBroken_11, ulots_12, ufarNow_13⟩ := u
      have hp_6 : r_5 = zb (soP cn lw t T kq 0 0 0) := hp_6
      have hW : zW D A s.heap H locs (wj [(mw Y ad_m (sA 68 (fun _ => nI tc) (sA 63 uisLoaded_8 (sA 62 ufarNow_13 (sA 61 (fun _ => ulots_12) (sA 60 urow_7 (sA 58 (fun _ => uisBroken_11) (sA 57 upile_10 (sA 56 uvariables_9 (sA 18 (fun _ => nI lv) g_m))))))))) w_m)]) := hW.join
      have join_42 : ∀ (v3_42 : Int32), ((jkStep (soP cn lw t T kq 0 0 0) ix (-3) (0, none)) = (v3_42, none)) → ∀ (H : Heap) (locs : List Loc), zW D A s.heap H locs (wj [(mw Y ad_m (sA 68 (fun _ => nI tc) (sA 63 uisLoaded_8 (sA 62 ufarNow_13 (sA 61 (fun _ => ulots_12) (sA 60 urow_7 (sA 58 (fun _ => uisBroken_11) (sA 57 upile_10 (sA 56 uvariables_9 (sA 18 (fun _ => nI lv) g_m))))))))) w_m)]) → ∀ (ls : Array Slot), lv_has ls 7 [(3, .int v3_42), (0, .ref (ad_m 0)), (1, .int kx), (2, .int ix)] → W p l e (headSpec (ws_ yX12_jokes cX12_jokes 7 (some .int)) ({ frames := 6, cells := 0, slots := 0, locals := 146 })).room s m ([.ref (ad_m 0), .int kx, .int ix] : List Value).toArray below meth c H locs 0 0 (MQ below (va_Qi (fun (r : Int32) (u : (Nat → Int32) × (Nat → Int32) × (Nat → Int32) × (Nat → Int32) × (Int32) × (Int32) × (Nat → Int32)) => r = jokesO cn lw t tc T kx ix) (zB D (fun (u : (Nat → Int32) × (Nat → Int32) × (Nat → Int32) × (Nat → Int32) × (Int32) × (Int32) × (Nat → Int32)) => (wj [(mw Y ad_m (sA 68 (fun _ => nI tc) (sA 63 u.2.1 (sA 62 u.2.2.2.2.2.2 (sA 61 (fun _ => u.2.2.2.2.2.1) (sA 60 u.1 (sA 58 (fun _ => u.2.2.2.2.1) (sA 57 u.2.2.2.1 (sA 56 u.2.2.1 (sA 18 (fun _ => nI lv) g_m))))))))) w_m)])) A) A) ([.ref (ad_m 0), .int kx, .int ix] : List Value).toArray s 0 0 A) (F0 m 42 ls []) := by
        intro v3_42 hj0 H locs hW ls hl
        refine lv_iconst (v := 0) hx hb dX12_jokes_42 (by decide) ?_
        refine lv_istore (lv' := [(4, .int 0), (3, .int v3_42), (0, .ref (ad_m 0)), (1, .int kx), (2, .int ix)]) hx hb dX12_jokes_43 hl (by decide) rfl (fun ls hl => ?_)
        have loop_45 : ∀ (n : Nat) (aa : Nat) (v3_45 : Int32) (x_row_45 : Nat → Int32) (x_isLoaded_45 : Nat → Int32) (x_variables_45 : Nat → Int32) (x_pile_45 : Nat → Int32) (x_isBroken_45 : Int32) (x_lots_45 : Int32) (x_farNow_45 : Nat → Int32), cn 1 - aa < n → (aa ≤ cn 1) → (jkA cn lw t T kq ix (jkStep (soP cn lw t T kq 0 0 0) ix (-3) (0, none)) aa = (v3_45, none)) → ∀ (H : Heap) (locs : List Loc), zW D A s.heap H locs (wj [(mw Y ad_m (sA 68 (fun _ => nI tc) (sA 63 x_isLoaded_45 (sA 62 x_farNow_45 (sA 61 (fun _ => x_lots_45) (sA 60 x_row_45 (sA 58 (fun _ => x_isBroken_45) (sA 57 x_pile_45 (sA 56 x_variables_45 (sA 18 (fun _ => nI lv) g_m))))))))) w_m)]) → ∀ (ls : Array Slot), lv_has ls 7 [(4, .int (nI aa)), (3, .int v3_45), (0, .ref (ad_m 0)), (1, .int kx), (2, .int ix)] → W p l e (headSpec (ws_ yX12_jokes cX12_jokes 7 (some .int)) ({ frames := 6, cells := 0, slots := 0, locals := 146 })).room s m ([.ref (ad_m 0), .int kx, .int ix] : List Value).toArray below meth c H locs 0 0 (MQ below (va_Qi (fun (r : Int32) (u : (Nat → Int32) × (Nat → Int32) × (Nat → Int32) × (Nat → Int32) × (Int32) × (Int32) × (Nat → Int32)) => r = jokesO cn lw t tc T kx ix) (zB D (fun (u : (Nat → Int32) × (Nat → Int32) × (Nat → Int32) × (Nat → Int32) × (Int32) × (Int32) × (Nat → Int32)) => (wj [(mw Y ad_m (sA 68 (fun _ => nI tc) (sA 63 u.2.1 (sA 62 u.2.2.2.2.2.2 (sA 61 (fun _ => u.2.2.2.2.2.1) (sA 60 u.1 (sA 58 (fun _ => u.2.2.2.2.1) (sA 57 u.2.2.2.1 (sA 56 u.2.2.1 (sA 18 (fun _ => nI lv) g_m))))))))) w_m)])) A) A) ([.ref (ad_m 0), .int kx, .int ix] : List Value).toArray s 0 0 A) (F0 m 45 ls []) := by
          intro n
          induction n with
          | zero =>
            intro aa v3_45 x_row_45 x_isLoaded_45 x_variables_45 x_pile_45 x_isBroken_45 x_lots_45 x_farNow_45 hmz
            exact absurd hmz (Nat.not_lt_zero _)
          | succ n ih =>
            intro aa v3_45 x_row_45 x_isLoaded_45 x_variables_45 x_pile_45 x_isBroken_45 x_lots_45 x_farNow_45 hm_45 hi hj1 H locs hW ls hl
            have ih_45 := ih
            clear ih
            refine lv_iload hx hb dX12_jokes_45 (lv_at hl 0 rfl) ?_
            refine lv_aload_n hx hb dX12_jokes_47 rfl (lv_at hl 2 rfl) ?_
            refine va_get (v := .ref (ad_m 27)) (C := RX12) (T := TX12) (N := 75) (ci := 11) hx hb hts in_X12 hown hK.1 hW.1 0 rfl rfl 27 (by decide) (hts _ q1663) (fun _ h9 => h9) rfl dX12_jokes_48 ?_
            refine lv_aload_n hx hb dX12_jokes_51 rfl (lv_at hl 2 rfl) ?_
            refine va_get (v := .int (nI lv)) (C := RX12) (T := TX12) (N := 75) (ci := 11) hx hb hts in_X12 hown hK.1 hW.1 0 rfl rfl 18 (by decide) (hts _ q1654) (fun _ h9 => h9) rfl dX12_jokes_52 ?_
            refine z_iald (v := nI (cn 1)) (f := g_m 27) (j := lv) hx hb hK.1 hW.1 14 0 rfl rfl (vp_in_nI (n := lv) (by omega) (by decide)) (nI_clamp (n := lv) (by omega)) (TM.c27 hTM) dX12_jokes_55 ?_
            refine lv_icmp_ge (tgt := 148) hx hb dX12_jokes_56 (by decide) (fun c_15 => ?_) (fun c_15 => ?_)
            · have c_15 : cn 1 ≤ aa := (nI_leI (a := cn 1) (b := aa) (by omega) (by omega)).mp c_15
              refine lv_iload_n hx hb dX12_jokes_148 rfl (lv_at hl 4 rfl) ?_
              refine lv_iconst (v := (-1)) hx hb dX12_jokes_149 (by decide) ?_
              refine lv_icmp_ne (tgt := 157) hx hb dX12_jokes_150 (by decide) (fun c_16 => ?_) (fun c_16 => ?_)
              · have hm1 := c_16
                refine lv_iconst (v := (-1)) hx hb dX12_jokes_157 (by decide) ?_
                refine z_ireti ((x_row_45, x_isLoaded_45, x_variables_45, x_pile_45, x_isBroken_45, x_lots_45, x_farNow_45) : (Nat → Int32) × (Nat → Int32) × (Nat → Int32) × (Nat → Int32) × (Int32) × (Int32) × (Nat → Int32)) hx hb hr hlocks rfl hW rfl dX12_jokes_158 ?_
                show (-1) = jokesO cn lw t tc T kx ix
                unfold jokesO
                refine Eq.trans ?_ (Eq.symm (zi_t ⟨c_3, Int32.not_lt.mpr c_4⟩ _ _))
                rw [ckq]
                unfold jokesW
                simp only
                have ea : aa = cn 1 := by omega
                rw [← ea, hj1]
                first | exact (if_pos hm1).symm | exact (if_neg hm1).symm
              · have hm1 := c_16
                refine lv_iload_n hx hb dX12_jokes_153 rfl (lv_at hl 1 rfl) ?_
                refine lv_goto (tgt := 158) hx hb dX12_jokes_154 (by decide) ?_
                refine z_ireti ((x_row_45, x_isLoaded_45, x_variables_45, x_pile_45, x_isBroken_45, x_lots_45, x_farNow_45) : (Nat → Int32) × (Nat → Int32) × (Nat → Int32) × (Nat → Int32) × (Int32) × (Int32) × (Nat → Int32)) hx hb hr hlocks rfl hW rfl dX12_jokes_158 ?_
                show v3_45 = jokesO cn lw t tc T kx ix
                unfold jokesO
                refine Eq.trans ?_ (Eq.symm (zi_t ⟨c_3, Int32.not_lt.mpr c_4⟩ _ _))
                rw [ckq]
                unfold jokesW
                simp only
                have ea : aa = cn 1 := by omega
                rw [← ea, hj1]
                first | exact (if_pos hm1).symm | exact (if_neg hm1).symm
            · have c_15 : ¬ (cn 1 ≤ aa) := fun hz_ => c_15 ((nI_leI (a := cn 1) (b := aa) (by omega) (by omega)).mpr hz_)
              refine lv_iload hx hb dX12_jokes_59 (lv_at hl 0 rfl) ?_
              refine lv_iconst (v := 1) hx hb dX12_jokes_61 (by decide) ?_
              refine lv_iadd hx hb dX12_jokes_62 ?_
              refine lv_topi (nm_r (e' := nI (aa + 1)) (nI_add aa 1) ?_)
              refine lv_istore (lv' := [(5, .int (nI (aa + 1))), (4, .int (nI aa)), (3, .int v3_45), (0, .ref (ad_m 0)), (1, .int kx), (2, .int ix)]) hx hb dX12_jokes_63 hl (by decide) rfl (fun ls hl => ?_)
              have loop_65 : ∀ (n : Nat) (bb : Nat) (v3_65 : Int32) (x_row_65 : Nat → Int32) (x_isLoaded_65 : Nat → Int32) (x_variables_65 : Nat → Int32) (x_pile_65 : Nat → Int32) (x_isBroken_65 : Int32) (x_lots_65 : Int32) (x_farNow_65 : Nat → Int32), cn 1 - bb < n → (aa + 1 ≤ bb ∧ bb ≤ cn 1) → (jkB cn lw t T kq ix aa (v3_45, none) (bb - (aa + 1)) = (v3_65, none)) → ∀ (H : Heap) (locs : List Loc), zW D A s.heap H locs (wj [(mw Y ad_m (sA 68 (fun _ => nI tc) (sA 63 x_isLoaded_65 (sA 62 x_farNow_65 (sA 61 (fun _ => x_lots_65) (sA 60 x_row_65 (sA 58 (fun _ => x_isBroken_65) (sA 57 x_pile_65 (sA 56 x_variables_65 (sA 18 (fun _ => nI lv) g_m))))))))) w_m)]) → ∀ (ls : Array Slot), lv_has ls 7 [(5, .int (nI bb)), (4, .int (nI aa)), (3, .int v3_65), (0, .ref (ad_m 0)), (1, .int kx), (2, .int ix)] → W p l e (headSpec (ws_ yX12_jokes cX12_jokes 7 (some .int)) ({ frames := 6, cells := 0, slots := 0, locals := 146 })).room s m ([.ref (ad_m 0), .int kx, .int ix] : List Value).toArray below meth c H locs 0 0 (MQ below (va_Qi (fun (r : Int32) (u : (Nat → Int32) × (Nat → Int32) × (Nat → Int32) × (Nat → Int32) × (Int32) × (Int32) × (Nat → Int32)) => r = jokesO cn lw t tc T kx ix) (zB D (fun (u : (Nat → Int32) × (Nat → Int32) × (Nat → Int32) × (Nat → Int32) × (Int32) × (Int32) × (Nat → Int32)) => (wj [(mw Y ad_m (sA 68 (fun _ => nI tc) (sA 63 u.2.1 (sA 62 u.2.2.2.2.2.2 (sA 61 (fun _ => u.2.2.2.2.2.1) (sA 60 u.1 (sA 58 (fun _ => u.2.2.2.2.1) (sA 57 u.2.2.2.1 (sA 56 u.2.2.1 (sA 18 (fun _ => nI lv) g_m))))))))) w_m)])) A) A) ([.ref (ad_m 0), .int kx, .int ix] : List Value).toArray s 0 0 A) (F0 m 65 ls []) := by
                intro n
                induction n with
                | zero =>
                  intro bb v3_65 x_row_65 x_isLoaded_65 x_variables_65 x_pile_65 x_isBroken_65 x_lots_65 x_farNow_65 hmz
                  exact absurd hmz (Nat.not_lt_zero _)
                | succ n ih =>
                  intro bb v3_65 x_row_65 x_isLoaded_65 x_variables_65 x_pile_65 x_isBroken_65 x_lots_65 x_farNow_65 hm_65 hi2 hj2 H locs hW ls hl
                  have ih_65 := ih
                  clear ih
                  refine lv_iload hx hb dX12_jokes_65 (lv_at hl 0 rfl) ?_
                  refine lv_aload_n hx hb dX12_jokes_67 rfl (lv_at hl 3 rfl) ?_
                  refine va_get (v := .ref (ad_m 27)) (C := RX12) (T := TX12) (N := 75) (ci := 11) hx hb hts in_X12 hown hK.1 hW.1 0 rfl rfl 27 (by decide) (hts _ q1663) (fun _ h9 => h9) rfl dX12_jokes_68 ?_
                  refine lv_aload_n hx hb dX12_jokes_71 rfl (lv_at hl 3 rfl) ?_
                  refine va_get (v := .int (nI lv)) (C := RX12) (T := TX12) (N := 75) (ci := 11) hx hb hts in_X12 hown hK.1 hW.1 0 rfl rfl 18 (by decide) (hts _ q1654) (fun _ h9 => h9) rfl dX12_jokes_72 ?_
                  refine z_iald (v := nI (cn 1)) (f := g_m 27) (j := lv) hx hb hK.1 hW.1 14 0 rfl rfl (vp_in_nI (n := lv) (by omega) (by decide)) (nI_clamp (n := lv) (by omega)) (TM.c27 hTM) dX12_jokes_75 ?_
                  refine lv_icmp_ge (tgt := 142) hx hb dX12_jokes_76 (by decide) (fun c_17 => ?_) (fun c_17 => ?_)
                  · have c_17 : cn 1 ≤ bb := (nI_leI (a := cn 1) (b := bb) (by omega) (by omega)).mp c_17
                    refine lv_iinc (v := nI (aa + 1)) (lv' := [(4, .int (nI (aa + 1))), (5, .int (nI bb)), (3, .int v3_65), (0, .ref (ad_m 0)), (1, .int kx), (2, .int ix)]) hx hb dX12_jokes_142 hl (k := 1) rfl (nI_add aa 1) (by decide) rfl (fun ls hl => ?_)
                    refine lv_goto (tgt := 45) hx hb dX12_jokes_145 (by decide) ?_
                    exact ih_45 (aa + 1) v3_65 x_row_65 x_isLoaded_65 x_variables_65 x_pile_65 x_isBroken_65 x_lots_65 x_farNow_65 (by omega) (by omega) (by simp only [jkA]; rw [hj1, show cn 1 - (aa + 1) = bb - (aa + 1) by omega]; exact hj2) _ _ hW _ (lv_sub hl [0, 2, 3, 4, 5] rfl)
                  · have c_17 : ¬ (cn 1 ≤ bb) := fun hz_ => c_17 ((nI_leI (a := cn 1) (b := bb) (by omega) (by omega)).mpr hz_)
                    refine lv_iconst (v := 0) hx hb dX12_jokes_79 (by decide) ?_
                    refine lv_istore (lv' := [(6, .int 0), (5, .int (nI bb)), (4, .int (nI aa)), (3, .int v3_65), (0, .ref (ad_m 0)), (1, .int kx), (2, .int ix)]) hx hb dX12_jokes_80 hl (by decide) rfl (fun ls hl => ?_)
                    have loop_82 : ∀ (n : Nat) (ww : Nat) (v3_82 : Int32) (x_row_82 : Nat → Int32) (x_isLoaded_82 : Nat → Int32) (x_variables_82 : Nat → Int32) (x_pile_82 : Nat → Int32) (x_isBroken_82 : Int32) (x_lots_82 : Int32) (x_farNow_82 : Nat → Int32), 61 - ww < n → (ww ≤ 61) → (jkW cn lw t T kq ix aa bb (v3_65, none) ww = (v3_82, none)) → ∀ (H : Heap) (locs : List Loc), zW D A s.heap H locs (wj [(mw Y ad_m (sA 68 (fun _ => nI tc) (sA 63 x_isLoaded_82 (sA 62 x_farNow_82 (sA 61 (fun _ => x_lots_82) (sA 60 x_row_82 (sA 58 (fun _ => x_isBroken_82) (sA 57 x_pile_82 (sA 56 x_variables_82 (sA 18 (fun _ => nI lv) g_m))))))))) w_m)]) → ∀ (ls : Array Slot), lv_has ls 7 [(6, .int (nI ww)), (5, .int (nI bb)), (4, .int (nI aa)), (3, .int v3_82), (0, .ref (ad_m 0)), (1, .int kx), (2, .int ix)] → W p l e (headSpec (ws_ yX12_jokes cX12_jokes 7 (some .int)) ({ frames := 6, cells := 0, slots := 0, locals := 146 })).room s m ([.ref (ad_m 0), .int kx, .int ix] : List Value).toArray below meth c H locs 0 0 (MQ below (va_Qi (fun (r : Int32) (u : (Nat → Int32) × (Nat → Int32) × (Nat → Int32) × (Nat → Int32) × (Int32) × (Int32) × (Nat → Int32)) => r = jokesO cn lw t tc T kx ix) (zB D (fun (u : (Nat → Int32) × (Nat → Int32) × (Nat → Int32) × (Nat → Int32) × (Int32) × (Int32) × (Nat → Int32)) => (wj [(mw Y ad_m (sA 68 (fun _ => nI tc) (sA 63 u.2.1 (sA 62 u.2.2.2.2.2.2 (sA 61 (fun _ => u.2.2.2.2.2.1) (sA 60 u.1 (sA 58 (fun _ => u.2.2.2.2.1) (sA 57 u.2.2.2.1 (sA 56 u.2.2.1 (sA 18 (fun _ => nI lv) g_m))))))))) w_m)])) A) A) ([.ref (ad_m 0), .int kx, .int ix] : List Value).toArray s 0 0 A) (F0 m 82 ls []) := by
                      intro n
                      induction n with
                      | zero =>
                        intro ww v3_82 x_row_82 x_isLoaded_82 x_variables_82 x_pile_82 x_isBroken_82 x_lots_82 x_farNow_82 hmz
                        exact absurd hmz (Nat.not_lt_zero _)
                      | succ n ih =>
                        intro ww v3_82 x_row_82 x_isLoaded_82 x_variables_82 x_pile_82 x_isBroken_82 x_lots_82 x_farNow_82 hm_82 hi3 hj3 H locs hW ls hl
                        have ih_82 := ih
                        clear ih
                        refine lv_iload hx hb dX12_jokes_82 (lv_at hl 0 rfl) ?_
                        refine lv_bipush (v := 60) hx hb dX12_jokes_84 (by decide) ?_
                        refine lv_icmp_gt (tgt := 136) hx hb dX12_jokes_86 (by decide) (fun c_18 => ?_) (fun c_18 => ?_)
                        · have c_18 : 60 < ww := (nI_ltI (a := 60) (b := ww) (by omega) (by omega)).mp c_18
                          refine lv_iinc (v := nI (bb + 1)) (lv' := [(5, .int (nI (bb + 1))), (6, .int (nI ww)), (4, .int (nI aa)), (3, .int v3_82), (0, .ref (ad_m 0)), (1, .int kx), (2, .int ix)]) hx hb dX12_jokes_136 hl (k := 1) rfl (nI_add bb 1) (by decide) rfl (fun ls hl => ?_)
                          refine lv_goto (tgt := 65) hx hb dX12_jokes_139 (by decide) ?_
                          exact ih_65 (bb + 1) v3_82 x_row_82 x_isLoaded_82 x_variables_82 x_pile_82 x_isBroken_82 x_lots_82 x_farNow_82 (by omega) (by omega) (by rw [show bb + 1 - (aa + 1) = (bb - (aa + 1)) + 1 by omega]; simp only [jkB]; rw [hj2, show aa + 1 + (bb - (aa + 1)) = bb by omega, show (61 : Nat) = ww by omega]; exact hj3) _ _ hW _ (lv_sub hl [0, 2, 3, 4, 5, 6] rfl)
                        · have c_18 : ¬ (60 < ww) := fun hz_ => c_18 ((nI_ltI (a := 60) (b := ww) (by omega) (by omega)).mpr hz_)
                          refine lv_aload_n hx hb dX12_jokes_89 rfl (lv_at hl 4 rfl) ?_
                          refine lv_iload hx hb dX12_jokes_90 (lv_at hl 2 rfl) ?_
                          refine lv_iload hx hb dX12_jokes_92 (lv_at hl 1 rfl) ?_
                          refine lv_iload hx hb dX12_jokes_94 (lv_at hl 0 rfl) ?_
                          refine lv_iload_n hx hb dX12_jokes_96 rfl (lv_at hl 5 rfl) ?_
                          refine lv_topi (nm_r (e' := nI kq) ekq ?_)
                          refine z_calli (wc := wj [(mw Y ad_m (sA 68 (fun _ => nI tc) (sA 63 x_isLoaded_82 (sA 62 x_farNow_82 (sA 61 (fun _ => x_lots_82) (sA 60 x_row_82 (sA 58 (fun _ => x_isBroken_82) (sA 57 x_pile_82 (sA 56 x_variables_82 (sA 18 (fun _ => nI lv) g_m))))))))) w_m)]) (wr := wj []) (va_runV (As := [.int (nI aa), .int (nI bb), .int (nI ww), .int (nI kq)]) (rest := []) ⟨hx, hb, hml, hown, hts⟩ (m_X12_isSo l D Y ad_m (sA 68 (fun _ => nI tc) (sA 63 x_isLoaded_82 (sA 62 x_farNow_82 (sA 61 (fun _ => x_lots_82) (sA 60 x_row_82 (sA 58 (fun _ => x_isBroken_82) (sA 57 x_pile_82 (sA 56 x_variables_82 (sA 18 (fun _ => nI lv) g_m))))))))) w_m lv cn t lw tc T aa bb ww kq H.size (show lv < 2 from by exact hlv) (show TW cn t lw from by exact hTW) (show TM lv cn t lw (sA 68 (fun _ => nI tc) (sA 63 x_isLoaded_82 (sA 62 x_farNow_82 (sA 61 (fun _ => x_lots_82) (sA 60 x_row_82 (sA 58 (fun _ => x_isBroken_82) (sA 57 x_pile_82 (sA 56 x_variables_82 (sA 18 (fun _ => nI lv) g_m))))))))) from by exact hTM) (show TD tc T (g_m 69) (g_m 70) (g_m 71) (g_m 72) from by exact hTD) (show TOK cn tc T from by exact hTOK) (show aa < 6 from by first | assumption | omega | grind) (show bb < 6 from by first | assumption | omega | grind) (show ww ≤ 60 from by first | assumption | omega | grind) (show kq ≤ tc from by first | assumption | omega | grind)) (cwV 4 hts (lw_V q2240 q2242 qs111 q133 q2243) rfl rfl rfl (by decide +kernel) ⟨Nat.le_of_ble_eq_true rfl, Nat.le_of_ble_eq_true rfl⟩) (zPreV hK hW hR (wj_split3 (B := [(mw Y ad_m (sA 68 (fun _ => nI tc) (sA 63 x_isLoaded_82 (sA 62 x_farNow_82 (sA 61 (fun _ => x_lots_82) (sA 60 x_row_82 (sA 58 (fun _ => x_isBroken_82) (sA 57 x_pile_82 (sA 56 x_variables_82 (sA 18 (fun _ => nI lv) g_m))))))))) w_m)]) (R := []) (C := [(mw Y ad_m (sA 68 (fun _ => nI tc) (sA 63 x_isLoaded_82 (sA 62 x_farNow_82 (sA 61 (fun _ => x_lots_82) (sA 60 x_row_82 (sA 58 (fun _ => x_isBroken_82) (sA 57 x_pile_82 (sA 56 x_variables_82 (sA 18 (fun _ => nI lv) g_m))))))))) w_m)]) (O := []) (X := []) (List.Perm.refl _)) (va_recv hK.1 hW.1 (ci := 11) (q0 := 0) rfl rfl)) rfl rfl hl.1 rfl (lv_room (Nat.le_of_ble_eq_true rfl)) dX12_jokes_97 ⟨Nat.le_refl _, Nat.le_refl _⟩) hW hA (wj_split (B := [(mw Y ad_m (sA 68 (fun _ => nI tc) (sA 63 x_isLoaded_82 (sA 62 x_farNow_82 (sA 61 (fun _ => x_lots_82) (sA 60 x_row_82 (sA 58 (fun _ => x_isBroken_82) (sA 57 x_pile_82 (sA 56 x_variables_82 (sA 18 (fun _ => nI lv) g_m))))))))) w_m)]) (C := [(mw Y ad_m (sA 68 (fun _ => nI tc) (sA 63 x_isLoaded_82 (sA 62 x_farNow_82 (sA 61 (fun _ => x_lots_82) (sA 60 x_row_82 (sA 58 (fun _ => x_isBroken_82) (sA 57 x_pile_82 (sA 56 x_variables_82 (sA 18 (fun _ => nI lv) g_m))))))))) w_m)]) (R := []) (List.Perm.refl _)) (fun r_19 u H locs hp_20 hW => ?_)
                          obtain ⟨urow_21, uisLoaded_22, uvariables_23, upile_24, uisBroken_25, ulots_26, ufarNow_27⟩ := u
                          have hp_20 : r_19 = zb (soP cn lw t T kq aa bb ww) := hp_20
                          have hW : zW D A s.heap H locs (wj [(mw Y ad_m (sA 68 (fun _ => nI tc) (sA 63 uisLoaded_22 (sA 62 ufarNow_27 (sA 61 (fun _ => ulots_26) (sA 60 urow_21 (sA 58 (fun _ => uisBroken_25) (sA 57 upile_24 (sA 56 uvariables_23 (sA 18 (fun _ => nI lv) g_m))))))))) w_m)]) := hW.join
                          refine lv_if_ne (tgt := 106) hx hb dX12_jokes_100 (by decide) (fun c_28 => ?_) (fun c_28 => ?_)
                          · have c_28 : soP cn lw t T kq aa bb ww := zb_ne hp_20 c_28
                            have hs1 := c_28
                            refine lv_iload_n hx hb dX12_jokes_106 rfl (lv_at hl 3 rfl) ?_
                            refine lv_iload_n hx hb dX12_jokes_107 rfl (lv_at hl 6 rfl) ?_
                            refine lv_icmp_ne (tgt := 127) hx hb dX12_jokes_108 (by decide) (fun c_29 => ?_) (fun c_29 => ?_)
                            · have hni := c_29
                              refine lv_iinc (v := v3_82 + 1) (lv' := [(3, .int (v3_82 + 1)), (6, .int (nI ww)), (5, .int (nI bb)), (4, .int (nI aa)), (0, .ref (ad_m 0)), (1, .int kx), (2, .int ix)]) hx hb dX12_jokes_127 hl (k := 3) rfl rfl (by decide) rfl (fun ls hl => ?_)
                              refine lv_iinc (v := nI (ww + 1)) (lv' := [(6, .int (nI (ww + 1))), (3, .int (v3_82 + 1)), (5, .int (nI bb)), (4, .int (nI aa)), (0, .ref (ad_m 0)), (1, .int kx), (2, .int ix)]) hx hb dX12_jokes_130 hl (k := 1) rfl (nI_add ww 1) (by decide) rfl (fun ls hl => ?_)
                              refine lv_goto (tgt := 82) hx hb dX12_jokes_133 (by decide) ?_
                              exact ih_82 (ww + 1) (v3_82 + 1) urow_21 uisLoaded_22 uvariables_23 upile_24 uisBroken_25 ulots_26 ufarNow_27 (by omega) (by omega) (by simp only [jkW]; rw [hj3]; show zi _ _ _ = _; first | exact zi_f hs1 _ _ | (rw [zi_t hs1, if_neg hni])) _ _ hW _ (lv_sub hl [0, 2, 3, 1, 4, 5, 6] rfl)
                            · have hni := c_29
                              refine lv_sipush (v := 1000) hx hb dX12_jokes_111 (by decide) ?_
                              refine lv_iload hx hb dX12_jokes_114 (lv_at hl 2 rfl) ?_
                              refine lv_imul hx hb dX12_jokes_116 ?_
                              refine lv_topi (nm_r (e' := nI (1000 * aa)) (pk_mul 1000 aa) ?_)
                              refine lv_bipush (v := 100) hx hb dX12_jokes_117 (by decide) ?_
                              refine lv_iload hx hb dX12_jokes_119 (lv_at hl 1 rfl) ?_
                              refine lv_imul hx hb dX12_jokes_121 ?_
                              refine lv_topi (nm_r (e' := nI (100 * bb)) (pk_mul 100 bb) ?_)
                              refine lv_iadd hx hb dX12_jokes_122 ?_
                              refine lv_topi (nm_r (e' := nI (1000 * aa + 100 * bb)) (nI_add (1000 * aa) (100 * bb)) ?_)
                              refine lv_iload hx hb dX12_jokes_123 (lv_at hl 0 rfl) ?_
                              refine lv_iadd hx hb dX12_jokes_125 ?_
                              refine lv_topi (nm_r (e' := nI (1000 * aa + 100 * bb + ww)) (nI_add (1000 * aa + 100 * bb) ww) ?_)
                              refine z_ireti ((urow_21, uisLoaded_22, uvariables_23, upile_24, uisBroken_25, ulots_26, ufarNow_27) : (Nat → Int32) × (Nat → Int32) × (Nat → Int32) × (Nat → Int32) × (Int32) × (Int32) × (Nat → Int32)) hx hb hr hlocks rfl hW rfl dX12_jokes_126 ?_
                              show (nI (1000 * aa + 100 * bb + ww)) = jokesO cn lw t tc T kx ix
                              unfold jokesO
                              refine Eq.trans ?_ (Eq.symm (zi_t ⟨c_3, Int32.not_lt.mpr c_4⟩ _ _))
                              rw [ckq]
                              unfold jokesW
                              simp only
                              have hw1 : jkW cn lw t T kq ix aa bb (v3_65, none) (ww + 1) = (v3_82, some (nI (1000 * aa + 100 * bb + ww))) := by simp only [jkW]; rw [hj3]; show zi _ _ _ = _; rw [zi_t hs1, if_pos hni]
                              have hw2 := jkW_up aa bb hw1 61 (by omega)
                              have hb1 : jkB cn lw t T kq ix aa (v3_45, none) (bb - (aa + 1) + 1) = (v3_82, some (nI (1000 * aa + 100 * bb + ww))) := by simp only [jkB]; rw [hj2, show aa + 1 + (bb - (aa + 1)) = bb by omega]; exact hw2
                              have hb2 := jkB_up aa hb1 (cn 1 - (aa + 1)) (by omega)
                              have ha1 : jkA cn lw t T kq ix (jkStep (soP cn lw t T kq 0 0 0) ix (-3) (0, none)) (aa + 1) = (v3_82, some (nI (1000 * aa + 100 * bb + ww))) := by simp only [jkA]; rw [hj1]; exact hb2
                              rw [jkA_up ha1 (cn 1) (by omega)]
                          · have c_28 : ¬ (soP cn lw t T kq aa bb ww) := zb_eq hp_20 c_28
                            have hs1 := c_28
                            refine lv_goto (tgt := 130) hx hb dX12_jokes_103 (by decide) ?_
                            refine lv_iinc (v := nI (ww + 1)) (lv' := [(6, .int (nI (ww + 1))), (5, .int (nI bb)), (4, .int (nI aa)), (3, .int v3_82), (0, .ref (ad_m 0)), (1, .int kx), (2, .int ix)]) hx hb dX12_jokes_130 hl (k := 0) rfl (nI_add ww 1) (by decide) rfl (fun ls hl => ?_)
                            refine lv_goto (tgt := 82) hx hb dX12_jokes_133 (by decide) ?_
                            exact ih_82 (ww + 1) v3_82 urow_21 uisLoaded_22 uvariables_23 upile_24 uisBroken_25 ulots_26 ufarNow_27 (by omega) (by omega) (by simp only [jkW]; rw [hj3]; show zi _ _ _ = _; first | exact zi_f hs1 _ _ | (rw [zi_t hs1, if_neg hni])) _ _ hW _ (lv_sub hl [0, 1, 2, 3, 4, 5, 6] rfl)
                    exact loop_82 _ 0 v3_65 x_row_65 x_isLoaded_65 x_variables_65 x_pile_65 x_isBroken_65 x_lots_65 x_farNow_65 (Nat.lt_succ_self _) (by omega) (by rfl) _ _ hW _ (lv_sub hl [0, 1, 2, 3, 4, 5, 6] rfl)
              exact loop_65 _ (aa + 1) v3_45 x_row_45 x_isLoaded_45 x_variables_45 x_pile_45 x_isBroken_45 x_lots_45 x_farNow_45 (Nat.lt_succ_self _) (by omega) (by rw [show aa + 1 - (aa + 1) = 0 by omega]; rfl) _ _ hW _ (lv_sub hl [0, 1, 2, 3, 4, 5] rfl)
        exact loop_45 _ 0 v3_42 urow_7 uisLoaded_8 uvariables_9 upile_10 uisBroken_11 ulots_12 ufarNow_13 (Nat.lt_succ_self _) (by omega) (by exact hj0) _ _ hW _ (lv_sub hl [0, 1, 2, 3, 4] rfl)
      refine lv_if_eq (tgt := 42) hx hb dX12_jokes_29 (by decide) (fun c_30 => ?_) (fun c_30 => ?_)
      · have c_30 : ¬ (soP cn lw t T kq 0 0 0) := zb_eq hp_6 c_30
        have hs0 := c_30
        exact join_42 0 (by first | exact zi_f hs0 _ _ | exact (zi_t hs0 _ _).trans ((if_neg (fun q => hi0 q.symm)).trans (by rfl))) _ _ hW _ (lv_sub hl [0, 1, 2, 3] rfl)
      · have c_30 : soP cn lw t T kq 0 0 0 := zb_ne hp_6 c_30
        have hs0 := c_30
        refine lv_iload_n hx hb dX12_jokes_32 rfl (lv_at hl 3 rfl) ?_
        refine lv_if_ne (tgt := 39) hx hb dX12_jokes_33 (by decide) (fun c_31 => ?_) (fun c_31 => ?_)
        · have hi0 := c_31
          refine lv_iinc (v := 1) (lv' := [(3, .int 1), (0, .ref (ad_m 0)), (1, .int kx), (2, .int ix)]) hx hb dX12_jokes_39 hl (k := 0) rfl (by decide) (by decide) rfl (fun ls hl => ?_)
          exact join_42 1 (by first | exact zi_f hs0 _ _ | exact (zi_t hs0 _ _).trans ((if_neg (fun q => hi0 q.symm)).trans (by rfl))) _ _ hW _ (lv_sub hl [0, 1, 2, 3] rfl)
        · have hi0 := c_31
          refine lv_bipush (v := (-3)) hx hb dX12_jokes_36 (by decide) ?_
          refine z_ireti ((urow_7, uisLoaded_8, uvariables_9, upile_10, uisBroken_11, ulots_12, ufarNow_13) : (Nat → Int32) × (Nat → Int32) × (Nat → Int32) × (Nat → Int32) × (Int32) × (Int32) × (Nat → Int32)) hx hb hr hlocks rfl hW rfl dX12_jokes_38 ?_
          show (-3) = jokesO cn lw t tc T kx ix
          unfold jokesO
          refine Eq.trans ?_ (Eq.symm (zi_t ⟨c_3, Int32.not_lt.mpr c_4⟩ _ _))
          rw [ckq]
          unfold jokesW
          simp only
          have hq : (jkStep (soP cn lw t T kq 0 0 0) ix (-3) (0, none)) = (0, some (-3)) := by show zi _ _ _ = _; rw [zi_t hs0, if_pos hi0.symm]
          rw [jkA_up (s := (jkStep (soP cn lw t T kq 0 0 0) ix (-3) (0, none))) (w := 0) hq (cn 1) (Nat.zero_le _)]
    · refine lv_iconst (v := (-1)) hx hb dX12_jokes_17 (by decide) ?_
      refine z_ireti ((g_m 60, g_m 63, g_m 56, g_m 57, g_m 58 0, g_m 61 0, g_m 62) : (Nat → Int32) × (Nat → Int32) × (Nat → Int32) × (Nat → Int32) × (Int32) × (Int32) × (Nat → Int32)) hx hb hr hlocks rfl hW rfl dX12_jokes_18 ?_
      show (-1) = jokesO cn lw t tc T kx ix
      unfold jokesO
      exact Eq.symm (zi_f (by first | (intro hq; exact absurd hq.1 (by assumption)) | (intro hq; exact absurd hq.2 (by assumption)) | (intro hq; exact hq.2 (Int32.not_le.mp (by assumption)))) _ _)
set_option maxHeartbeats 4000000 in
set_option maxRecDepth 100000 in
theorem m_X12_put (l : Launch) (D : va_G) (Y : Nat → ClassId) (ad_m : Nat → Nat) (g_m : Nat → Nat → Int32) (w_m : Nat → Nat → Int64) (tp : Nat) (w : Int32) (sz : Nat) (htp : tp + 4 ≤ 2000) : Met l yX12_put (ws_ yX12_put cX12_put 3 none) ({ frames := 1, cells := 0, slots := 0, locals := 12 }) (zPc D Y [.ref (ad_m 0), .int w] sz (wj []) (wj [(mw Y ad_m (sA 2 (fun _ => nI tp) g_m) w_m)])) (va_Qv (fun (u : (Nat → Int32) × (Nat)) => u.1 = put4 (g_m 1) tp w ∧ u.2 = tp + 4) (zB D (fun (u : (Nat → Int32) × (Nat)) => (wj [(mw Y ad_m (sA 2 (fun _ => nI u.2) (sA 1 u.1 g_m)) w_m)])) (va_A (wj [(mw Y ad_m (sA 2 (fun _ => nI tp) g_m) w_m)]) sz)) (va_A (wj [(mw Y ad_m (sA 2 (fun _ => nI tp) g_m) w_m)]) sz)) 0 0 (va_A (wj [(mw Y ad_m (sA 2 (fun _ => nI tp) g_m) w_m)]) sz) := by
  refine Met.ofW (cc := cX12_put) (maxL := 3) (ret := none) (by decide) rfl ?_
  intro p e s m args below meth c s₁ B hml hv
  obtain ⟨rfl, hsz, hW, hR, hK, hA⟩ := zEntry hv
  subst hsz
  have hx := B.exec
  have hb := B.bytes
  have hr := B.returns
  have hlocks := B.notSynchronized
  have hts : ∀ w ∈ lw_all, w.before _ s = true := fun w h => atoms_spec (ws := (ws_ yX12_put cX12_put 3 none)) B.pre w (List.mem_cons_of_mem _ h)
  have hown : s.vm.findClass RX12 = some m.cls := findClass_of_methodNamed B.named
  generalize hAe : va_A (wj [(mw Y ad_m (sA 2 (fun _ => nI tp) g_m) w_m)]) s.heap.size = A at hW hR hA ⊢
  have hl := lv_entry ([.ref (ad_m 0), .int w]) (n := 3) (Nat.le_of_ble_eq_true rfl)
  rw [lg_entry_eq]
  generalize (lg_sl ([.ref (ad_m 0), .int w]) ++ List.replicate (3 - (lg_sl ([.ref (ad_m 0), .int w])).length) Slot.unset).toArray = ls at hl ⊢
  have hl : lv_has ls 3 [(0, .ref (ad_m 0)), (1, .int w)] := hl
  refine lv_bipush (v := 24) hx hb dX12_put_0 (by decide) ?_
  refine lv_istore_n (lv' := [(2, .int 24), (0, .ref (ad_m 0)), (1, .int w)]) hx hb dX12_put_2 rfl hl (by decide) rfl (fun ls hl => ?_)
  refine lv_iload_n hx hb dX12_put_3 rfl (lv_at hl 0 rfl) ?_
  refine lv_if_lt (tgt := 36) hx hb dX12_put_4 (by decide) (fun c_1 => by first | exact absurd c_1 (by decide) | exact absurd (by decide) c_1) (fun c_1 => ?_)
  refine lv_aload_n hx hb dX12_put_7 rfl (lv_at hl 1 rfl) ?_
  refine va_get (v := .ref (ad_m 1)) (C := RX12) (T := TX12) (N := 75) (ci := 11) hx hb hts in_X12 hown hK.1 hW.1 0 rfl rfl 1 (by decide) (hts _ q1637) (fun _ h9 => h9) rfl dX12_put_8 ?_
  refine lv_aload_n hx hb dX12_put_11 rfl (lv_at hl 1 rfl) ?_
  refine va_get (v := .int (nI tp)) (C := RX12) (T := TX12) (N := 75) (ci := 11) hx hb hts in_X12 hown hK.1 hW.1 0 rfl rfl 2 (by decide) (hts _ q1638) (fun _ h9 => h9) rfl dX12_put_12 ?_
  refine lv_iload_n hx hb dX12_put_15 rfl (lv_at hl 2 rfl) ?_
  refine lv_iload_n hx hb dX12_put_16 rfl (lv_at hl 0 rfl) ?_
  refine lv_ishr hx hb dX12_put_17 ?_
  refine lv_i2b (v := (w >>> (24 &&& 31)).toInt8.toInt32) hx hb dX12_put_18 rfl ?_
  obtain ⟨bv_2, hbv_2⟩ : ∃ z : Int32, z = (w >>> (24 &&& 31)).toInt8.toInt32 := ⟨_, rfl⟩
  refine lv_topi (nm_r (e' := bv_2) hbv_2.symm ?_)
  refine z_bast (x := bv_2) (f := g_m 1) (j := tp) (wn := (wj [(mw Y ad_m (sA 2 (fun _ => nI tp) (sA 1 (upd (g_m 1) tp bv_2) g_m)) w_m)])) hx hb hK.1 hW 1 1 rfl rfl (vp_in_nI (n := tp) (by omega) (by decide)) (nI_clamp (n := tp) (by omega)) (by rw [hbv_2]; exact pk_vb _) dX12_put_19 rfl (fun H locs hW => ?_)
  refine lv_aload_n hx hb dX12_put_20 rfl (lv_at hl 1 rfl) ?_
  refine lv_dup hx hb dX12_put_21 rfl ?_
  refine va_get (v := .int (nI tp)) (C := RX12) (T := TX12) (N := 75) (ci := 11) hx hb hts in_X12 hown hK.1 hW.1 0 rfl rfl 2 (by decide) (hts _ q1638) (fun _ h9 => h9) rfl dX12_put_22 ?_
  refine lv_iconst (v := 1) hx hb dX12_put_25 (by decide) ?_
  refine lv_iadd hx hb dX12_put_26 ?_
  refine lv_topi (nm_r (e' := nI (tp + 1)) (nI_add tp 1) ?_)
  refine z_put (v := .int (nI (tp + 1))) (C := RX12) (T := TX12) (N := 75) (ci := 11) (wn := (wj [(mw Y ad_m (sA 2 (fun _ => nI (tp + 1)) (sA 1 (upd (g_m 1) tp bv_2) g_m)) w_m)])) hx hb hts in_X12 tyX12 tyX12_ok nmX12 hown hK.1 hW 0 rfl rfl 2 (by decide) (hts _ q1638) (fun _ h9 => h9) rfl rfl rfl (Nat.le_of_ble_eq_true rfl) dX12_put_27 rfl (fun H locs hW => ?_)
  refine lv_iinc (v := 16) (lv' := [(2, .int 16), (0, .ref (ad_m 0)), (1, .int w)]) hx hb dX12_put_30 hl (k := 0) rfl (by decide) (by decide) rfl (fun ls hl => ?_)
  refine lv_goto (tgt := 3) hx hb dX12_put_33 (by decide) ?_
  refine lv_iload_n hx hb dX12_put_3 rfl (lv_at hl 0 rfl) ?_
  refine lv_if_lt (tgt := 36) hx hb dX12_put_4 (by decide) (fun c_3 => by first | exact absurd c_3 (by decide) | exact absurd (by decide) c_3) (fun c_3 => ?_)
  refine lv_aload_n hx hb dX12_put_7 rfl (lv_at hl 1 rfl) ?_
  refine va_get (v := .ref (ad_m 1)) (C := RX12) (T := TX12) (N := 75) (ci := 11) hx hb hts in_X12 hown hK.1 hW.1 0 rfl rfl 1 (by decide) (hts _ q1637) (fun _ h9 => h9) rfl dX12_put_8 ?_
  refine lv_aload_n hx hb dX12_put_11 rfl (lv_at hl 1 rfl) ?_
  refine va_get (v := .int (nI (tp + 1))) (C := RX12) (T := TX12) (N := 75) (ci := 11) hx hb hts in_X12 hown hK.1 hW.1 0 rfl rfl 2 (by decide) (hts _ q1638) (fun _ h9 => h9) rfl dX12_put_12 ?_
  refine lv_iload_n hx hb dX12_put_15 rfl (lv_at hl 2 rfl) ?_
  refine lv_iload_n hx hb dX12_put_16 rfl (lv_at hl 0 rfl) ?_
  refine lv_ishr hx hb dX12_put_17 ?_
  refine lv_i2b (v := (w >>> (16 &&& 31)).toInt8.toInt32) hx hb dX12_put_18 rfl ?_
  obtain ⟨bv_4, hbv_4⟩ : ∃ z : Int32, z = (w >>> (16 &&& 31)).toInt8.toInt32 := ⟨_, rfl⟩
  refine lv_topi (nm_r (e' := bv_4) hbv_4.symm ?_)
  refine z_bast (x := bv_4) (f := upd (g_m 1) tp bv_2) (j := tp + 1) (wn := (wj [(mw Y ad_m (sA 2 (fun _ => nI (tp + 1)) (sA 1 (upd (upd (g_m 1) tp bv_2) (tp + 1) bv_4) g_m)) w_m)])) hx hb hK.1 hW 1 1 rfl rfl (vp_in_nI (n := tp + 1) (by omega) (by decide)) (nI_clamp (n := tp + 1) (by omega)) (by rw [hbv_4]; exact pk_vb _) dX12_put_19 rfl (fun H locs hW => ?_)
  refine lv_aload_n hx hb dX12_put_20 rfl (lv_at hl 1 rfl) ?_
  refine lv_dup hx hb dX12_put_21 rfl ?_
  refine va_get (v := .int (nI (tp + 1))) (C := RX12) (T := TX12) (N := 75) (ci := 11) hx hb hts in_X12 hown hK.1 hW.1 0 rfl rfl 2 (by decide) (hts _ q1638) (fun _ h9 => h9) rfl dX12_put_22 ?_
  refine lv_iconst (v := 1) hx hb dX12_put_25 (by decide) ?_
  refine lv_iadd hx hb dX12_put_26 ?_
  refine lv_topi (nm_r (e' := nI (tp + 1 + 1)) (nI_add (tp + 1) 1) ?_)
  refine z_put (v := .int (nI (tp + 1 + 1))) (C := RX12) (T := TX12) (N := 75) (ci := 11) (wn := (wj [(mw Y ad_m (sA 2 (fun _ => nI (tp + 1 + 1)) (sA 1 (upd (upd (g_m 1) tp bv_2) (tp + 1) bv_4) g_m)) w_m)])) hx hb hts in_X12 tyX12 tyX12_ok nmX12 hown hK.1 hW 0 rfl rfl 2 (by decide) (hts _ q1638) (fun _ h9 => h9) rfl rfl rfl (Nat.le_of_ble_eq_true rfl) dX12_put_27 rfl (fun H locs hW => ?_)
  refine lv_iinc (v := 8) (lv' := [(2, .int 8), (0, .ref (ad_m 0)), (1, .int w)]) hx hb dX12_put_30 hl (k := 0) rfl (by decide) (by decide) rfl (fun ls hl => ?_)
  refine lv_goto (tgt := 3) hx hb dX12_put_33 (by decide) ?_
  refine lv_iload_n hx hb dX12_put_3 rfl (lv_at hl 0 rfl) ?_
  refine lv_if_lt (tgt := 36) hx hb dX12_put_4 (by decide) (fun c_5 => by first | exact absurd c_5 (by decide) | exact absurd (by decide) c_5) (fun c_5 => ?_)
  refine lv_aload_n hx hb dX12_put_7 rfl (lv_at hl 1 rfl) ?_
  refine va_get (v := .ref (ad_m 1)) (C := RX12) (T := TX12) (N := 75) (ci := 11) hx hb hts in_X12 hown hK.1 hW.1 0 rfl rfl 1 (by decide) (hts _ q1637) (fun _ h9 => h9) rfl dX12_put_8 ?_
  refine lv_aload_n hx hb dX12_put_11 rfl (lv_at hl 1 rfl) ?_
  refine va_get (v := .int (nI (tp + 1 + 1))) (C := RX12) (T := TX12) (N := 75) (ci := 11) hx hb hts in_X12 hown hK.1 hW.1 0 rfl rfl 2 (by decide) (hts _ q1638) (fun _ h9 => h9) rfl dX12_put_12 ?_
  refine lv_iload_n hx hb dX12_put_15 rfl (lv_at hl 2 rfl) ?_
  refine lv_iload_n hx hb dX12_put_16 rfl (lv_at hl 0 rfl) ?_
  refine lv_ishr hx hb dX12_put_17 ?_
  refine lv_i2b (v := (w >>> (8 &&& 31)).toInt8.toInt32) hx hb dX12_put_18 rfl ?_
  obtain ⟨bv_6, hbv_6⟩ : ∃ z : Int32, z = (w >>> (8 &&& 31)).toInt8.toInt32 := ⟨_, rfl⟩
  refine lv_topi (nm_r (e' := bv_6) hbv_6.symm ?_)
  refine z_bast (x := bv_6) (f := upd (upd (g_m 1) tp bv_2) (tp + 1) bv_4) (j := tp + 1 + 1) (wn := (wj [(mw Y ad_m (sA 2 (fun _ => nI (tp + 1 + 1)) (sA 1 (upd (upd (upd (g_m 1) tp bv_2) (tp + 1) bv_4) (tp + 1 + 1) bv_6) g_m)) w_m)])) hx hb hK.1 hW 1 1 rfl rfl (vp_in_nI (n := tp + 1 + 1) (by omega) (by decide)) (nI_clamp (n := tp + 1 + 1) (by omega)) (by rw [hbv_6]; exact pk_vb _) dX12_put_19 rfl (fun H locs hW => ?_)
  refine lv_aload_n hx hb dX12_put_20 rfl (lv_at hl 1 rfl) ?_
  refine lv_dup hx hb dX12_put_21 rfl ?_
  refine va_get (v := .int (nI (tp + 1 + 1))) (C := RX12) (T := TX12) (N := 75) (ci := 11) hx hb hts in_X12 hown hK.1 hW.1 0 rfl rfl 2 (by decide) (hts _ q1638) (fun _ h9 => h9) rfl dX12_put_22 ?_
  refine lv_iconst (v := 1) hx hb dX12_put_25 (by decide) ?_
  refine lv_iadd hx hb dX12_put_26 ?_
  refine lv_topi (nm_r (e' := nI (tp + 1 + 1 + 1)) (nI_add (tp + 1 + 1) 1) ?_)
  refine z_put (v := .int (nI (tp + 1 + 1 + 1))) (C := RX12) (T := TX12) (N := 75) (ci := 11) (wn := (wj [(mw Y ad_m (sA 2 (fun _ => nI (tp + 1 + 1 + 1)) (sA 1 (upd (upd (upd (g_m 1) tp bv_2) (tp + 1) bv_4) (tp + 1 + 1) bv_6) g_m)) w_m)])) hx hb hts in_X12 tyX12 tyX12_ok nmX12 hown hK.1 hW 0 rfl rfl 2 (by decide) (hts _ q1638) (fun _ h9 => h9) rfl rfl rfl (Nat.le_of_ble_eq_true rfl) dX12_put_27 rfl (fun H locs hW => ?_)
  refine lv_iinc (v := 0) (lv' := [(2, .int 0), (0, .ref (ad_m 0)), (1, .int w)]) hx hb dX12_put_30 hl (k := 0) rfl (by decide) (by decide) rfl (fun ls hl => ?_)
  refine lv_goto (tgt := 3) hx hb dX12_put_33 (by decide) ?_
  refine lv_iload_n hx hb dX12_put_3 rfl (lv_at hl 0 rfl) ?_
  refine lv_if_lt (tgt := 36) hx hb dX12_put_4 (by decide) (fun c_7 => by first | exact absurd c_7 (by decide) | exact absurd (by decide) c_7) (fun c_7 => ?_)
  refine lv_aload_n hx hb dX12_put_7 rfl (lv_at hl 1 rfl) ?_
  refine va_get (v := .ref (ad_m 1)) (C := RX12) (T := TX12) (N := 75) (ci := 11) hx hb hts in_X12 hown hK.1 hW.1 0 rfl rfl 1 (by decide) (hts _ q1637) (fun _ h9 => h9) rfl dX12_put_8 ?_
  refine lv_aload_n hx hb dX12_put_11 rfl (lv_at hl 1 rfl) ?_
  refine va_get (v := .int (nI (tp + 1 + 1 + 1))) (C := RX12) (T := TX12) (N := 75) (ci := 11) hx hb hts in_X12 hown hK.1 hW.1 0 rfl rfl 2 (by decide) (hts _ q1638) (fun _ h9 => h9) rfl dX12_put_12 ?_
  refine lv_iload_n hx hb dX12_put_15 rfl (lv_at hl 2 rfl) ?_
  refine lv_iload_n hx hb dX12_put_16 rfl (lv_at hl 0 rfl) ?_
  refine lv_ishr hx hb dX12_put_17 ?_
  refine lv_i2b (v := (w >>> (0 &&& 31)).toInt8.toInt32) hx hb dX12_put_18 rfl ?_
  obtain ⟨bv_8, hbv_8⟩ : ∃ z : Int32, z = (w >>> (0 &&& 31)).toInt8.toInt32 := ⟨_, rfl⟩
  refine lv_topi (nm_r (e' := bv_8) hbv_8.symm ?_)
  refine z_bast (x := bv_8) (f := upd (upd (upd (g_m 1) tp bv_2) (tp + 1) bv_4) (tp + 1 + 1) bv_6) (j := tp + 1 + 1 + 1) (wn := (wj [(mw Y ad_m (sA 2 (fun _ => nI (tp + 1 + 1 + 1)) (sA 1 (upd (upd (upd (upd (g_m 1) tp bv_2) (tp + 1) bv_4) (tp + 1 + 1) bv_6) (tp + 1 + 1 + 1) bv_8) g_m)) w_m)])) hx hb hK.1 hW 1 1 rfl rfl (vp_in_nI (n := tp + 1 + 1 + 1) (by omega) (by decide)) (nI_clamp (n := tp + 1 + 1 + 1) (by omega)) (by rw [hbv_8]; exact pk_vb _) dX12_put_19 rfl (fun H locs hW => ?_)
  refine lv_aload_n hx hb dX12_put_20 rfl (lv_at hl 1 rfl) ?_
  refine lv_dup hx hb dX12_put_21 rfl ?_
  refine va_get (v := .int (nI (tp + 1 + 1 + 1))) (C := RX12) (T := TX12) (N := 75) (ci := 11) hx hb hts in_X12 hown hK.1 hW.1 0 rfl rfl 2 (by decide) (hts _ q1638) (fun _ h9 => h9) rfl dX12_put_22 ?_
  refine lv_iconst (v := 1) hx hb dX12_put_25 (by decide) ?_
  refine lv_iadd hx hb dX12_put_26 ?_
  refine lv_topi (nm_r (e' := nI (tp + 1 + 1 + 1 + 1)) (nI_add (tp + 1 + 1 + 1) 1) ?_)
  refine z_put (v := .int (nI (tp + 1 + 1 + 1 + 1))) (C := RX12) (T := TX12) (N := 75) (ci := 11) (wn := (wj [(mw Y ad_m (sA 2 (fun _ => nI (tp + 1 + 1 + 1 + 1)) (sA 1 (upd (upd (upd (upd (g_m 1) tp bv_2) (tp + 1) bv_4) (tp + 1 + 1) bv_6) (tp + 1 + 1 + 1) bv_8) g_m)) w_m)])) hx hb hts in_X12 tyX12 tyX12_ok nmX12 hown hK.1 hW 0 rfl rfl 2 (by decide) (hts _ q1638) (fun _ h9 => h9) rfl rfl rfl (Nat.le_of_ble_eq_true rfl) dX12_put_27 rfl (fun H locs hW => ?_)
  refine lv_iinc (v := (-8)) (lv' := [(2, .int (-8)), (0, .ref (ad_m 0)), (1, .int w)]) hx hb dX12_put_30 hl (k := 0) rfl (by decide) (by decide) rfl (fun ls hl => ?_)
  refine lv_goto (tgt := 3) hx hb dX12_put_33 (by decide) ?_
  refine lv_iload_n hx hb dX12_put_3 rfl (lv_at hl 0 rfl) ?_
  refine lv_if_lt (tgt := 36) hx hb dX12_put_4 (by decide) (fun c_9 => ?_) (fun c_9 => by first | exact absurd c_9 (by decide) | exact absurd (by decide) c_9)
  refine z_vret ((upd (upd (upd (upd (g_m 1) tp bv_2) (tp + 1) bv_4) (tp + 1 + 1) bv_6) (tp + 1 + 1 + 1) bv_8, tp + 1 + 1 + 1 + 1) : (Nat → Int32) × (Nat)) hx hb hr hlocks hW rfl dX12_put_36 ?_
  show (upd (upd (upd (upd (g_m 1) tp bv_2) (tp + 1) bv_4) (tp + 1 + 1) bv_6) (tp + 1 + 1 + 1) bv_8) = put4 (g_m 1) tp w ∧ (tp + 1 + 1 + 1 + 1) = tp + 4
  subst hbv_2
  subst hbv_4
  subst hbv_6
  subst hbv_8
  exact ⟨rfl, rfl⟩
set_option maxHeartbeats 4000000 in
set_option maxRecDepth 100000 in
theorem m_X12_feed (l : Launch) (D : va_G) (Y : Nat → ClassId) (ad_m : Nat → Nat) (g_m : Nat → Nat → Int32) (w_m : Nat → Nat → Int64) (tp : Nat) (w0 : Int32) (w1 : Int32) (w2 : Int32) (w3 : Int32) (w4 : Int32) (sz : Nat) (htp : tp ≤ 2000) : Met l yX12_feed (ws_ yX12_feed cX12_feed 6 (some .int)) ({ frames := 2, cells := 0, slots := 0, locals := 34 }) (zPc D Y [.ref (ad_m 0), .int w0, .int w1, .int w2, .int w3, .int w4] sz (wj []) (wj [(mw Y ad_m (sA 2 (fun _ => nI tp) g_m) w_m)])) (va_Qi (fun (r : Int32) (u : (Nat → Int32) × (Nat)) => r = (feedO (g_m 1) tp w0 w1 w2 w3 w4).1 ∧ u.1 = (feedO (g_m 1) tp w0 w1 w2 w3 w4).2.1 ∧ u.2 = (feedO (g_m 1) tp w0 w1 w2 w3 w4).2.2) (zB D (fun (u : (Nat → Int32) × (Nat)) => (wj [(mw Y ad_m (sA 2 (fun _ => nI u.2) (sA 1 u.1 g_m)) w_m)])) (va_A (wj [(mw Y ad_m (sA 2 (fun _ => nI tp) g_m) w_m)]) sz)) (va_A (wj [(mw Y ad_m (sA 2 (fun _ => nI tp) g_m) w_m)]) sz)) 0 0 (va_A (wj [(mw Y ad_m (sA 2 (fun _ => nI tp) g_m) w_m)]) sz) := by
  refine Met.ofW (cc := cX12_feed) (maxL := 6) (ret := (some .int)) (by decide) rfl ?_
  intro p e s m args below meth c s₁ B hml hv
  obtain ⟨rfl, hsz, hW, hR, hK, hA⟩ := zEntry hv
  subst hsz
  have hx := B.exec
  have hb := B.bytes
  have hr := B.returns
  have hlocks := B.notSynchronized
  have hts : ∀ w ∈ lw_all, w.before _ s = true := fun w h => atoms_spec (ws := (ws_ yX12_feed cX12_feed 6 (some .int))) B.pre w (List.mem_cons_of_mem _ h)
  have hown : s.vm.findClass RX12 = some m.cls := findClass_of_methodNamed B.named
  generalize hAe : va_A (wj [(mw Y ad_m (sA 2 (fun _ => nI tp) g_m) w_m)]) s.heap.size = A at hW hR hA ⊢
  have hl := lv_entry ([.ref (ad_m 0), .int w0, .int w1, .int w2, .int w3, .int w4]) (n := 6) (Nat.le_of_ble_eq_true rfl)
  rw [lg_entry_eq]
  generalize (lg_sl ([.ref (ad_m 0), .int w0, .int w1, .int w2, .int w3, .int w4]) ++ List.replicate (6 - (lg_sl ([.ref (ad_m 0), .int w0, .int w1, .int w2, .int w3, .int w4])).length) Slot.unset).toArray = ls at hl ⊢
  have hl : lv_has ls 6 [(0, .ref (ad_m 0)), (1, .int w0), (2, .int w1), (3, .int w2), (4, .int w3), (5, .int w4)] := hl
  refine lv_aload_n hx hb dX12_feed_0 rfl (lv_at hl 0 rfl) ?_
  refine va_get (v := .int (nI tp)) (C := RX12) (T := TX12) (N := 75) (ci := 11) hx hb hts in_X12 hown hK.1 hW.1 0 rfl rfl 2 (by decide) (hts _ q1638) (fun _ h9 => h9) rfl dX12_feed_1 ?_
  refine lv_bipush (v := 20) hx hb dX12_feed_4 (by decide) ?_
  refine lv_iadd hx hb dX12_feed_6 ?_
  refine lv_topi (nm_r (e' := nI (tp + 20)) (nI_add tp 20) ?_)
  refine lv_sipush (v := 2000) hx hb dX12_feed_7 (by decide) ?_
  refine lv_icmp_le (tgt := 15) hx hb dX12_feed_10 (by decide) (fun c_1 => ?_) (fun c_1 => ?_)
  · have c_1 : tp + 20 ≤ 2000 := (nI_leI (a := tp + 20) (b := 2000) (by omega) (by omega)).mp c_1
    refine lv_aload_n hx hb dX12_feed_15 rfl (lv_at hl 0 rfl) ?_
    refine lv_iload_n hx hb dX12_feed_16 rfl (lv_at hl 1 rfl) ?_
    refine z_callv (wc := wj [(mw Y ad_m (sA 2 (fun _ => nI tp) g_m) w_m)]) (wr := wj []) (va_runV (As := [.int w0]) (rest := []) ⟨hx, hb, hml, hown, hts⟩ (m_X12_put l D Y ad_m (sA 2 (fun _ => nI tp) g_m) w_m tp w0 s.heap.size (show tp + 4 ≤ 2000 from by first | assumption | omega | grind)) (cwV 1 hts (lw_V q1867 q1869 qs57 q133 q1870) rfl rfl rfl (by decide +kernel) ⟨Nat.le_of_ble_eq_true rfl, Nat.le_of_ble_eq_true rfl⟩) (zPreV hK hW hR (wj_split3 (B := [(mw Y ad_m (sA 2 (fun _ => nI tp) g_m) w_m)]) (R := []) (C := [(mw Y ad_m (sA 2 (fun _ => nI tp) g_m) w_m)]) (O := []) (X := []) (List.Perm.refl _)) (va_recv hK.1 hW.1 (ci := 11) (q0 := 0) rfl rfl)) rfl rfl hl.1 rfl (lv_room (Nat.le_of_ble_eq_true rfl)) dX12_feed_17 ⟨Nat.le_refl _, Nat.le_refl _⟩) hW hA (wj_split (B := [(mw Y ad_m (sA 2 (fun _ => nI tp) g_m) w_m)]) (C := [(mw Y ad_m (sA 2 (fun _ => nI tp) g_m) w_m)]) (R := []) (List.Perm.refl _)) (fun  u H locs hp_3 hW => ?_)
    obtain ⟨utape_4, utaped_5⟩ := u
    have hp_3 : utape_4 = put4 (g_m 1) tp w0 ∧ utaped_5 = tp + 4 := hp_3
    have hW : zW D A s.heap H locs (wj [(mw Y ad_m (sA 2 (fun _ => nI utaped_5) (sA 1 utape_4 g_m)) w_m)]) := hW.join
    refine lv_aload_n hx hb dX12_feed_20 rfl (lv_at hl 0 rfl) ?_
    refine lv_iload_n hx hb dX12_feed_21 rfl (lv_at hl 2 rfl) ?_
    refine z_callv (wc := wj [(mw Y ad_m (sA 2 (fun _ => nI utaped_5) (sA 1 utape_4 g_m)) w_m)]) (wr := wj []) (va_runV (As := [.int w1]) (rest := []) ⟨hx, hb, hml, hown, hts⟩ (m_X12_put l D Y ad_m (sA 2 (fun _ => nI utaped_5) (sA 1 utape_4 g_m)) w_m utaped_5 w1 H.size (show utaped_5 + 4 ≤ 2000 from by first | assumption | omega | grind)) (cwV 1 hts (lw_V q1867 q1869 qs57 q133 q1870) rfl rfl rfl (by decide +kernel) ⟨Nat.le_of_ble_eq_true rfl, Nat.le_of_ble_eq_true rfl⟩) (zPreV hK hW hR (wj_split3 (B := [(mw Y ad_m (sA 2 (fun _ => nI utaped_5) (sA 1 utape_4 g_m)) w_m)]) (R := []) (C := [(mw Y ad_m (sA 2 (fun _ => nI utaped_5) (sA 1 utape_4 g_m)) w_m)]) (O := []) (X := []) (List.Perm.refl _)) (va_recv hK.1 hW.1 (ci := 11) (q0 := 0) rfl rfl)) rfl rfl hl.1 rfl (lv_room (Nat.le_of_ble_eq_true rfl)) dX12_feed_22 ⟨Nat.le_refl _, Nat.le_refl _⟩) hW hA (wj_split (B := [(mw Y ad_m (sA 2 (fun _ => nI utaped_5) (sA 1 utape_4 g_m)) w_m)]) (C := [(mw Y ad_m (sA 2 (fun _ => nI utaped_5) (sA 1 utape_4 g_m)) w_m)]) (R := []) (List.Perm.refl _)) (fun  u H locs hp_7 hW => ?_)
    obtain ⟨utape_8, utaped_9⟩ := u
    have hp_7 : utape_8 = put4 utape_4 utaped_5 w1 ∧ utaped_9 = utaped_5 + 4 := hp_7
    have hW : zW D A s.heap H locs (wj [(mw Y ad_m (sA 2 (fun _ => nI utaped_9) (sA 1 utape_8 g_m)) w_m)]) := hW.join
    refine lv_aload_n hx hb dX12_feed_25 rfl (lv_at hl 0 rfl) ?_
    refine lv_iload_n hx hb dX12_feed_26 rfl (lv_at hl 3 rfl) ?_
    refine z_callv (wc := wj [(mw Y ad_m (sA 2 (fun _ => nI utaped_9) (sA 1 utape_8 g_m)) w_m)]) (wr := wj []) (va_runV (As := [.int w2]) (rest := []) ⟨hx, hb, hml, hown, hts⟩ (m_X12_put l D Y ad_m (sA 2 (fun _ => nI utaped_9) (sA 1 utape_8 g_m)) w_m utaped_9 w2 H.size (show utaped_9 + 4 ≤ 2000 from by first | assumption | omega | grind)) (cwV 1 hts (lw_V q1867 q1869 qs57 q133 q1870) rfl rfl rfl (by decide +kernel) ⟨Nat.le_of_ble_eq_true rfl, Nat.le_of_ble_eq_true rfl⟩) (zPreV hK hW hR (wj_split3 (B := [(mw Y ad_m (sA 2 (fun _ => nI utaped_9) (sA 1 utape_8 g_m)) w_m)]) (R := []) (C := [(mw Y ad_m (sA 2 (fun _ => nI utaped_9) (sA 1 utape_8 g_m)) w_m)]) (O := []) (X := []) (List.Perm.refl _)) (va_recv hK.1 hW.1 (ci := 11) (q0 := 0) rfl rfl)) rfl rfl hl.1 rfl (lv_room (Nat.le_of_ble_eq_true rfl)) dX12_feed_27 ⟨Nat.le_refl _, Nat.le_refl _⟩) hW hA (wj_split (B := [(mw Y ad_m (sA 2 (fun _ => nI utaped_9) (sA 1 utape_8 g_m)) w_m)]) (C := [(mw Y ad_m (sA 2 (fun _ => nI utaped_9) (sA 1 utape_8 g_m)) w_m)]) (R := []) (List.Perm.refl _)) (fun  u H locs hp_11 hW => ?_)
    obtain ⟨utape_12, utaped_13⟩ := u
    have hp_11 : utape_12 = put4 utape_8 utaped_9 w2 ∧ utaped_13 = utaped_9 + 4 := hp_11
    have hW : zW D A s.heap H locs (wj [(mw Y ad_m (sA 2 (fun _ => nI utaped_13) (sA 1 utape_12 g_m)) w_m)]) := hW.join
    refine lv_aload_n hx hb dX12_feed_30 rfl (lv_at hl 0 rfl) ?_
    refine lv_iload hx hb dX12_feed_31 (lv_at hl 4 rfl) ?_
    refine z_callv (wc := wj [(mw Y ad_m (sA 2 (fun _ => nI utaped_13) (sA 1 utape_12 g_m)) w_m)]) (wr := wj []) (va_runV (As := [.int w3]) (rest := []) ⟨hx, hb, hml, hown, hts⟩ (m_X12_put l D Y ad_m (sA 2 (fun _ => nI utaped_13) (sA 1 utape_12 g_m)) w_m utaped_13 w3 H.size (show utaped_13 + 4 ≤ 2000 from by first | assumption | omega | grind)) (cwV 1 hts (lw_V q1867 q1869 qs57 q133 q1870) rfl rfl rfl (by decide +kernel) ⟨Nat.le_of_ble_eq_true rfl, Nat.le_of_ble_eq_true rfl⟩) (zPreV hK hW hR (wj_split3 (B := [(mw Y ad_m (sA 2 (fun _ => nI utaped_13) (sA 1 utape_12 g_m)) w_m)]) (R := []) (C := [(mw Y ad_m (sA 2 (fun _ => nI utaped_13) (sA 1 utape_12 g_m)) w_m)]) (O := []) (X := []) (List.Perm.refl _)) (va_recv hK.1 hW.1 (ci := 11) (q0 := 0) rfl rfl)) rfl rfl hl.1 rfl (lv_room (Nat.le_of_ble_eq_true rfl)) dX12_feed_33 ⟨Nat.le_refl _, Nat.le_refl _⟩) hW hA (wj_split (B := [(mw Y ad_m (sA 2 (fun _ => nI utaped_13) (sA 1 utape_12 g_m)) w_m)]) (C := [(mw Y ad_m (sA 2 (fun _ => nI utaped_13) (sA 1 utape_12 g_m)) w_m)]) (R := []) (List.Perm.refl _)) (fun  u H locs hp_15 hW => ?_)
    obtain ⟨utape_16, utaped_17⟩ := u
    have hp_15 : utape_16 = put4 utape_12 utaped_13 w3 ∧ utaped_17 = utaped_13 + 4 := hp_15
    have hW : zW D A s.heap H locs (wj [(mw Y ad_m (sA 2 (fun _ => nI utaped_17) (sA 1 utape_16 g_m)) w_m)]) := hW.join
    refine lv_aload_n hx hb dX12_feed_36 rfl (lv_at hl 0 rfl) ?_
    refine lv_iload hx hb dX12_feed_37 (lv_at hl 5 rfl) ?_
    refine z_callv (wc := wj [(mw Y ad_m (sA 2 (fun _ => nI utaped_17) (sA 1 utape_16 g_m)) w_m)]) (wr := wj []) (va_runV (As := [.int w4]) (rest := []) ⟨hx, hb, hml, hown, hts⟩ (m_X12_put l D Y ad_m (sA 2 (fun _ => nI utaped_17) (sA 1 utape_16 g_m)) w_m utaped_17 w4 H.size (show utaped_17 + 4 ≤ 2000 from by first | assumption | omega | grind)) (cwV 1 hts (lw_V q1867 q1869 qs57 q133 q1870) rfl rfl rfl (by decide +kernel) ⟨Nat.le_of_ble_eq_true rfl, Nat.le_of_ble_eq_true rfl⟩) (zPreV hK hW hR (wj_split3 (B := [(mw Y ad_m (sA 2 (fun _ => nI utaped_17) (sA 1 utape_16 g_m)) w_m)]) (R := []) (C := [(mw Y ad_m (sA 2 (fun _ => nI utaped_17) (sA 1 utape_16 g_m)) w_m)]) (O := []) (X := []) (List.Perm.refl _)) (va_recv hK.1 hW.1 (ci := 11) (q0 := 0) rfl rfl)) rfl rfl hl.1 rfl (lv_room (Nat.le_of_ble_eq_true rfl)) dX12_feed_39 ⟨Nat.le_refl _, Nat.le_refl _⟩) hW hA (wj_split (B := [(mw Y ad_m (sA 2 (fun _ => nI utaped_17) (sA 1 utape_16 g_m)) w_m)]) (C := [(mw Y ad_m (sA 2 (fun _ => nI utaped_17) (sA 1 utape_16 g_m)) w_m)]) (R := []) (List.Perm.refl _)) (fun  u H locs hp_19 hW => ?_)
    obtain ⟨utape_20, utaped_21⟩ := u
    have hp_19 : utape_20 = put4 utape_16 utaped_17 w4 ∧ utaped_21 = utaped_17 + 4 := hp_19
    have hW : zW D A s.heap H locs (wj [(mw Y ad_m (sA 2 (fun _ => nI utaped_21) (sA 1 utape_20 g_m)) w_m)]) := hW.join
    refine lv_aload_n hx hb dX12_feed_42 rfl (lv_at hl 0 rfl) ?_
    refine va_get (v := .int (nI utaped_21)) (C := RX12) (T := TX12) (N := 75) (ci := 11) hx hb hts in_X12 hown hK.1 hW.1 0 rfl rfl 2 (by decide) (hts _ q1638) (fun _ h9 => h9) rfl dX12_feed_43 ?_
    refine z_ireti ((utape_20, utaped_21) : (Nat → Int32) × (Nat)) hx hb hr hlocks rfl hW rfl dX12_feed_46 ?_
    show (nI utaped_21) = (feedO (g_m 1) tp w0 w1 w2 w3 w4).1 ∧ utape_20 = (feedO (g_m 1) tp w0 w1 w2 w3 w4).2.1 ∧ utaped_21 = (feedO (g_m 1) tp w0 w1 w2 w3 w4).2.2
    unfold feedO
    rw [if_neg (by omega)]
    obtain ⟨a17, b17⟩ := hp_3
    obtain ⟨a22, b22⟩ := hp_7
    obtain ⟨a27, b27⟩ := hp_11
    obtain ⟨a33, b33⟩ := hp_15
    obtain ⟨a39, b39⟩ := hp_19
    subst a17 b17
    subst a22 b22
    subst a27 b27
    subst a33 b33
    subst a39 b39
    exact ⟨rfl, rfl, rfl⟩
  · have c_1 : ¬ (tp + 20 ≤ 2000) := fun hz_ => c_1 ((nI_leI (a := tp + 20) (b := 2000) (by omega) (by omega)).mpr hz_)
    refine lv_iconst (v := (-1)) hx hb dX12_feed_13 (by decide) ?_
    refine z_ireti ((g_m 1, tp) : (Nat → Int32) × (Nat)) hx hb hr hlocks rfl hW rfl dX12_feed_14 ?_
    show (-1) = (feedO (g_m 1) tp w0 w1 w2 w3 w4).1 ∧ (g_m 1) = (feedO (g_m 1) tp w0 w1 w2 w3 w4).2.1 ∧ tp = (feedO (g_m 1) tp w0 w1 w2 w3 w4).2.2
    unfold feedO
    rw [if_pos (by omega)]
    exact ⟨rfl, rfl, rfl⟩
set_option maxHeartbeats 4000000 in
set_option maxRecDepth 100000 in
theorem m_X12_back (l : Launch) (D : va_G) (Y : Nat → ClassId) (ad_m : Nat → Nat) (g_m : Nat → Nat → Int32) (w_m : Nat → Nat → Int64) (tp : Nat) (kx : Int32) (sz : Nat) (htp : tp ≤ 2000) : Met l yX12_back (ws_ yX12_back cX12_back 2 (some .int)) ({ frames := 1, cells := 0, slots := 0, locals := 12 }) (zPc D Y [.ref (ad_m 0), .int kx] sz (wj []) (wj [(mw Y ad_m (sA 2 (fun _ => nI tp) g_m) w_m)])) (va_Qi (fun (r : Int32) (u : (Nat)) => r = (backO tp kx).1 ∧ u = (backO tp kx).2) (zB D (fun (u : (Nat)) => (wj [(mw Y ad_m (sA 2 (fun _ => nI u) g_m) w_m)])) (va_A (wj [(mw Y ad_m (sA 2 (fun _ => nI tp) g_m) w_m)]) sz)) (va_A (wj [(mw Y ad_m (sA 2 (fun _ => nI tp) g_m) w_m)]) sz)) 0 0 (va_A (wj [(mw Y ad_m (sA 2 (fun _ => nI tp) g_m) w_m)]) sz) := by
  refine Met.ofW (cc := cX12_back) (maxL := 2) (ret := (some .int)) (by decide) rfl ?_
  intro p e s m args below meth c s₁ B hml hv
  obtain ⟨rfl, hsz, hW, hR, hK, hA⟩ := zEntry hv
  subst hsz
  have hx := B.exec
  have hb := B.bytes
  have hr := B.returns
  have hlocks := B.notSynchronized
  have hts : ∀ w ∈ lw_all, w.before _ s = true := fun w h => atoms_spec (ws := (ws_ yX12_back cX12_back 2 (some .int))) B.pre w (List.mem_cons_of_mem _ h)
  have hown : s.vm.findClass RX12 = some m.cls := findClass_of_methodNamed B.named
  generalize hAe : va_A (wj [(mw Y ad_m (sA 2 (fun _ => nI tp) g_m) w_m)]) s.heap.size = A at hW hR hA ⊢
  have hl := lv_entry ([.ref (ad_m 0), .int kx]) (n := 2) (Nat.le_of_ble_eq_true rfl)
  rw [lg_entry_eq]
  generalize (lg_sl ([.ref (ad_m 0), .int kx]) ++ List.replicate (2 - (lg_sl ([.ref (ad_m 0), .int kx])).length) Slot.unset).toArray = ls at hl ⊢
  have hl : lv_has ls 2 [(0, .ref (ad_m 0)), (1, .int kx)] := hl
  refine lv_iload_n hx hb dX12_back_0 rfl (lv_at hl 1 rfl) ?_
  refine lv_if_lt (tgt := 12) hx hb dX12_back_1 (by decide) (fun c_1 => ?_) (fun c_1 => ?_)
  · have h1 := c_1
    refine lv_iconst (v := (-1)) hx hb dX12_back_12 (by decide) ?_
    refine z_ireti (tp : (Nat)) hx hb hr hlocks rfl hW rfl dX12_back_13 ?_
    show (-1) = (backO tp kx).1 ∧ tp = (backO tp kx).2
    have e : backO tp kx = _ := zi_f (by first | (intro hq; exact hq.1 h1) | (intro hq; exact hq.2 (Int32.not_le.mp h2))) _ _
    rw [e]
    exact ⟨rfl, rfl⟩
  · have h1 := c_1
    refine lv_iload_n hx hb dX12_back_4 rfl (lv_at hl 1 rfl) ?_
    refine lv_aload_n hx hb dX12_back_5 rfl (lv_at hl 0 rfl) ?_
    refine va_get (v := .int (nI tp)) (C := RX12) (T := TX12) (N := 75) (ci := 11) hx hb hts in_X12 hown hK.1 hW.1 0 rfl rfl 2 (by decide) (hts _ q1638) (fun _ h9 => h9) rfl dX12_back_6 ?_
    refine lv_icmp_le (tgt := 14) hx hb dX12_back_9 (by decide) (fun c_2 => ?_) (fun c_2 => ?_)
    · obtain ⟨kq, lkq, hkq, ekq⟩ := inP_nat (x := kx) (a := 0) (b := tp) ⟨h1, Int32.not_lt.mpr c_2⟩ (by omega) (by omega)
      have ckq : kx.toNatClampNeg = kq := by rw [ekq]; exact nI_clamp (by omega)
      refine lv_aload_n hx hb dX12_back_14 rfl (lv_at hl 0 rfl) ?_
      refine lv_dup hx hb dX12_back_15 rfl ?_
      refine va_get (v := .int (nI tp)) (C := RX12) (T := TX12) (N := 75) (ci := 11) hx hb hts in_X12 hown hK.1 hW.1 0 rfl rfl 2 (by decide) (hts _ q1638) (fun _ h9 => h9) rfl dX12_back_16 ?_
      refine lv_iload_n hx hb dX12_back_19 rfl (lv_at hl 1 rfl) ?_
      refine lv_topi (nm_r (e' := nI kq) ekq ?_)
      refine lv_isub hx hb dX12_back_20 ?_
      refine lv_topi (nm_r (e' := nI (tp - kq)) (pk_sub (a := tp) (b := kq) (by omega)) ?_)
      refine z_put (v := .int (nI (tp - kq))) (C := RX12) (T := TX12) (N := 75) (ci := 11) (wn := (wj [(mw Y ad_m (sA 2 (fun _ => nI (tp - kq)) g_m) w_m)])) hx hb hts in_X12 tyX12 tyX12_ok nmX12 hown hK.1 hW 0 rfl rfl 2 (by decide) (hts _ q1638) (fun _ h9 => h9) rfl rfl rfl (Nat.le_of_ble_eq_true rfl) dX12_back_21 rfl (fun H locs hW => ?_)
      refine lv_aload_n hx hb dX12_back_24 rfl (lv_at hl 0 rfl) ?_
      refine va_get (v := .int (nI (tp - kq))) (C := RX12) (T := TX12) (N := 75) (ci := 11) hx hb hts in_X12 hown hK.1 hW.1 0 rfl rfl 2 (by decide) (hts _ q1638) (fun _ h9 => h9) rfl dX12_back_25 ?_
      refine z_ireti (tp - kq : (Nat)) hx hb hr hlocks rfl hW rfl dX12_back_28 ?_
      show (nI (tp - kq)) = (backO tp kx).1 ∧ (tp - kq) = (backO tp kx).2
      have e : backO tp kx = _ := zi_t ⟨h1, Int32.not_lt.mpr c_2⟩ _ _
      rw [e, ckq]
      exact ⟨rfl, rfl⟩
    · have h2 := c_2
      refine lv_iconst (v := (-1)) hx hb dX12_back_12 (by decide) ?_
      refine z_ireti (tp : (Nat)) hx hb hr hlocks rfl hW rfl dX12_back_13 ?_
      show (-1) = (backO tp kx).1 ∧ tp = (backO tp kx).2
      have e : backO tp kx = _ := zi_f (by first | (intro hq; exact hq.1 h1) | (intro hq; exact hq.2 (Int32.not_le.mp h2))) _ _
      rw [e]
      exact ⟨rfl, rfl⟩
set_option maxHeartbeats 4000000 in
set_option maxRecDepth 100000 in
theorem m_X12_place (l : Launch) (D : va_G) (Y : Nat → ClassId) (ad_m : Nat → Nat) (g_m : Nat → Nat → Int32) (w_m : Nat → Nat → Int64) (sz : Nat) : Met l yX12_place (ws_ yX12_place cX12_place 1 (some .int)) ({ frames := 1, cells := 0, slots := 0, locals := 12 }) (zPc D Y [.ref (ad_m 0)] sz (wj []) (wj [(mw Y ad_m g_m w_m)])) (va_Qi (fun (r : Int32) (u : Unit) => r = (g_m 17 0)) (zB D (fun (u : Unit) => (wj [(mw Y ad_m g_m w_m)])) (va_A (wj [(mw Y ad_m g_m w_m)]) sz)) (va_A (wj [(mw Y ad_m g_m w_m)]) sz)) 0 0 (va_A (wj [(mw Y ad_m g_m w_m)]) sz) := by
  refine Met.ofW (cc := cX12_place) (maxL := 1) (ret := (some .int)) (by decide) rfl ?_
  intro p e s m args below meth c s₁ B hml hv
  obtain ⟨rfl, hsz, hW, hR, hK, hA⟩ := zEntry hv
  subst hsz
  have hx := B.exec
  have hb := B.bytes
  have hr := B.returns
  have hlocks := B.notSynchronized
  have hts : ∀ w ∈ lw_all, w.before _ s = true := fun w h => atoms_spec (ws := (ws_ yX12_place cX12_place 1 (some .int))) B.pre w (List.mem_cons_of_mem _ h)
  have hown : s.vm.findClass RX12 = some m.cls := findClass_of_methodNamed B.named
  generalize hAe : va_A (wj [(mw Y ad_m g_m w_m)]) s.heap.size = A at hW hR hA ⊢
  have hl := lv_entry ([.ref (ad_m 0)]) (n := 1) (Nat.le_of_ble_eq_true rfl)
  rw [lg_entry_eq]
  generalize (lg_sl ([.ref (ad_m 0)]) ++ List.replicate (1 - (lg_sl ([.ref (ad_m 0)])).length) Slot.unset).toArray = ls at hl ⊢
  have hl : lv_has ls 1 [(0, .ref (ad_m 0))] := hl
  refine lv_aload_n hx hb dX12_place_0 rfl (lv_at hl 0 rfl) ?_
  refine va_get (v := .int (g_m 17 0)) (C := RX12) (T := TX12) (N := 75) (ci := 11) hx hb hts in_X12 hown hK.1 hW.1 0 rfl rfl 17 (by decide) (hts _ q1653) (fun _ h9 => h9) rfl dX12_place_1 ?_
  refine z_ireti (() : Unit) hx hb hr hlocks rfl hW rfl dX12_place_4 ?_
  show (g_m 17 0) = (g_m 17 0)
  rfl
