/-! the model is told what merchants want -/
set_option maxRecDepth 100000
set_option maxHeartbeats 1000000 in
set_option maxRecDepth 100000 in
theorem m_X12_tellWants (l : Launch) (D : va_G) (Y : Nat → ClassId) (ad_m : Nat → Nat) (g_m : Nat → Nat → Int32) (w_m : Nat → Nat → Int64) (kd : Nat → Nat) (pl : Nat → Nat) (vl : Nat → Int32) (nv : Nat → Nat) (s_ : PS) (fl : Nat) (fp : Nat) (tt : Nat) (wk : Nat) (wp : Nat) (sd : Nat) (nn : Nat) (S_ : Nat → Nat) (A_ : Nat → Nat) (sz : Nat) (hTK : TKR kd pl vl nv (g_m 5) (g_m 6) (g_m 7) (w_m 8)) (hFM : FM kd pl (Except.ok s_) fl fp tt wk wp) (hsd : sd < 2) (hIV : IV s_) (hro : PS.n s_ 3 < 5) (hTM : TMn sd (PS.n s_) (PS.t s_) (g_m 24) (g_m 25) (g_m 26) (g_m 27) (g_m 28) (g_m 29) (g_m 30) (g_m 31) (g_m 32) (g_m 33) (g_m 34) (g_m 35) (g_m 36) (g_m 37) (g_m 38) (g_m 39) (g_m 40) (g_m 41) (g_m 42)) (hNR : NR (PS.nm s_) nn (g_m 22) (g_m 23) (w_m 21) S_ A_) (hM9 : ∀ j, j < PS.n s_ 3 → vp_in (PS.t s_ 9 j) 5) : Met l yX12_tellWants (ws_ yX12_tellWants cX12_tellWants 6 none) ({ frames := 5, cells := 0, slots := 0, locals := 97 }) (zPc D Y [.ref (ad_m 0)] sz (wj []) (wj [(mw Y ad_m (sA 20 (fun _ => nI nn) (sA 19 (fun _ => nI sd) (sA 16 (fun _ => nI wp) (sA 15 (fun _ => nI wk) (sA 14 (fun _ => nI fp) (sA 13 (fun _ => nI fl) (sA 11 (fun _ => nI tt) g_m))))))) w_m)])) (va_Qv (fun (u : (Nat) × (Nat) × (Nat) × (Nat) × (Nat) × (Nat → Int32) × (Nat → Int32) × (Nat → Int32) × (Nat → Int32) × (Nat → Int32)) => (FM kd pl (PO.bd (wantsB kd vl nv s_) (mustR kd 4)) u.1 u.2.1 u.2.2.1 u.2.2.2.1 u.2.2.2.2.1) ∧ (KR 1 sd (g_m 35) u.2.2.2.2.2.1 ∧ KR 5 sd (g_m 36) u.2.2.2.2.2.2.1 ∧ KR 5 sd (g_m 37) u.2.2.2.2.2.2.2.1 ∧ KR 20 sd (g_m 38) u.2.2.2.2.2.2.2.2.1 ∧ KR 20 sd (g_m 39) u.2.2.2.2.2.2.2.2.2 ∧ (∀ s5, PO.bd (wantsB kd vl nv s_) (mustR kd 4) = Except.ok s5 → TMn sd (PS.n s5) (PS.t s5) (g_m 24) (g_m 25) (g_m 26) (g_m 27) (g_m 28) (g_m 29) (g_m 30) (g_m 31) (g_m 32) (g_m 33) (g_m 34) u.2.2.2.2.2.1 u.2.2.2.2.2.2.1 u.2.2.2.2.2.2.2.1 u.2.2.2.2.2.2.2.2.1 u.2.2.2.2.2.2.2.2.2 (g_m 40) (g_m 41) (g_m 42) ∧ PS.nm s5 = PS.nm s_ ∧ PS.lw s5 = PS.lw s_ ∧ PS.at_ s_ ≤ PS.at_ s5))) (zB D (fun (u : (Nat) × (Nat) × (Nat) × (Nat) × (Nat) × (Nat → Int32) × (Nat → Int32) × (Nat → Int32) × (Nat → Int32) × (Nat → Int32)) => (wj [(mw Y ad_m (sA 39 u.2.2.2.2.2.2.2.2.2 (sA 38 u.2.2.2.2.2.2.2.2.1 (sA 37 u.2.2.2.2.2.2.2.1 (sA 36 u.2.2.2.2.2.2.1 (sA 35 u.2.2.2.2.2.1 (sA 20 (fun _ => nI nn) (sA 19 (fun _ => nI sd) (sA 16 (fun _ => nI u.2.2.2.2.1) (sA 15 (fun _ => nI u.2.2.2.1) (sA 14 (fun _ => nI u.2.1) (sA 13 (fun _ => nI u.1) (sA 11 (fun _ => nI u.2.2.1) g_m)))))))))))) w_m)])) (va_A (wj [(mw Y ad_m (sA 20 (fun _ => nI nn) (sA 19 (fun _ => nI sd) (sA 16 (fun _ => nI wp) (sA 15 (fun _ => nI wk) (sA 14 (fun _ => nI fp) (sA 13 (fun _ => nI fl) (sA 11 (fun _ => nI tt) g_m))))))) w_m)]) sz)) (va_A (wj [(mw Y ad_m (sA 20 (fun _ => nI nn) (sA 19 (fun _ => nI sd) (sA 16 (fun _ => nI wp) (sA 15 (fun _ => nI wk) (sA 14 (fun _ => nI fp) (sA 13 (fun _ => nI fl) (sA 11 (fun _ => nI tt) g_m))))))) w_m)]) sz)) 0 0 (va_A (wj [(mw Y ad_m (sA 20 (fun _ => nI nn) (sA 19 (fun _ => nI sd) (sA 16 (fun _ => nI wp) (sA 15 (fun _ => nI wk) (sA 14 (fun _ => nI fp) (sA 13 (fun _ => nI fl) (sA 11 (fun _ => nI tt) g_m))))))) w_m)]) sz) := by
  refine Met.ofW (cc := cX12_tellWants) (maxL := 6) (ret := none) (by decide) rfl ?_
  intro p e s m args below meth c s₁ B hml hv
  obtain ⟨rfl, hsz, hW, hR, hK, hA⟩ := zEntry hv
  subst hsz
  have hx := B.exec
  have hb := B.bytes
  have hr := B.returns
  have hlocks := B.notSynchronized
  have hts : ∀ w ∈ lw_all, w.before _ s = true := fun w h => atoms_spec (ws := (ws_ yX12_tellWants cX12_tellWants 6 none)) B.pre w (List.mem_cons_of_mem _ h)
  have hown : s.vm.findClass RX12 = some m.cls := findClass_of_methodNamed B.named
  generalize hAe : va_A (wj [(mw Y ad_m (sA 20 (fun _ => nI nn) (sA 19 (fun _ => nI sd) (sA 16 (fun _ => nI wp) (sA 15 (fun _ => nI wk) (sA 14 (fun _ => nI fp) (sA 13 (fun _ => nI fl) (sA 11 (fun _ => nI tt) g_m))))))) w_m)]) s.heap.size = A at hW hR hA ⊢
  have hl := lv_entry ([.ref (ad_m 0)]) (n := 6) (Nat.le_of_ble_eq_true rfl)
  rw [lg_entry_eq]
  generalize (lg_sl ([.ref (ad_m 0)]) ++ List.replicate (6 - (lg_sl ([.ref (ad_m 0)])).length) Slot.unset).toArray = ls at hl ⊢
  have hl : lv_has ls 6 [(0, .ref (ad_m 0))] := hl
  have hbnd := hFM.bnd
  have hkb := hTK.kb tt
  have hpb := hTK.pb tt
  have hn0 := hIV.n0
  have hn1 := hIV.n1
  have hn2 := hIV.n2
  have hn3 := hIV.n3
  have hn20 := hNR.n20
  refine lv_iconst (v := 5) hx hb dX12_tellWants_0 (by decide) ?_
  refine lv_aload_n hx hb dX12_tellWants_1 rfl (lv_at hl 0 rfl) ?_
  refine va_get (v := .int (nI sd)) (C := RX12) (T := TX12) (N := 75) (ci := 11) hx hb hts in_X12 hown hK.1 hW.1 0 rfl rfl 19 (by decide) (hts _ q1655) (fun _ h9 => h9) rfl dX12_tellWants_2 ?_
  refine lv_imul hx hb dX12_tellWants_5 ?_
  refine lv_topi (nm_r (e' := nI (5 * sd)) (pk_mul 5 sd) ?_)
  refine lv_aload_n hx hb dX12_tellWants_6 rfl (lv_at hl 0 rfl) ?_
  refine va_get (v := .ref (ad_m 35)) (C := RX12) (T := TX12) (N := 75) (ci := 11) hx hb hts in_X12 hown hK.1 hW.1 0 rfl rfl 35 (by decide) (hts _ q1671) (fun _ h9 => h9) rfl dX12_tellWants_7 ?_
  refine lv_aload_n hx hb dX12_tellWants_10 rfl (lv_at hl 0 rfl) ?_
  refine va_get (v := .int (nI sd)) (C := RX12) (T := TX12) (N := 75) (ci := 11) hx hb hts in_X12 hown hK.1 hW.1 0 rfl rfl 19 (by decide) (hts _ q1655) (fun _ h9 => h9) rfl dX12_tellWants_11 ?_
  refine z_iald (v := nI (PS.n s_ 3)) (f := g_m 35) (j := sd) hx hb hK.1 hW.1 22 0 rfl rfl (vp_in_nI (n := sd) (by omega) (by decide)) (nI_clamp (n := sd) (by omega)) (TMn.c35 hTM) dX12_tellWants_14 ?_
  refine lv_iadd hx hb dX12_tellWants_15 ?_
  refine lv_topi (nm_r (e' := nI (5 * sd + PS.n s_ 3)) (nI_add (5 * sd) (PS.n s_ 3)) ?_)
  refine lv_istore_n (lv' := [(1, .int (nI (5 * sd + PS.n s_ 3))), (0, .ref (ad_m 0))]) hx hb dX12_tellWants_16 rfl hl (by decide) rfl (fun ls hl => ?_)
  refine lv_aload_n hx hb dX12_tellWants_17 rfl (lv_at hl 1 rfl) ?_
  refine va_get (v := .ref (ad_m 36)) (C := RX12) (T := TX12) (N := 75) (ci := 11) hx hb hts in_X12 hown hK.1 hW.1 0 rfl rfl 36 (by decide) (hts _ q1672) (fun _ h9 => h9) rfl dX12_tellWants_18 ?_
  refine lv_iload_n hx hb dX12_tellWants_21 rfl (lv_at hl 0 rfl) ?_
  refine lv_aload_n hx hb dX12_tellWants_22 rfl (lv_at hl 1 rfl) ?_
  refine lv_iconst (v := 0) hx hb dX12_tellWants_23 (by decide) ?_
  refine lv_sipush (v := 9999) hx hb dX12_tellWants_24 (by decide) ?_
  refine z_calli (wc := wj [(mw Y ad_m (sA 20 (fun _ => nI nn) (sA 19 (fun _ => nI sd) (sA 16 (fun _ => nI wp) (sA 15 (fun _ => nI wk) (sA 14 (fun _ => nI fp) (sA 13 (fun _ => nI fl) (sA 11 (fun _ => nI tt) g_m))))))) w_m)]) (wr := wj []) (va_runV (As := [.int 0, .int 9999]) (rest := [.int (nI (5 * sd + PS.n s_ 3)), .ref (ad_m 36)]) ⟨hx, hb, hml, hown, hts⟩ (m_X12_bounded l D Y ad_m (sA 20 (fun _ => nI nn) (sA 19 (fun _ => nI sd) (sA 16 (fun _ => nI wp) (sA 15 (fun _ => nI wk) (sA 14 (fun _ => nI fp) (sA 13 (fun _ => nI fl) (sA 11 (fun _ => nI tt) g_m))))))) w_m kd pl vl nv (Except.ok s_) fl fp tt wk wp 0 9999 s.heap.size (show TKR kd pl vl nv (g_m 5) (g_m 6) (g_m 7) (w_m 8) from by first | assumption | omega | grind) (show FM kd pl (Except.ok s_) fl fp tt wk wp from by first | assumption | omega | grind)) (cwV 2 hts (lw_V q1937 q1939 qs71 q133 q1940) rfl rfl rfl (by decide +kernel) ⟨Nat.le_of_ble_eq_true rfl, Nat.le_of_ble_eq_true rfl⟩) (zPreV hK hW hR (wj_split3 (B := [(mw Y ad_m (sA 20 (fun _ => nI nn) (sA 19 (fun _ => nI sd) (sA 16 (fun _ => nI wp) (sA 15 (fun _ => nI wk) (sA 14 (fun _ => nI fp) (sA 13 (fun _ => nI fl) (sA 11 (fun _ => nI tt) g_m))))))) w_m)]) (R := []) (C := [(mw Y ad_m (sA 20 (fun _ => nI nn) (sA 19 (fun _ => nI sd) (sA 16 (fun _ => nI wp) (sA 15 (fun _ => nI wk) (sA 14 (fun _ => nI fp) (sA 13 (fun _ => nI fl) (sA 11 (fun _ => nI tt) g_m))))))) w_m)]) (O := []) (X := []) (List.Perm.refl _)) (va_recv hK.1 hW.1 (ci := 11) (q0 := 0) rfl rfl)) rfl rfl hl.1 rfl (lv_room (Nat.le_of_ble_eq_true rfl)) dX12_tellWants_27 ⟨Nat.le_refl _, Nat.le_refl _⟩) hW hA (wj_split (B := [(mw Y ad_m (sA 20 (fun _ => nI nn) (sA 19 (fun _ => nI sd) (sA 16 (fun _ => nI wp) (sA 15 (fun _ => nI wk) (sA 14 (fun _ => nI fp) (sA 13 (fun _ => nI fl) (sA 11 (fun _ => nI tt) g_m))))))) w_m)]) (C := [(mw Y ad_m (sA 20 (fun _ => nI nn) (sA 19 (fun _ => nI sd) (sA 16 (fun _ => nI wp) (sA 15 (fun _ => nI wk) (sA 14 (fun _ => nI fp) (sA 13 (fun _ => nI fl) (sA 11 (fun _ => nI tt) g_m))))))) w_m)]) (R := []) (List.Perm.refl _)) (fun r_1 u H locs hp_2 hW => ?_)
  obtain ⟨ufault_3, ufaultPlace_4, ut_5, uworst_6, uworstPlace_7⟩ := u
  have hp_2 : (FM kd pl (PO.bd (Except.ok s_) (numX kd vl 0 9999)) ufault_3 ufaultPlace_4 ut_5 uworst_6 uworstPlace_7) ∧ (∀ (s0 : PS) (q0 : Int32 × PS), (Except.ok s_) = Except.ok s0 → numR kd vl 0 9999 s0 = Except.ok q0 → r_1 = q0.1) := hp_2
  obtain ⟨hp_2f, hp_2p⟩ := hp_2
  have hW : zW D A s.heap H locs (wj [(mw Y ad_m (sA 20 (fun _ => nI nn) (sA 19 (fun _ => nI sd) (sA 16 (fun _ => nI uworstPlace_7) (sA 15 (fun _ => nI uworst_6) (sA 14 (fun _ => nI ufaultPlace_4) (sA 13 (fun _ => nI ufault_3) (sA 11 (fun _ => nI ut_5) g_m))))))) w_m)]) := hW.join
  have hbn27 := hp_2f.bnd
  refine z_iast (x := r_1) (f := g_m 36) (j := 5 * sd + PS.n s_ 3) (wn := (wj [(mw Y ad_m (sA 36 (upd (g_m 36) (5 * sd + PS.n s_ 3) r_1) (sA 20 (fun _ => nI nn) (sA 19 (fun _ => nI sd) (sA 16 (fun _ => nI uworstPlace_7) (sA 15 (fun _ => nI uworst_6) (sA 14 (fun _ => nI ufaultPlace_4) (sA 13 (fun _ => nI ufault_3) (sA 11 (fun _ => nI ut_5) g_m)))))))) w_m)])) hx hb hK.1 hW 23 0 rfl rfl (vp_in_nI (n := 5 * sd + PS.n s_ 3) (by omega) (by decide)) (nI_clamp (n := 5 * sd + PS.n s_ 3) (by omega)) dX12_tellWants_30 rfl (fun H locs hW => ?_)
  refine lv_iconst (v := 0) hx hb dX12_tellWants_31 (by decide) ?_
  refine lv_istore_n (lv' := [(2, .int 0), (1, .int (nI (5 * sd + PS.n s_ 3))), (0, .ref (ad_m 0))]) hx hb dX12_tellWants_32 rfl hl (by decide) rfl (fun ls hl => ?_)
  have loop_33 : ∀ (n : Nat) (i : Nat) (x_38_33 : Nat → Int32) (x_39_33 : Nat → Int32) (f1 : Nat) (fq1 : Nat) (t1 : Nat) (w1 : Nat) (p1 : Nat) (X_ : PO PS), 5 - i < n → (i ≤ 4) → (FM kd pl X_ f1 fq1 t1 w1 p1) → (PO.bd (paysB kd vl s_) (wantR kd vl nv 5 0) = PO.bd X_ (wantR kd vl nv (5 - i) i)) → (∀ s0, X_ = Except.ok s0 → PS.n s0 = PS.n s_ ∧ PS.lw s0 = PS.lw s_ ∧ PS.nm s0 = PS.nm s_ ∧ PS.at_ s_ ≤ PS.at_ s0 ∧ PS.t s0 9 = PS.t s_ 9 ∧ TMn sd (PS.n s_) (PS.t s0) (g_m 24) (g_m 25) (g_m 26) (g_m 27) (g_m 28) (g_m 29) (g_m 30) (g_m 31) (g_m 32) (g_m 33) (g_m 34) (g_m 35) (upd (g_m 36) (5 * sd + PS.n s_ 3) r_1) (g_m 37) x_38_33 x_39_33 (g_m 40) (g_m 41) (g_m 42) ∧ (upd (g_m 36) (5 * sd + PS.n s_ 3) r_1) (5 * sd + PS.n s_ 3) = PS.t s0 8 (PS.n s_ 3) ∧ ∀ k, k < i → x_38_33 (4 * (5 * sd + PS.n s_ 3) + k) = PS.t s0 10 (4 * PS.n s_ 3 + k) ∧ x_39_33 (4 * (5 * sd + PS.n s_ 3) + k) = PS.t s0 11 (4 * PS.n s_ 3 + k)) → (KR 20 sd (g_m 38) x_38_33) → (KR 20 sd (g_m 39) x_39_33) → ∀ (H : Heap) (locs : List Loc), zW D A s.heap H locs (wj [(mw Y ad_m (sA 39 x_39_33 (sA 38 x_38_33 (sA 36 (upd (g_m 36) (5 * sd + PS.n s_ 3) r_1) (sA 20 (fun _ => nI nn) (sA 19 (fun _ => nI sd) (sA 16 (fun _ => nI p1) (sA 15 (fun _ => nI w1) (sA 14 (fun _ => nI fq1) (sA 13 (fun _ => nI f1) (sA 11 (fun _ => nI t1) g_m)))))))))) w_m)]) → ∀ (ls : Array Slot), lv_has ls 6 [(2, .int (nI i)), (1, .int (nI (5 * sd + PS.n s_ 3))), (0, .ref (ad_m 0))] → W p l e (headSpec (ws_ yX12_tellWants cX12_tellWants 6 none) ({ frames := 5, cells := 0, slots := 0, locals := 97 })).room s m ([.ref (ad_m 0)] : List Value).toArray below meth c H locs 0 0 (MQ below (va_Qv (fun (u : (Nat) × (Nat) × (Nat) × (Nat) × (Nat) × (Nat → Int32) × (Nat → Int32) × (Nat → Int32) × (Nat → Int32) × (Nat → Int32)) => (FM kd pl (PO.bd (wantsB kd vl nv s_) (mustR kd 4)) u.1 u.2.1 u.2.2.1 u.2.2.2.1 u.2.2.2.2.1) ∧ (KR 1 sd (g_m 35) u.2.2.2.2.2.1 ∧ KR 5 sd (g_m 36) u.2.2.2.2.2.2.1 ∧ KR 5 sd (g_m 37) u.2.2.2.2.2.2.2.1 ∧ KR 20 sd (g_m 38) u.2.2.2.2.2.2.2.2.1 ∧ KR 20 sd (g_m 39) u.2.2.2.2.2.2.2.2.2 ∧ (∀ s5, PO.bd (wantsB kd vl nv s_) (mustR kd 4) = Except.ok s5 → TMn sd (PS.n s5) (PS.t s5) (g_m 24) (g_m 25) (g_m 26) (g_m 27) (g_m 28) (g_m 29) (g_m 30) (g_m 31) (g_m 32) (g_m 33) (g_m 34) u.2.2.2.2.2.1 u.2.2.2.2.2.2.1 u.2.2.2.2.2.2.2.1 u.2.2.2.2.2.2.2.2.1 u.2.2.2.2.2.2.2.2.2 (g_m 40) (g_m 41) (g_m 42) ∧ PS.nm s5 = PS.nm s_ ∧ PS.lw s5 = PS.lw s_ ∧ PS.at_ s_ ≤ PS.at_ s5))) (zB D (fun (u : (Nat) × (Nat) × (Nat) × (Nat) × (Nat) × (Nat → Int32) × (Nat → Int32) × (Nat → Int32) × (Nat → Int32) × (Nat → Int32)) => (wj [(mw Y ad_m (sA 39 u.2.2.2.2.2.2.2.2.2 (sA 38 u.2.2.2.2.2.2.2.2.1 (sA 37 u.2.2.2.2.2.2.2.1 (sA 36 u.2.2.2.2.2.2.1 (sA 35 u.2.2.2.2.2.1 (sA 20 (fun _ => nI nn) (sA 19 (fun _ => nI sd) (sA 16 (fun _ => nI u.2.2.2.2.1) (sA 15 (fun _ => nI u.2.2.2.1) (sA 14 (fun _ => nI u.2.1) (sA 13 (fun _ => nI u.1) (sA 11 (fun _ => nI u.2.2.1) g_m)))))))))))) w_m)])) A) A) ([.ref (ad_m 0)] : List Value).toArray s 0 0 A) (F0 m 33 ls []) := by
    intro n
    induction n with
    | zero =>
      intro i x_38_33 x_39_33 f1 fq1 t1 w1 p1 X_ hmz
      exact absurd hmz (Nat.not_lt_zero _)
    | succ n ih =>
      intro i x_38_33 x_39_33 f1 fq1 t1 w1 p1 X_ hm_33 hi hF hEq hS hR38 hR39 H locs hW ls hl
      have ih_33 := ih
      clear ih
      have hbl := hF.bnd
      have hkl := hTK.kb t1
      have hpl := hTK.pb t1
      refine lv_aload_n hx hb dX12_tellWants_33 rfl (lv_at hl 2 rfl) ?_
      refine va_get (v := .int (nI f1)) (C := RX12) (T := TX12) (N := 75) (ci := 11) hx hb hts in_X12 hown hK.1 hW.1 0 rfl rfl 13 (by decide) (hts _ q1649) (fun _ h9 => h9) rfl dX12_tellWants_34 ?_
      refine lv_if_ne (tgt := 156) hx hb dX12_tellWants_37 (by decide) (fun c_8 => ?_) (fun c_8 => ?_)
      · have c_8 : ¬ (f1 = 0) := fun hz_ => c_8 ((nI_eq (a := f1) (b := 0) (by omega) (by omega)).mpr hz_)
        refine lv_aload_n hx hb dX12_tellWants_156 rfl (lv_at hl 2 rfl) ?_
        refine lv_iconst (v := 4) hx hb dX12_tellWants_157 (by decide) ?_
        refine z_callv (wc := wj [(mw Y ad_m (sA 39 x_39_33 (sA 38 x_38_33 (sA 36 (upd (g_m 36) (5 * sd + PS.n s_ 3) r_1) (sA 20 (fun _ => nI nn) (sA 19 (fun _ => nI sd) (sA 16 (fun _ => nI p1) (sA 15 (fun _ => nI w1) (sA 14 (fun _ => nI fq1) (sA 13 (fun _ => nI f1) (sA 11 (fun _ => nI t1) g_m)))))))))) w_m)]) (wr := wj []) (va_runV (As := [.int 4]) (rest := []) ⟨hx, hb, hml, hown, hts⟩ (m_X12_must l D Y ad_m (sA 39 x_39_33 (sA 38 x_38_33 (sA 36 (upd (g_m 36) (5 * sd + PS.n s_ 3) r_1) (sA 20 (fun _ => nI nn) (sA 19 (fun _ => nI sd) (sA 16 (fun _ => nI p1) (sA 15 (fun _ => nI w1) (sA 14 (fun _ => nI fq1) (sA 13 (fun _ => nI f1) (sA 11 (fun _ => nI t1) g_m)))))))))) w_m kd pl vl nv X_ f1 fq1 t1 w1 p1 4 H.size (show TKR kd pl vl nv (g_m 5) (g_m 6) (g_m 7) (w_m 8) from by first | assumption | omega | grind) (show FM kd pl X_ f1 fq1 t1 w1 p1 from by first | assumption | omega | grind) (show 4 < 100 ∧ 4 ≠ 0 ∧ 4 ≠ 3 from by first | assumption | omega | grind)) (cwV 1 hts (lw_V q1929 q1931 qs69 q133 q1932) rfl rfl rfl (by decide +kernel) ⟨Nat.le_of_ble_eq_true rfl, Nat.le_of_ble_eq_true rfl⟩) (zPreV hK hW hR (wj_split3 (B := [(mw Y ad_m (sA 39 x_39_33 (sA 38 x_38_33 (sA 36 (upd (g_m 36) (5 * sd + PS.n s_ 3) r_1) (sA 20 (fun _ => nI nn) (sA 19 (fun _ => nI sd) (sA 16 (fun _ => nI p1) (sA 15 (fun _ => nI w1) (sA 14 (fun _ => nI fq1) (sA 13 (fun _ => nI f1) (sA 11 (fun _ => nI t1) g_m)))))))))) w_m)]) (R := []) (C := [(mw Y ad_m (sA 39 x_39_33 (sA 38 x_38_33 (sA 36 (upd (g_m 36) (5 * sd + PS.n s_ 3) r_1) (sA 20 (fun _ => nI nn) (sA 19 (fun _ => nI sd) (sA 16 (fun _ => nI p1) (sA 15 (fun _ => nI w1) (sA 14 (fun _ => nI fq1) (sA 13 (fun _ => nI f1) (sA 11 (fun _ => nI t1) g_m)))))))))) w_m)]) (O := []) (X := []) (List.Perm.refl _)) (va_recv hK.1 hW.1 (ci := 11) (q0 := 0) rfl rfl)) rfl rfl hl.1 rfl (lv_room (Nat.le_of_ble_eq_true rfl)) dX12_tellWants_158 ⟨Nat.le_refl _, Nat.le_refl _⟩) hW hA (wj_split (B := [(mw Y ad_m (sA 39 x_39_33 (sA 38 x_38_33 (sA 36 (upd (g_m 36) (5 * sd + PS.n s_ 3) r_1) (sA 20 (fun _ => nI nn) (sA 19 (fun _ => nI sd) (sA 16 (fun _ => nI p1) (sA 15 (fun _ => nI w1) (sA 14 (fun _ => nI fq1) (sA 13 (fun _ => nI f1) (sA 11 (fun _ => nI t1) g_m)))))))))) w_m)]) (C := [(mw Y ad_m (sA 39 x_39_33 (sA 38 x_38_33 (sA 36 (upd (g_m 36) (5 * sd + PS.n s_ 3) r_1) (sA 20 (fun _ => nI nn) (sA 19 (fun _ => nI sd) (sA 16 (fun _ => nI p1) (sA 15 (fun _ => nI w1) (sA 14 (fun _ => nI fq1) (sA 13 (fun _ => nI f1) (sA 11 (fun _ => nI t1) g_m)))))))))) w_m)]) (R := []) (List.Perm.refl _)) (fun  u H locs hp_10 hW => ?_)
        obtain ⟨ufault_11, ufaultPlace_12, ut_13⟩ := u
        have hp_10 : FM kd pl (PO.bd X_ (mustR kd 4)) ufault_11 ufaultPlace_12 ut_13 w1 p1 := hp_10
        have hW : zW D A s.heap H locs (wj [(mw Y ad_m (sA 39 x_39_33 (sA 38 x_38_33 (sA 36 (upd (g_m 36) (5 * sd + PS.n s_ 3) r_1) (sA 20 (fun _ => nI nn) (sA 19 (fun _ => nI sd) (sA 16 (fun _ => nI p1) (sA 15 (fun _ => nI w1) (sA 14 (fun _ => nI ufaultPlace_12) (sA 13 (fun _ => nI ufault_11) (sA 11 (fun _ => nI ut_13) g_m)))))))))) w_m)]) := hW.join
        have hbn158 := hp_10.bnd
        refine lv_aload_n hx hb dX12_tellWants_161 rfl (lv_at hl 2 rfl) ?_
        refine va_get (v := .ref (ad_m 37)) (C := RX12) (T := TX12) (N := 75) (ci := 11) hx hb hts in_X12 hown hK.1 hW.1 0 rfl rfl 37 (by decide) (hts _ q1673) (fun _ h9 => h9) rfl dX12_tellWants_162 ?_
        refine lv_iload_n hx hb dX12_tellWants_165 rfl (lv_at hl 1 rfl) ?_
        refine lv_iload_n hx hb dX12_tellWants_166 rfl (lv_at hl 0 rfl) ?_
        refine z_iast (x := nI i) (f := g_m 37) (j := 5 * sd + PS.n s_ 3) (wn := (wj [(mw Y ad_m (sA 39 x_39_33 (sA 38 x_38_33 (sA 37 (upd (g_m 37) (5 * sd + PS.n s_ 3) (nI i)) (sA 36 (upd (g_m 36) (5 * sd + PS.n s_ 3) r_1) (sA 20 (fun _ => nI nn) (sA 19 (fun _ => nI sd) (sA 16 (fun _ => nI p1) (sA 15 (fun _ => nI w1) (sA 14 (fun _ => nI ufaultPlace_12) (sA 13 (fun _ => nI ufault_11) (sA 11 (fun _ => nI ut_13) g_m))))))))))) w_m)])) hx hb hK.1 hW 24 0 rfl rfl (vp_in_nI (n := 5 * sd + PS.n s_ 3) (by omega) (by decide)) (nI_clamp (n := 5 * sd + PS.n s_ 3) (by omega)) dX12_tellWants_167 rfl (fun H locs hW => ?_)
        refine lv_aload_n hx hb dX12_tellWants_168 rfl (lv_at hl 2 rfl) ?_
        refine va_get (v := .int (nI ufault_11)) (C := RX12) (T := TX12) (N := 75) (ci := 11) hx hb hts in_X12 hown hK.1 hW.1 0 rfl rfl 13 (by decide) (hts _ q1649) (fun _ h9 => h9) rfl dX12_tellWants_169 ?_
        refine lv_if_ne (tgt := 188) hx hb dX12_tellWants_172 (by decide) (fun c_14 => ?_) (fun c_14 => ?_)
        · have c_14 : ¬ (ufault_11 = 0) := fun hz_ => c_14 ((nI_eq (a := ufault_11) (b := 0) (by omega) (by omega)).mpr hz_)
          refine z_vret ((ufault_11, ufaultPlace_12, ut_13, w1, p1, g_m 35, upd (g_m 36) (5 * sd + PS.n s_ 3) r_1, upd (g_m 37) (5 * sd + PS.n s_ 3) (nI i), x_38_33, x_39_33) : (Nat) × (Nat) × (Nat) × (Nat) × (Nat) × (Nat → Int32) × (Nat → Int32) × (Nat → Int32) × (Nat → Int32) × (Nat → Int32)) hx hb hr hlocks hW rfl dX12_tellWants_188 ?_
          show (FM kd pl (PO.bd (wantsB kd vl nv s_) (mustR kd 4)) ufault_11 ufaultPlace_12 ut_13 w1 p1) ∧ (KR 1 sd (g_m 35) (g_m 35) ∧ KR 5 sd (g_m 36) (upd (g_m 36) (5 * sd + PS.n s_ 3) r_1) ∧ KR 5 sd (g_m 37) (upd (g_m 37) (5 * sd + PS.n s_ 3) (nI i)) ∧ KR 20 sd (g_m 38) x_38_33 ∧ KR 20 sd (g_m 39) x_39_33 ∧ (∀ s5, PO.bd (wantsB kd vl nv s_) (mustR kd 4) = Except.ok s5 → TMn sd (PS.n s5) (PS.t s5) (g_m 24) (g_m 25) (g_m 26) (g_m 27) (g_m 28) (g_m 29) (g_m 30) (g_m 31) (g_m 32) (g_m 33) (g_m 34) (g_m 35) (upd (g_m 36) (5 * sd + PS.n s_ 3) r_1) (upd (g_m 37) (5 * sd + PS.n s_ 3) (nI i)) x_38_33 x_39_33 (g_m 40) (g_m 41) (g_m 42) ∧ PS.nm s5 = PS.nm s_ ∧ PS.lw s5 = PS.lw s_ ∧ PS.at_ s_ ≤ PS.at_ s5))
          obtain ⟨e9, he9, -⟩ := hF.er (by omega)
          have hfin : PO.bd (wantsB kd vl nv s_) (mustR kd 4) = Except.error e9 := by
            show PO.bd (PO.bd (paysB kd vl s_) (fun s => PO.bd (wantR kd vl nv 5 0 s) endW)) _ = _
            rw [← bd_bd (paysB kd vl s_), hEq, he9]; rfl
          have H9 := hp_10
          rw [he9] at H9
          refine ⟨?_, ?_⟩
          · rw [hfin]; exact H9
          · refine ⟨KR.refl _ _ _, KR.put (KR.refl _ _ _) (by omega) (by omega) _, KR.put (KR.refl _ _ _) (by omega) (by omega) _, hR38, hR39, fun s5 h5 => ?_⟩
            rw [hfin] at h5
            cases h5
        · have c_14 : ufault_11 = 0 := (nI_eq (a := ufault_11) (b := 0) (by omega) (by omega)).mp c_14
          exact (by have z9 := hp_10; rw [(hF.er (by omega)).choose_spec.1] at z9; exact absurd z9.2.2.2.2.2.2.1 (by omega))
      · have c_8 : f1 = 0 := (nI_eq (a := f1) (b := 0) (by omega) (by omega)).mp c_8
        refine lv_aload_n hx hb dX12_tellWants_40 rfl (lv_at hl 2 rfl) ?_
        refine lv_iconst (v := 1) hx hb dX12_tellWants_41 (by decide) ?_
        refine z_calli (wc := wj [(mw Y ad_m (sA 39 x_39_33 (sA 38 x_38_33 (sA 36 (upd (g_m 36) (5 * sd + PS.n s_ 3) r_1) (sA 20 (fun _ => nI nn) (sA 19 (fun _ => nI sd) (sA 16 (fun _ => nI p1) (sA 15 (fun _ => nI w1) (sA 14 (fun _ => nI fq1) (sA 13 (fun _ => nI f1) (sA 11 (fun _ => nI t1) g_m)))))))))) w_m)]) (wr := wj []) (va_runV (As := [.int 1]) (rest := []) ⟨hx, hb, hml, hown, hts⟩ (m_X12_isF l D Y ad_m (sA 39 x_39_33 (sA 38 x_38_33 (sA 36 (upd (g_m 36) (5 * sd + PS.n s_ 3) r_1) (sA 20 (fun _ => nI nn) (sA 19 (fun _ => nI sd) (sA 16 (fun _ => nI p1) (sA 15 (fun _ => nI w1) (sA 14 (fun _ => nI fq1) (sA 13 (fun _ => nI f1) (sA 11 (fun _ => nI t1) g_m)))))))))) w_m kd pl vl nv f1 t1 1 H.size (show TKR kd pl vl nv (g_m 5) (g_m 6) (g_m 7) (w_m 8) from by first | assumption | omega | grind) (show t1 ≤ 400 from by first | assumption | omega | grind) (show f1 = 0 → OKP kd t1 from by exact fun z => FM.okp (by assumption) z) (show 1 < 100 from by first | assumption | omega | grind) (show f1 ≤ 2 from by first | assumption | omega | grind)) (cwV 1 hts (lw_V q1901 q1903 qs62 q133 q1904) rfl rfl rfl (by decide +kernel) ⟨Nat.le_of_ble_eq_true rfl, Nat.le_of_ble_eq_true rfl⟩) (zPreV hK hW hR (wj_split3 (B := [(mw Y ad_m (sA 39 x_39_33 (sA 38 x_38_33 (sA 36 (upd (g_m 36) (5 * sd + PS.n s_ 3) r_1) (sA 20 (fun _ => nI nn) (sA 19 (fun _ => nI sd) (sA 16 (fun _ => nI p1) (sA 15 (fun _ => nI w1) (sA 14 (fun _ => nI fq1) (sA 13 (fun _ => nI f1) (sA 11 (fun _ => nI t1) g_m)))))))))) w_m)]) (R := []) (C := [(mw Y ad_m (sA 39 x_39_33 (sA 38 x_38_33 (sA 36 (upd (g_m 36) (5 * sd + PS.n s_ 3) r_1) (sA 20 (fun _ => nI nn) (sA 19 (fun _ => nI sd) (sA 16 (fun _ => nI p1) (sA 15 (fun _ => nI w1) (sA 14 (fun _ => nI fq1) (sA 13 (fun _ => nI f1) (sA 11 (fun _ => nI t1) g_m)))))))))) w_m)]) (O := []) (X := []) (List.Perm.refl _)) (va_recv hK.1 hW.1 (ci := 11) (q0 := 0) rfl rfl)) rfl rfl hl.1 rfl (lv_room (Nat.le_of_ble_eq_true rfl)) dX12_tellWants_42 ⟨Nat.le_refl _, Nat.le_refl _⟩) hW hA (wj_split (B := [(mw Y ad_m (sA 39 x_39_33 (sA 38 x_38_33 (sA 36 (upd (g_m 36) (5 * sd + PS.n s_ 3) r_1) (sA 20 (fun _ => nI nn) (sA 19 (fun _ => nI sd) (sA 16 (fun _ => nI p1) (sA 15 (fun _ => nI w1) (sA 14 (fun _ => nI fq1) (sA 13 (fun _ => nI f1) (sA 11 (fun _ => nI t1) g_m)))))))))) w_m)]) (C := [(mw Y ad_m (sA 39 x_39_33 (sA 38 x_38_33 (sA 36 (upd (g_m 36) (5 * sd + PS.n s_ 3) r_1) (sA 20 (fun _ => nI nn) (sA 19 (fun _ => nI sd) (sA 16 (fun _ => nI p1) (sA 15 (fun _ => nI w1) (sA 14 (fun _ => nI fq1) (sA 13 (fun _ => nI f1) (sA 11 (fun _ => nI t1) g_m)))))))))) w_m)]) (R := []) (List.Perm.refl _)) (fun r_15 u H locs hp_16 hW => ?_)
        have hp_16 : r_15 = zb (f1 = 0 ∧ kd t1 = 1) := hp_16
        have hW : zW D A s.heap H locs (wj [(mw Y ad_m (sA 39 x_39_33 (sA 38 x_38_33 (sA 36 (upd (g_m 36) (5 * sd + PS.n s_ 3) r_1) (sA 20 (fun _ => nI nn) (sA 19 (fun _ => nI sd) (sA 16 (fun _ => nI p1) (sA 15 (fun _ => nI w1) (sA 14 (fun _ => nI fq1) (sA 13 (fun _ => nI f1) (sA 11 (fun _ => nI t1) g_m)))))))))) w_m)]) := hW.join
        refine lv_if_eq (tgt := 156) hx hb dX12_tellWants_45 (by decide) (fun c_17 => ?_) (fun c_17 => ?_)
        · have c_17 : ¬ (f1 = 0 ∧ kd t1 = 1) := zb_eq hp_16 c_17
          refine lv_aload_n hx hb dX12_tellWants_156 rfl (lv_at hl 2 rfl) ?_
          refine lv_iconst (v := 4) hx hb dX12_tellWants_157 (by decide) ?_
          refine z_callv (wc := wj [(mw Y ad_m (sA 39 x_39_33 (sA 38 x_38_33 (sA 36 (upd (g_m 36) (5 * sd + PS.n s_ 3) r_1) (sA 20 (fun _ => nI nn) (sA 19 (fun _ => nI sd) (sA 16 (fun _ => nI p1) (sA 15 (fun _ => nI w1) (sA 14 (fun _ => nI fq1) (sA 13 (fun _ => nI f1) (sA 11 (fun _ => nI t1) g_m)))))))))) w_m)]) (wr := wj []) (va_runV (As := [.int 4]) (rest := []) ⟨hx, hb, hml, hown, hts⟩ (m_X12_must l D Y ad_m (sA 39 x_39_33 (sA 38 x_38_33 (sA 36 (upd (g_m 36) (5 * sd + PS.n s_ 3) r_1) (sA 20 (fun _ => nI nn) (sA 19 (fun _ => nI sd) (sA 16 (fun _ => nI p1) (sA 15 (fun _ => nI w1) (sA 14 (fun _ => nI fq1) (sA 13 (fun _ => nI f1) (sA 11 (fun _ => nI t1) g_m)))))))))) w_m kd pl vl nv X_ f1 fq1 t1 w1 p1 4 H.size (show TKR kd pl vl nv (g_m 5) (g_m 6) (g_m 7) (w_m 8) from by first | assumption | omega | grind) (show FM kd pl X_ f1 fq1 t1 w1 p1 from by first | assumption | omega | grind) (show 4 < 100 ∧ 4 ≠ 0 ∧ 4 ≠ 3 from by first | assumption | omega | grind)) (cwV 1 hts (lw_V q1929 q1931 qs69 q133 q1932) rfl rfl rfl (by decide +kernel) ⟨Nat.le_of_ble_eq_true rfl, Nat.le_of_ble_eq_true rfl⟩) (zPreV hK hW hR (wj_split3 (B := [(mw Y ad_m (sA 39 x_39_33 (sA 38 x_38_33 (sA 36 (upd (g_m 36) (5 * sd + PS.n s_ 3) r_1) (sA 20 (fun _ => nI nn) (sA 19 (fun _ => nI sd) (sA 16 (fun _ => nI p1) (sA 15 (fun _ => nI w1) (sA 14 (fun _ => nI fq1) (sA 13 (fun _ => nI f1) (sA 11 (fun _ => nI t1) g_m)))))))))) w_m)]) (R := []) (C := [(mw Y ad_m (sA 39 x_39_33 (sA 38 x_38_33 (sA 36 (upd (g_m 36) (5 * sd + PS.n s_ 3) r_1) (sA 20 (fun _ => nI nn) (sA 19 (fun _ => nI sd) (sA 16 (fun _ => nI p1) (sA 15 (fun _ => nI w1) (sA 14 (fun _ => nI fq1) (sA 13 (fun _ => nI f1) (sA 11 (fun _ => nI t1) g_m)))))))))) w_m)]) (O := []) (X := []) (List.Perm.refl _)) (va_recv hK.1 hW.1 (ci := 11) (q0 := 0) rfl rfl)) rfl rfl hl.1 rfl (lv_room (Nat.le_of_ble_eq_true rfl)) dX12_tellWants_158 ⟨Nat.le_refl _, Nat.le_refl _⟩) hW hA (wj_split (B := [(mw Y ad_m (sA 39 x_39_33 (sA 38 x_38_33 (sA 36 (upd (g_m 36) (5 * sd + PS.n s_ 3) r_1) (sA 20 (fun _ => nI nn) (sA 19 (fun _ => nI sd) (sA 16 (fun _ => nI p1) (sA 15 (fun _ => nI w1) (sA 14 (fun _ => nI fq1) (sA 13 (fun _ => nI f1) (sA 11 (fun _ => nI t1) g_m)))))))))) w_m)]) (C := [(mw Y ad_m (sA 39 x_39_33 (sA 38 x_38_33 (sA 36 (upd (g_m 36) (5 * sd + PS.n s_ 3) r_1) (sA 20 (fun _ => nI nn) (sA 19 (fun _ => nI sd) (sA 16 (fun _ => nI p1) (sA 15 (fun _ => nI w1) (sA 14 (fun _ => nI fq1) (sA 13 (fun _ => nI f1) (sA 11 (fun _ => nI t1) g_m)))))))))) w_m)]) (R := []) (List.Perm.refl _)) (fun  u H locs hp_19 hW => ?_)
          obtain ⟨ufault_20, ufaultPlace_21, ut_22⟩ := u
          have hp_19 : FM kd pl (PO.bd X_ (mustR kd 4)) ufault_20 ufaultPlace_21 ut_22 w1 p1 := hp_19
          have hW : zW D A s.heap H locs (wj [(mw Y ad_m (sA 39 x_39_33 (sA 38 x_38_33 (sA 36 (upd (g_m 36) (5 * sd + PS.n s_ 3) r_1) (sA 20 (fun _ => nI nn) (sA 19 (fun _ => nI sd) (sA 16 (fun _ => nI p1) (sA 15 (fun _ => nI w1) (sA 14 (fun _ => nI ufaultPlace_21) (sA 13 (fun _ => nI ufault_20) (sA 11 (fun _ => nI ut_22) g_m)))))))))) w_m)]) := hW.join
          have hbn158 := hp_19.bnd
          refine lv_aload_n hx hb dX12_tellWants_161 rfl (lv_at hl 2 rfl) ?_
          refine va_get (v := .ref (ad_m 37)) (C := RX12) (T := TX12) (N := 75) (ci := 11) hx hb hts in_X12 hown hK.1 hW.1 0 rfl rfl 37 (by decide) (hts _ q1673) (fun _ h9 => h9) rfl dX12_tellWants_162 ?_
          refine lv_iload_n hx hb dX12_tellWants_165 rfl (lv_at hl 1 rfl) ?_
          refine lv_iload_n hx hb dX12_tellWants_166 rfl (lv_at hl 0 rfl) ?_
          refine z_iast (x := nI i) (f := g_m 37) (j := 5 * sd + PS.n s_ 3) (wn := (wj [(mw Y ad_m (sA 39 x_39_33 (sA 38 x_38_33 (sA 37 (upd (g_m 37) (5 * sd + PS.n s_ 3) (nI i)) (sA 36 (upd (g_m 36) (5 * sd + PS.n s_ 3) r_1) (sA 20 (fun _ => nI nn) (sA 19 (fun _ => nI sd) (sA 16 (fun _ => nI p1) (sA 15 (fun _ => nI w1) (sA 14 (fun _ => nI ufaultPlace_21) (sA 13 (fun _ => nI ufault_20) (sA 11 (fun _ => nI ut_22) g_m))))))))))) w_m)])) hx hb hK.1 hW 24 0 rfl rfl (vp_in_nI (n := 5 * sd + PS.n s_ 3) (by omega) (by decide)) (nI_clamp (n := 5 * sd + PS.n s_ 3) (by omega)) dX12_tellWants_167 rfl (fun H locs hW => ?_)
          refine lv_aload_n hx hb dX12_tellWants_168 rfl (lv_at hl 2 rfl) ?_
          refine va_get (v := .int (nI ufault_20)) (C := RX12) (T := TX12) (N := 75) (ci := 11) hx hb hts in_X12 hown hK.1 hW.1 0 rfl rfl 13 (by decide) (hts _ q1649) (fun _ h9 => h9) rfl dX12_tellWants_169 ?_
          refine lv_if_ne (tgt := 188) hx hb dX12_tellWants_172 (by decide) (fun c_23 => ?_) (fun c_23 => ?_)
          · have c_23 : ¬ (ufault_20 = 0) := fun hz_ => c_23 ((nI_eq (a := ufault_20) (b := 0) (by omega) (by omega)).mpr hz_)
            refine z_vret ((ufault_20, ufaultPlace_21, ut_22, w1, p1, g_m 35, upd (g_m 36) (5 * sd + PS.n s_ 3) r_1, upd (g_m 37) (5 * sd + PS.n s_ 3) (nI i), x_38_33, x_39_33) : (Nat) × (Nat) × (Nat) × (Nat) × (Nat) × (Nat → Int32) × (Nat → Int32) × (Nat → Int32) × (Nat → Int32) × (Nat → Int32)) hx hb hr hlocks hW rfl dX12_tellWants_188 ?_
            show (FM kd pl (PO.bd (wantsB kd vl nv s_) (mustR kd 4)) ufault_20 ufaultPlace_21 ut_22 w1 p1) ∧ (KR 1 sd (g_m 35) (g_m 35) ∧ KR 5 sd (g_m 36) (upd (g_m 36) (5 * sd + PS.n s_ 3) r_1) ∧ KR 5 sd (g_m 37) (upd (g_m 37) (5 * sd + PS.n s_ 3) (nI i)) ∧ KR 20 sd (g_m 38) x_38_33 ∧ KR 20 sd (g_m 39) x_39_33 ∧ (∀ s5, PO.bd (wantsB kd vl nv s_) (mustR kd 4) = Except.ok s5 → TMn sd (PS.n s5) (PS.t s5) (g_m 24) (g_m 25) (g_m 26) (g_m 27) (g_m 28) (g_m 29) (g_m 30) (g_m 31) (g_m 32) (g_m 33) (g_m 34) (g_m 35) (upd (g_m 36) (5 * sd + PS.n s_ 3) r_1) (upd (g_m 37) (5 * sd + PS.n s_ 3) (nI i)) x_38_33 x_39_33 (g_m 40) (g_m 41) (g_m 42) ∧ PS.nm s5 = PS.nm s_ ∧ PS.lw s5 = PS.lw s_ ∧ PS.at_ s_ ≤ PS.at_ s5))
            obtain ⟨s0, hx0, a1, a2, a3, a4⟩ := hF.ok (by omega)
            obtain ⟨S1, S2, S3, S4, S5, S6, S7, S8⟩ := hS s0 hx0
            have hk1s : ¬ kd (PS.at_ s0) = 1 := by rw [← a1]; omega
            have hmm : PO.bd (wantsB kd vl nv s_) (mustR kd 4) = (mustR kd 4 s0).bd fun s4 => Except.ok (s4.tx (nS 3 (PS.n s_ 3 + 1) (PS.n s_)) (sU 9 (PS.n s_ 3) (nI i) (PS.t s0)) (PS.lw s_) (PS.nm s_)) := by
              show PO.bd (PO.bd (paysB kd vl s_) (fun s => PO.bd (wantR kd vl nv 5 0 s) endW)) _ = _
              rw [← bd_bd (paysB kd vl s_), hEq, hx0, show 5 - i = (4 - i) + 1 by omega]
              show PO.bd (PO.bd (wantR kd vl nv (4 - i + 1) i s0) endW) _ = _
              by_cases h4 : kd (PS.at_ s0) = 4
              · rw [wantR_4 h4]
                show mustR kd 4 (s0.tx _ _ _ _) = _
                rw [must_tx, S1, S2, S3]
              · rw [wantR_bad h4 hk1s]
                unfold mustR; rw [if_neg h4]; rfl
            have H9 := hp_19
            rw [show PO.bd X_ (mustR kd 4) = mustR kd 4 s0 by rw [hx0]; rfl] at H9
            refine ⟨?_, ?_⟩
            · rw [hmm]
              cases hm4 : mustR kd 4 s0 with
              | error e => rw [hm4] at H9; exact H9
              | ok s4 => rw [hm4] at H9; exact H9.tx _ _ _ _
            · refine ⟨KR.refl _ _ _, KR.put (KR.refl _ _ _) (by omega) (by omega) _, KR.put (KR.refl _ _ _) (by omega) (by omega) _, hR38, hR39, fun s5 h5 => ?_⟩
              rw [hmm] at h5
              obtain ⟨s4, h6, -⟩ := bd_good h5
              rw [h6] at H9
              exact absurd H9.sv.1 (by omega)
          · have c_23 : ufault_20 = 0 := (nI_eq (a := ufault_20) (b := 0) (by omega) (by omega)).mp c_23
            refine lv_aload_n hx hb dX12_tellWants_175 rfl (lv_at hl 2 rfl) ?_
            refine va_get (v := .ref (ad_m 35)) (C := RX12) (T := TX12) (N := 75) (ci := 11) hx hb hts in_X12 hown hK.1 hW.1 0 rfl rfl 35 (by decide) (hts _ q1671) (fun _ h9 => h9) rfl dX12_tellWants_176 ?_
            refine lv_aload_n hx hb dX12_tellWants_179 rfl (lv_at hl 2 rfl) ?_
            refine va_get (v := .int (nI sd)) (C := RX12) (T := TX12) (N := 75) (ci := 11) hx hb hts in_X12 hown hK.1 hW.1 0 rfl rfl 19 (by decide) (hts _ q1655) (fun _ h9 => h9) rfl dX12_tellWants_180 ?_
            refine lv_dup2_11 hx hb dX12_tellWants_183 rfl rfl ?_
            refine z_iald (v := nI (PS.n s_ 3)) (f := g_m 35) (j := sd) hx hb hK.1 hW.1 22 0 rfl rfl (vp_in_nI (n := sd) (by omega) (by decide)) (nI_clamp (n := sd) (by omega)) (TMn.c35 hTM) dX12_tellWants_184 ?_
            refine lv_iconst (v := 1) hx hb dX12_tellWants_185 (by decide) ?_
            refine lv_iadd hx hb dX12_tellWants_186 ?_
            refine lv_topi (nm_r (e' := nI (PS.n s_ 3 + 1)) (nI_add (PS.n s_ 3) 1) ?_)
            refine z_iast (x := nI (PS.n s_ 3 + 1)) (f := g_m 35) (j := sd) (wn := (wj [(mw Y ad_m (sA 39 x_39_33 (sA 38 x_38_33 (sA 37 (upd (g_m 37) (5 * sd + PS.n s_ 3) (nI i)) (sA 36 (upd (g_m 36) (5 * sd + PS.n s_ 3) r_1) (sA 35 (upd (g_m 35) sd (nI (PS.n s_ 3 + 1))) (sA 20 (fun _ => nI nn) (sA 19 (fun _ => nI sd) (sA 16 (fun _ => nI p1) (sA 15 (fun _ => nI w1) (sA 14 (fun _ => nI ufaultPlace_21) (sA 13 (fun _ => nI ufault_20) (sA 11 (fun _ => nI ut_22) g_m)))))))))))) w_m)])) hx hb hK.1 hW 22 0 rfl rfl (vp_in_nI (n := sd) (by omega) (by decide)) (nI_clamp (n := sd) (by omega)) dX12_tellWants_187 rfl (fun H locs hW => ?_)
            refine z_vret ((ufault_20, ufaultPlace_21, ut_22, w1, p1, upd (g_m 35) sd (nI (PS.n s_ 3 + 1)), upd (g_m 36) (5 * sd + PS.n s_ 3) r_1, upd (g_m 37) (5 * sd + PS.n s_ 3) (nI i), x_38_33, x_39_33) : (Nat) × (Nat) × (Nat) × (Nat) × (Nat) × (Nat → Int32) × (Nat → Int32) × (Nat → Int32) × (Nat → Int32) × (Nat → Int32)) hx hb hr hlocks hW rfl dX12_tellWants_188 ?_
            show (FM kd pl (PO.bd (wantsB kd vl nv s_) (mustR kd 4)) ufault_20 ufaultPlace_21 ut_22 w1 p1) ∧ (KR 1 sd (g_m 35) (upd (g_m 35) sd (nI (PS.n s_ 3 + 1))) ∧ KR 5 sd (g_m 36) (upd (g_m 36) (5 * sd + PS.n s_ 3) r_1) ∧ KR 5 sd (g_m 37) (upd (g_m 37) (5 * sd + PS.n s_ 3) (nI i)) ∧ KR 20 sd (g_m 38) x_38_33 ∧ KR 20 sd (g_m 39) x_39_33 ∧ (∀ s5, PO.bd (wantsB kd vl nv s_) (mustR kd 4) = Except.ok s5 → TMn sd (PS.n s5) (PS.t s5) (g_m 24) (g_m 25) (g_m 26) (g_m 27) (g_m 28) (g_m 29) (g_m 30) (g_m 31) (g_m 32) (g_m 33) (g_m 34) (upd (g_m 35) sd (nI (PS.n s_ 3 + 1))) (upd (g_m 36) (5 * sd + PS.n s_ 3) r_1) (upd (g_m 37) (5 * sd + PS.n s_ 3) (nI i)) x_38_33 x_39_33 (g_m 40) (g_m 41) (g_m 42) ∧ PS.nm s5 = PS.nm s_ ∧ PS.lw s5 = PS.lw s_ ∧ PS.at_ s_ ≤ PS.at_ s5))
            obtain ⟨s0, hx0, a1, a2, a3, a4⟩ := hF.ok (by omega)
            obtain ⟨S1, S2, S3, S4, S5, S6, S7, S8⟩ := hS s0 hx0
            have hk1s : ¬ kd (PS.at_ s0) = 1 := by rw [← a1]; omega
            have hmm : PO.bd (wantsB kd vl nv s_) (mustR kd 4) = (mustR kd 4 s0).bd fun s4 => Except.ok (s4.tx (nS 3 (PS.n s_ 3 + 1) (PS.n s_)) (sU 9 (PS.n s_ 3) (nI i) (PS.t s0)) (PS.lw s_) (PS.nm s_)) := by
              show PO.bd (PO.bd (paysB kd vl s_) (fun s => PO.bd (wantR kd vl nv 5 0 s) endW)) _ = _
              rw [← bd_bd (paysB kd vl s_), hEq, hx0, show 5 - i = (4 - i) + 1 by omega]
              show PO.bd (PO.bd (wantR kd vl nv (4 - i + 1) i s0) endW) _ = _
              by_cases h4 : kd (PS.at_ s0) = 4
              · rw [wantR_4 h4]
                show mustR kd 4 (s0.tx _ _ _ _) = _
                rw [must_tx, S1, S2, S3]
              · rw [wantR_bad h4 hk1s]
                unfold mustR; rw [if_neg h4]; rfl
            have H9 := hp_19
            rw [show PO.bd X_ (mustR kd 4) = mustR kd 4 s0 by rw [hx0]; rfl] at H9
            refine ⟨?_, ?_⟩
            · rw [hmm]
              cases hm4 : mustR kd 4 s0 with
              | error e => rw [hm4] at H9; exact H9
              | ok s4 => rw [hm4] at H9; exact H9.tx _ _ _ _
            · refine ⟨KR.put (KR.refl _ _ _) (by omega) (by omega) _, KR.put (KR.refl _ _ _) (by omega) (by omega) _, KR.put (KR.refl _ _ _) (by omega) (by omega) _, hR38, hR39, fun s5 h5 => ?_⟩
              rw [hmm] at h5
              obtain ⟨s4, h6, h7⟩ := bd_good h5
              injection h7 with h7
              rw [← h7]
              obtain ⟨-, e6, -⟩ := must_good h6
              have a6 := e6.2.2.2.2.1
              refine ⟨S6.merch hi S7 S8, rfl, rfl, by show PS.at_ s_ ≤ PS.at_ s4; omega⟩
        · have c_17 : f1 = 0 ∧ kd t1 = 1 := zb_ne hp_16 c_17
          refine lv_iload_n hx hb dX12_tellWants_48 rfl (lv_at hl 0 rfl) ?_
          refine lv_iconst (v := 4) hx hb dX12_tellWants_49 (by decide) ?_
          refine lv_icmp_ne (tgt := 58) hx hb dX12_tellWants_50 (by decide) (fun c_24 => ?_) (fun c_24 => ?_)
          · have c_24 : ¬ (i = 4) := fun hz_ => c_24 ((nI_eq (a := i) (b := 4) (by omega) (by omega)).mpr hz_)
            refine lv_aload_n hx hb dX12_tellWants_58 rfl (lv_at hl 2 rfl) ?_
            refine va_get (v := .int (nI f1)) (C := RX12) (T := TX12) (N := 75) (ci := 11) hx hb hts in_X12 hown hK.1 hW.1 0 rfl rfl 13 (by decide) (hts _ q1649) (fun _ h9 => h9) rfl dX12_tellWants_59 ?_
            refine lv_if_le (tgt := 66) hx hb dX12_tellWants_62 (by decide) (fun c_25 => ?_) (fun c_25 => ?_)
            · have c_25 : f1 ≤ 0 := (nI_leI (a := f1) (b := 0) (by omega) (by omega)).mp c_25
              obtain ⟨s0, hx0, a1, a2, a3, a4⟩ := hF.ok (by omega)
              obtain ⟨S1, S2, S3, S4, S5, S6, S7, S8⟩ := hS s0 hx0
              have hk1 : kd t1 = 1 := by omega
              have hk1s : kd (PS.at_ s0) = 1 := by rw [← a1]; exact hk1
              refine lv_aload_n hx hb dX12_tellWants_66 rfl (lv_at hl 2 rfl) ?_
              refine va_get (v := .int (nI t1)) (C := RX12) (T := TX12) (N := 75) (ci := 11) hx hb hts in_X12 hown hK.1 hW.1 0 rfl rfl 11 (by decide) (hts _ q1647) (fun _ h9 => h9) rfl dX12_tellWants_67 ?_
              refine lv_istore_n (lv' := [(3, .int (nI t1)), (2, .int (nI i)), (1, .int (nI (5 * sd + PS.n s_ 3))), (0, .ref (ad_m 0))]) hx hb dX12_tellWants_70 rfl hl (by decide) rfl (fun ls hl => ?_)
              refine lv_aload_n hx hb dX12_tellWants_71 rfl (lv_at hl 3 rfl) ?_
              refine lv_iconst (v := 0) hx hb dX12_tellWants_72 (by decide) ?_
              refine z_calli (wc := wj [(mw Y ad_m (sA 39 x_39_33 (sA 38 x_38_33 (sA 36 (upd (g_m 36) (5 * sd + PS.n s_ 3) r_1) (sA 20 (fun _ => nI nn) (sA 19 (fun _ => nI sd) (sA 16 (fun _ => nI p1) (sA 15 (fun _ => nI w1) (sA 14 (fun _ => nI fq1) (sA 13 (fun _ => nI f1) (sA 11 (fun _ => nI t1) g_m)))))))))) w_m)]) (wr := wj []) (va_runV (As := [.int 0]) (rest := []) ⟨hx, hb, hml, hown, hts⟩ (m_X12_known l D Y ad_m (sA 39 x_39_33 (sA 38 x_38_33 (sA 36 (upd (g_m 36) (5 * sd + PS.n s_ 3) r_1) (sA 20 (fun _ => nI nn) (sA 19 (fun _ => nI sd) (sA 16 (fun _ => nI p1) (sA 15 (fun _ => nI w1) (sA 14 (fun _ => nI fq1) (sA 13 (fun _ => nI f1) (sA 11 (fun _ => nI t1) g_m)))))))))) w_m kd pl vl nv X_ f1 fq1 t1 w1 p1 0 nn (PS.nm s_) S_ A_ H.size (show TKR kd pl vl nv (g_m 5) (g_m 6) (g_m 7) (w_m 8) from by first | assumption | omega | grind) (show FM kd pl X_ f1 fq1 t1 w1 p1 from by first | assumption | omega | grind) (show NR (PS.nm s_) nn (g_m 22) (g_m 23) (w_m 21) S_ A_ from by first | assumption | omega | grind) (show ∀ s0, X_ = Except.ok s0 → s0.nm = (PS.nm s_) from by exact fun s9 h9 => (hS s9 h9).2.2.1) (show 0 < 3 from by first | assumption | omega | grind)) (cwV 1 hts (lw_V q1949 q1951 qs74 q133 q1952) rfl rfl rfl (by decide +kernel) ⟨Nat.le_of_ble_eq_true rfl, Nat.le_of_ble_eq_true rfl⟩) (zPreV hK hW hR (wj_split3 (B := [(mw Y ad_m (sA 39 x_39_33 (sA 38 x_38_33 (sA 36 (upd (g_m 36) (5 * sd + PS.n s_ 3) r_1) (sA 20 (fun _ => nI nn) (sA 19 (fun _ => nI sd) (sA 16 (fun _ => nI p1) (sA 15 (fun _ => nI w1) (sA 14 (fun _ => nI fq1) (sA 13 (fun _ => nI f1) (sA 11 (fun _ => nI t1) g_m)))))))))) w_m)]) (R := []) (C := [(mw Y ad_m (sA 39 x_39_33 (sA 38 x_38_33 (sA 36 (upd (g_m 36) (5 * sd + PS.n s_ 3) r_1) (sA 20 (fun _ => nI nn) (sA 19 (fun _ => nI sd) (sA 16 (fun _ => nI p1) (sA 15 (fun _ => nI w1) (sA 14 (fun _ => nI fq1) (sA 13 (fun _ => nI f1) (sA 11 (fun _ => nI t1) g_m)))))))))) w_m)]) (O := []) (X := []) (List.Perm.refl _)) (va_recv hK.1 hW.1 (ci := 11) (q0 := 0) rfl rfl)) rfl rfl hl.1 rfl (lv_room (Nat.le_of_ble_eq_true rfl)) dX12_tellWants_73 ⟨Nat.le_refl _, Nat.le_refl _⟩) hW hA (wj_split (B := [(mw Y ad_m (sA 39 x_39_33 (sA 38 x_38_33 (sA 36 (upd (g_m 36) (5 * sd + PS.n s_ 3) r_1) (sA 20 (fun _ => nI nn) (sA 19 (fun _ => nI sd) (sA 16 (fun _ => nI p1) (sA 15 (fun _ => nI w1) (sA 14 (fun _ => nI fq1) (sA 13 (fun _ => nI f1) (sA 11 (fun _ => nI t1) g_m)))))))))) w_m)]) (C := [(mw Y ad_m (sA 39 x_39_33 (sA 38 x_38_33 (sA 36 (upd (g_m 36) (5 * sd + PS.n s_ 3) r_1) (sA 20 (fun _ => nI nn) (sA 19 (fun _ => nI sd) (sA 16 (fun _ => nI p1) (sA 15 (fun _ => nI w1) (sA 14 (fun _ => nI fq1) (sA 13 (fun _ => nI f1) (sA 11 (fun _ => nI t1) g_m)))))))))) w_m)]) (R := []) (List.Perm.refl _)) (fun r_26 u H locs hp_27 hW => ?_)
              obtain ⟨ufault_28, ufaultPlace_29, ut_30, uworst_31, uworstPlace_32⟩ := u
              have hp_27 : (FM kd pl (PO.bd X_ (knownX kd nv 0)) ufault_28 ufaultPlace_29 ut_30 uworst_31 uworstPlace_32) ∧ ((∀ (s0 : PS) (q0 : Int32 × PS), X_ = Except.ok s0 → knownR kd nv 0 s0 = Except.ok q0 → r_26 = q0.1) ∧ (¬ ufault_28 = 0 → r_26 = -1)) := hp_27
              obtain ⟨hp_27f, hp_27p⟩ := hp_27
              have hW : zW D A s.heap H locs (wj [(mw Y ad_m (sA 39 x_39_33 (sA 38 x_38_33 (sA 36 (upd (g_m 36) (5 * sd + PS.n s_ 3) r_1) (sA 20 (fun _ => nI nn) (sA 19 (fun _ => nI sd) (sA 16 (fun _ => nI uworstPlace_32) (sA 15 (fun _ => nI uworst_31) (sA 14 (fun _ => nI ufaultPlace_29) (sA 13 (fun _ => nI ufault_28) (sA 11 (fun _ => nI ut_30) g_m)))))))))) w_m)]) := hW.join
              have hbn73 := hp_27f.bnd
              obtain ⟨hgv, hgn⟩ := hp_27p
              refine lv_istore (lv' := [(4, .int r_26), (3, .int (nI t1)), (2, .int (nI i)), (1, .int (nI (5 * sd + PS.n s_ 3))), (0, .ref (ad_m 0))]) hx hb dX12_tellWants_76 hl (by decide) rfl (fun ls hl => ?_)
              refine lv_iconst (v := 0) hx hb dX12_tellWants_78 (by decide) ?_
              refine lv_istore (lv' := [(5, .int 0), (4, .int r_26), (3, .int (nI t1)), (2, .int (nI i)), (1, .int (nI (5 * sd + PS.n s_ 3))), (0, .ref (ad_m 0))]) hx hb dX12_tellWants_79 hl (by decide) rfl (fun ls hl => ?_)
              have loop_81 : ∀ (n : Nat) (j : Nat) (w2 : Nat) (p2 : Nat), i + 1 - j < n → (j ≤ i) → (FM kd pl (PO.bd (PO.bd X_ (knownX kd nv 0)) (wtl r_26 t1 (PS.n s_ 3) j)) ufault_28 ufaultPlace_29 ut_30 w2 p2) → ∀ (H : Heap) (locs : List Loc), zW D A s.heap H locs (wj [(mw Y ad_m (sA 39 x_39_33 (sA 38 x_38_33 (sA 36 (upd (g_m 36) (5 * sd + PS.n s_ 3) r_1) (sA 20 (fun _ => nI nn) (sA 19 (fun _ => nI sd) (sA 16 (fun _ => nI p2) (sA 15 (fun _ => nI w2) (sA 14 (fun _ => nI ufaultPlace_29) (sA 13 (fun _ => nI ufault_28) (sA 11 (fun _ => nI ut_30) g_m)))))))))) w_m)]) → ∀ (ls : Array Slot), lv_has ls 6 [(5, .int (nI j)), (4, .int r_26), (3, .int (nI t1)), (2, .int (nI i)), (1, .int (nI (5 * sd + PS.n s_ 3))), (0, .ref (ad_m 0))] → W p l e (headSpec (ws_ yX12_tellWants cX12_tellWants 6 none) ({ frames := 5, cells := 0, slots := 0, locals := 97 })).room s m ([.ref (ad_m 0)] : List Value).toArray below meth c H locs 0 0 (MQ below (va_Qv (fun (u : (Nat) × (Nat) × (Nat) × (Nat) × (Nat) × (Nat → Int32) × (Nat → Int32) × (Nat → Int32) × (Nat → Int32) × (Nat → Int32)) => (FM kd pl (PO.bd (wantsB kd vl nv s_) (mustR kd 4)) u.1 u.2.1 u.2.2.1 u.2.2.2.1 u.2.2.2.2.1) ∧ (KR 1 sd (g_m 35) u.2.2.2.2.2.1 ∧ KR 5 sd (g_m 36) u.2.2.2.2.2.2.1 ∧ KR 5 sd (g_m 37) u.2.2.2.2.2.2.2.1 ∧ KR 20 sd (g_m 38) u.2.2.2.2.2.2.2.2.1 ∧ KR 20 sd (g_m 39) u.2.2.2.2.2.2.2.2.2 ∧ (∀ s5, PO.bd (wantsB kd vl nv s_) (mustR kd 4) = Except.ok s5 → TMn sd (PS.n s5) (PS.t s5) (g_m 24) (g_m 25) (g_m 26) (g_m 27) (g_m 28) (g_m 29) (g_m 30) (g_m 31) (g_m 32) (g_m 33) (g_m 34) u.2.2.2.2.2.1 u.2.2.2.2.2.2.1 u.2.2.2.2.2.2.2.1 u.2.2.2.2.2.2.2.2.1 u.2.2.2.2.2.2.2.2.2 (g_m 40) (g_m 41) (g_m 42) ∧ PS.nm s5 = PS.nm s_ ∧ PS.lw s5 = PS.lw s_ ∧ PS.at_ s_ ≤ PS.at_ s5))) (zB D (fun (u : (Nat) × (Nat) × (Nat) × (Nat) × (Nat) × (Nat → Int32) × (Nat → Int32) × (Nat → Int32) × (Nat → Int32) × (Nat → Int32)) => (wj [(mw Y ad_m (sA 39 u.2.2.2.2.2.2.2.2.2 (sA 38 u.2.2.2.2.2.2.2.2.1 (sA 37 u.2.2.2.2.2.2.2.1 (sA 36 u.2.2.2.2.2.2.1 (sA 35 u.2.2.2.2.2.1 (sA 20 (fun _ => nI nn) (sA 19 (fun _ => nI sd) (sA 16 (fun _ => nI u.2.2.2.2.1) (sA 15 (fun _ => nI u.2.2.2.1) (sA 14 (fun _ => nI u.2.1) (sA 13 (fun _ => nI u.1) (sA 11 (fun _ => nI u.2.2.1) g_m)))))))))))) w_m)])) A) A) ([.ref (ad_m 0)] : List Value).toArray s 0 0 A) (F0 m 81 ls []) := by
                intro n
                induction n with
                | zero =>
                  intro j w2 p2 hmz
                  exact absurd hmz (Nat.not_lt_zero _)
                | succ n ih =>
                  intro j w2 p2 hm_81 hj hG H locs hW ls hl
                  have ih_81 := ih
                  clear ih
                  have hbg := hG.bnd
                  refine lv_iload hx hb dX12_tellWants_81 (lv_at hl 0 rfl) ?_
                  refine lv_iload_n hx hb dX12_tellWants_83 rfl (lv_at hl 3 rfl) ?_
                  refine lv_icmp_ge (tgt := 120) hx hb dX12_tellWants_84 (by decide) (fun c_33 => ?_) (fun c_33 => ?_)
                  · have c_33 : i ≤ j := (nI_leI (a := i) (b := j) (by omega) (by omega)).mp c_33
                    have ej : j = i := by omega
                    refine lv_aload_n hx hb dX12_tellWants_120 rfl (lv_at hl 5 rfl) ?_
                    refine va_get (v := .ref (ad_m 38)) (C := RX12) (T := TX12) (N := 75) (ci := 11) hx hb hts in_X12 hown hK.1 hW.1 0 rfl rfl 38 (by decide) (hts _ q1674) (fun _ h9 => h9) rfl dX12_tellWants_121 ?_
                    refine lv_iconst (v := 4) hx hb dX12_tellWants_124 (by decide) ?_
                    refine lv_iload_n hx hb dX12_tellWants_125 rfl (lv_at hl 4 rfl) ?_
                    refine lv_imul hx hb dX12_tellWants_126 ?_
                    refine lv_topi (nm_r (e' := nI (4 * (5 * sd + PS.n s_ 3))) (pk_mul 4 (5 * sd + PS.n s_ 3)) ?_)
                    refine lv_iload_n hx hb dX12_tellWants_127 rfl (lv_at hl 3 rfl) ?_
                    refine lv_iadd hx hb dX12_tellWants_128 ?_
                    refine lv_topi (nm_r (e' := nI (4 * (5 * sd + PS.n s_ 3) + i)) (nI_add (4 * (5 * sd + PS.n s_ 3)) i) ?_)
                    refine lv_iload hx hb dX12_tellWants_129 (lv_at hl 1 rfl) ?_
                    refine z_iast (x := r_26) (f := x_38_33) (j := 4 * (5 * sd + PS.n s_ 3) + i) (wn := (wj [(mw Y ad_m (sA 39 x_39_33 (sA 38 (upd x_38_33 (4 * (5 * sd + PS.n s_ 3) + i) r_26) (sA 36 (upd (g_m 36) (5 * sd + PS.n s_ 3) r_1) (sA 20 (fun _ => nI nn) (sA 19 (fun _ => nI sd) (sA 16 (fun _ => nI p2) (sA 15 (fun _ => nI w2) (sA 14 (fun _ => nI ufaultPlace_29) (sA 13 (fun _ => nI ufault_28) (sA 11 (fun _ => nI ut_30) g_m)))))))))) w_m)])) hx hb hK.1 hW 25 0 rfl rfl (vp_in_nI (n := 4 * (5 * sd + PS.n s_ 3) + i) (by omega) (by decide)) (nI_clamp (n := 4 * (5 * sd + PS.n s_ 3) + i) (by omega)) dX12_tellWants_131 rfl (fun H locs hW => ?_)
                    refine lv_aload_n hx hb dX12_tellWants_132 rfl (lv_at hl 5 rfl) ?_
                    refine va_get (v := .ref (ad_m 39)) (C := RX12) (T := TX12) (N := 75) (ci := 11) hx hb hts in_X12 hown hK.1 hW.1 0 rfl rfl 39 (by decide) (hts _ q1675) (fun _ h9 => h9) rfl dX12_tellWants_133 ?_
                    refine lv_iconst (v := 4) hx hb dX12_tellWants_136 (by decide) ?_
                    refine lv_iload_n hx hb dX12_tellWants_137 rfl (lv_at hl 4 rfl) ?_
                    refine lv_imul hx hb dX12_tellWants_138 ?_
                    refine lv_topi (nm_r (e' := nI (4 * (5 * sd + PS.n s_ 3))) (pk_mul 4 (5 * sd + PS.n s_ 3)) ?_)
                    refine lv_iload_n hx hb dX12_tellWants_139 rfl (lv_at hl 3 rfl) ?_
                    refine lv_iadd hx hb dX12_tellWants_140 ?_
                    refine lv_topi (nm_r (e' := nI (4 * (5 * sd + PS.n s_ 3) + i)) (nI_add (4 * (5 * sd + PS.n s_ 3)) i) ?_)
                    refine lv_aload_n hx hb dX12_tellWants_141 rfl (lv_at hl 5 rfl) ?_
                    refine lv_iconst (v := 1) hx hb dX12_tellWants_142 (by decide) ?_
                    refine lv_sipush (v := 9999) hx hb dX12_tellWants_143 (by decide) ?_
                    refine z_calli (wc := wj [(mw Y ad_m (sA 39 x_39_33 (sA 38 (upd x_38_33 (4 * (5 * sd + PS.n s_ 3) + i) r_26) (sA 36 (upd (g_m 36) (5 * sd + PS.n s_ 3) r_1) (sA 20 (fun _ => nI nn) (sA 19 (fun _ => nI sd) (sA 16 (fun _ => nI p2) (sA 15 (fun _ => nI w2) (sA 14 (fun _ => nI ufaultPlace_29) (sA 13 (fun _ => nI ufault_28) (sA 11 (fun _ => nI ut_30) g_m)))))))))) w_m)]) (wr := wj []) (va_runV (As := [.int 1, .int 9999]) (rest := [.int (nI (4 * (5 * sd + PS.n s_ 3) + i)), .ref (ad_m 39)]) ⟨hx, hb, hml, hown, hts⟩ (m_X12_bounded l D Y ad_m (sA 39 x_39_33 (sA 38 (upd x_38_33 (4 * (5 * sd + PS.n s_ 3) + i) r_26) (sA 36 (upd (g_m 36) (5 * sd + PS.n s_ 3) r_1) (sA 20 (fun _ => nI nn) (sA 19 (fun _ => nI sd) (sA 16 (fun _ => nI p2) (sA 15 (fun _ => nI w2) (sA 14 (fun _ => nI ufaultPlace_29) (sA 13 (fun _ => nI ufault_28) (sA 11 (fun _ => nI ut_30) g_m)))))))))) w_m kd pl vl nv (PO.bd (PO.bd X_ (knownX kd nv 0)) (wtl r_26 t1 (PS.n s_ 3) j)) ufault_28 ufaultPlace_29 ut_30 w2 p2 1 9999 H.size (show TKR kd pl vl nv (g_m 5) (g_m 6) (g_m 7) (w_m 8) from by first | assumption | omega | grind) (show FM kd pl (PO.bd (PO.bd X_ (knownX kd nv 0)) (wtl r_26 t1 (PS.n s_ 3) j)) ufault_28 ufaultPlace_29 ut_30 w2 p2 from by first | assumption | omega | grind)) (cwV 2 hts (lw_V q1937 q1939 qs71 q133 q1940) rfl rfl rfl (by decide +kernel) ⟨Nat.le_of_ble_eq_true rfl, Nat.le_of_ble_eq_true rfl⟩) (zPreV hK hW hR (wj_split3 (B := [(mw Y ad_m (sA 39 x_39_33 (sA 38 (upd x_38_33 (4 * (5 * sd + PS.n s_ 3) + i) r_26) (sA 36 (upd (g_m 36) (5 * sd + PS.n s_ 3) r_1) (sA 20 (fun _ => nI nn) (sA 19 (fun _ => nI sd) (sA 16 (fun _ => nI p2) (sA 15 (fun _ => nI w2) (sA 14 (fun _ => nI ufaultPlace_29) (sA 13 (fun _ => nI ufault_28) (sA 11 (fun _ => nI ut_30) g_m)))))))))) w_m)]) (R := []) (C := [(mw Y ad_m (sA 39 x_39_33 (sA 38 (upd x_38_33 (4 * (5 * sd + PS.n s_ 3) + i) r_26) (sA 36 (upd (g_m 36) (5 * sd + PS.n s_ 3) r_1) (sA 20 (fun _ => nI nn) (sA 19 (fun _ => nI sd) (sA 16 (fun _ => nI p2) (sA 15 (fun _ => nI w2) (sA 14 (fun _ => nI ufaultPlace_29) (sA 13 (fun _ => nI ufault_28) (sA 11 (fun _ => nI ut_30) g_m)))))))))) w_m)]) (O := []) (X := []) (List.Perm.refl _)) (va_recv hK.1 hW.1 (ci := 11) (q0 := 0) rfl rfl)) rfl rfl hl.1 rfl (lv_room (Nat.le_of_ble_eq_true rfl)) dX12_tellWants_146 ⟨Nat.le_refl _, Nat.le_refl _⟩) hW hA (wj_split (B := [(mw Y ad_m (sA 39 x_39_33 (sA 38 (upd x_38_33 (4 * (5 * sd + PS.n s_ 3) + i) r_26) (sA 36 (upd (g_m 36) (5 * sd + PS.n s_ 3) r_1) (sA 20 (fun _ => nI nn) (sA 19 (fun _ => nI sd) (sA 16 (fun _ => nI p2) (sA 15 (fun _ => nI w2) (sA 14 (fun _ => nI ufaultPlace_29) (sA 13 (fun _ => nI ufault_28) (sA 11 (fun _ => nI ut_30) g_m)))))))))) w_m)]) (C := [(mw Y ad_m (sA 39 x_39_33 (sA 38 (upd x_38_33 (4 * (5 * sd + PS.n s_ 3) + i) r_26) (sA 36 (upd (g_m 36) (5 * sd + PS.n s_ 3) r_1) (sA 20 (fun _ => nI nn) (sA 19 (fun _ => nI sd) (sA 16 (fun _ => nI p2) (sA 15 (fun _ => nI w2) (sA 14 (fun _ => nI ufaultPlace_29) (sA 13 (fun _ => nI ufault_28) (sA 11 (fun _ => nI ut_30) g_m)))))))))) w_m)]) (R := []) (List.Perm.refl _)) (fun r_34 u H locs hp_35 hW => ?_)
                    obtain ⟨ufault_36, ufaultPlace_37, ut_38, uworst_39, uworstPlace_40⟩ := u
                    have hp_35 : (FM kd pl (PO.bd (PO.bd (PO.bd X_ (knownX kd nv 0)) (wtl r_26 t1 (PS.n s_ 3) j)) (numX kd vl 1 9999)) ufault_36 ufaultPlace_37 ut_38 uworst_39 uworstPlace_40) ∧ (∀ (s0 : PS) (q0 : Int32 × PS), (PO.bd (PO.bd X_ (knownX kd nv 0)) (wtl r_26 t1 (PS.n s_ 3) j)) = Except.ok s0 → numR kd vl 1 9999 s0 = Except.ok q0 → r_34 = q0.1) := hp_35
                    obtain ⟨hp_35f, hp_35p⟩ := hp_35
                    have hW : zW D A s.heap H locs (wj [(mw Y ad_m (sA 39 x_39_33 (sA 38 (upd x_38_33 (4 * (5 * sd + PS.n s_ 3) + i) r_26) (sA 36 (upd (g_m 36) (5 * sd + PS.n s_ 3) r_1) (sA 20 (fun _ => nI nn) (sA 19 (fun _ => nI sd) (sA 16 (fun _ => nI uworstPlace_40) (sA 15 (fun _ => nI uworst_39) (sA 14 (fun _ => nI ufaultPlace_37) (sA 13 (fun _ => nI ufault_36) (sA 11 (fun _ => nI ut_38) g_m)))))))))) w_m)]) := hW.join
                    have hbn146 := hp_35f.bnd
                    refine z_iast (x := r_34) (f := x_39_33) (j := 4 * (5 * sd + PS.n s_ 3) + i) (wn := (wj [(mw Y ad_m (sA 39 (upd x_39_33 (4 * (5 * sd + PS.n s_ 3) + i) r_34) (sA 38 (upd x_38_33 (4 * (5 * sd + PS.n s_ 3) + i) r_26) (sA 36 (upd (g_m 36) (5 * sd + PS.n s_ 3) r_1) (sA 20 (fun _ => nI nn) (sA 19 (fun _ => nI sd) (sA 16 (fun _ => nI uworstPlace_40) (sA 15 (fun _ => nI uworst_39) (sA 14 (fun _ => nI ufaultPlace_37) (sA 13 (fun _ => nI ufault_36) (sA 11 (fun _ => nI ut_38) g_m)))))))))) w_m)])) hx hb hK.1 hW 26 0 rfl rfl (vp_in_nI (n := 4 * (5 * sd + PS.n s_ 3) + i) (by omega) (by decide)) (nI_clamp (n := 4 * (5 * sd + PS.n s_ 3) + i) (by omega)) dX12_tellWants_149 rfl (fun H locs hW => ?_)
                    refine lv_iinc (v := nI (i + 1)) (lv' := [(2, .int (nI (i + 1))), (5, .int (nI j)), (4, .int r_26), (3, .int (nI t1)), (1, .int (nI (5 * sd + PS.n s_ 3))), (0, .ref (ad_m 0))]) hx hb dX12_tellWants_150 hl (k := 3) rfl (nI_add i 1) (by decide) rfl (fun ls hl => ?_)
                    refine lv_goto (tgt := 33) hx hb dX12_tellWants_153 (by decide) ?_
                    have hgs : ∀ q, knownR kd nv 0 s0 = Except.ok q → r_26 = q.1 := fun q hq => hgv s0 q hx0 hq
                    have ech : PO.bd (PO.bd (PO.bd X_ (knownX kd nv 0)) (wtl r_26 t1 (PS.n s_ 3) j)) (numX kd vl 1 9999) = chainW kd vl nv r_26 (PS.at_ s0) (PS.n s0 3) i s0 := by rw [hx0, ej, a1, S1]; rfl
                    have H9 := hp_35f
                    rw [ech] at H9
                    have est : PO.bd X_ (stepW kd vl nv i) = stepW kd vl nv i s0 := by rw [hx0]; rfl
                    exact ih_33 (i + 1) (upd x_38_33 (4 * (5 * sd + PS.n s_ 3) + i) r_26) (upd x_39_33 (4 * (5 * sd + PS.n s_ 3) + i) r_34) ufault_36 ufaultPlace_37 ut_38 uworst_39 uworstPlace_40 (PO.bd X_ (stepW kd vl nv i)) (by omega) (by omega) (by
                        rw [est]
                        cases hch : chainW kd vl nv r_26 (PS.at_ s0) (PS.n s0 3) i s0 with
                        | error e => rw [hch] at H9; rw [step_er hgs hch]; exact H9
                        | ok s4 => rw [hch] at H9
                                   obtain ⟨w, v, t1, t2, t3, t4, t5, t6⟩ := step_ok hgs hch
                                   rw [t6]; exact H9.tx _ _ _ _) (by
                        rw [hEq, bd_bd]
                        refine bd_congr (fun s9 h9 => ?_)
                        have e9 : s9 = s0 := by rw [hx0] at h9; injection h9 with q; exact q.symm
                        rw [e9, show 5 - i = (5 - (i + 1)) + 1 by omega]
                        exact wantR_step hk1s (by omega)) (by
                        intro s5 h5
                        rw [est] at h5
                        cases hch : chainW kd vl nv r_26 (PS.at_ s0) (PS.n s0 3) i s0 with
                        | error e => rw [step_er hgs hch] at h5; cases h5
                        | ok s4 =>
                          obtain ⟨w, v, t1, t2, t3, t4, t5, t6⟩ := step_ok hgs hch
                          rw [t6] at h5
                          injection h5 with h5
                          have evv : r_34 = v.1 := hp_35p w v (by rw [hx0, ej]; rw [a1, S1] at *; exact t1) t2
                          rw [← h5, evv, S1]
                          have h9' : ∀ j, j < PS.n s_ 3 → vp_in (PS.t s0 9 j) 5 := by rw [S5]; exact hM9
                          refine ⟨rfl, S2, S3, by show PS.at_ s_ ≤ PS.at_ s4; omega, ?_, S6.w10 (by omega) h9' r_26 v.1, ?_, fun k hk => ?_⟩
                          · show sU 10 (4 * PS.n s_ 3 + i) r_26 (sU 11 (4 * PS.n s_ 3 + i) v.1 (PS.t s0)) 9 = _
                            rw [sU_ne (by omega), sU_ne (by omega)]; exact S5
                          · show _ = sU 10 (4 * PS.n s_ 3 + i) r_26 (sU 11 (4 * PS.n s_ 3 + i) v.1 (PS.t s0)) 8 _
                            rw [sU_ne (by omega), sU_ne (by omega)]; exact S7
                          · show _ = sU 10 (4 * PS.n s_ 3 + i) r_26 (sU 11 (4 * PS.n s_ 3 + i) v.1 (PS.t s0)) 10 _ ∧ _ = sU 10 (4 * PS.n s_ 3 + i) r_26 (sU 11 (4 * PS.n s_ 3 + i) v.1 (PS.t s0)) 11 _
                            by_cases c : k = i
                            · rw [c, u_s, u_s, sU_if, if_pos ⟨rfl, rfl⟩, sU_ne (show (11 : Nat) ≠ 10 by omega), sU_if, if_pos ⟨rfl, rfl⟩]; exact ⟨rfl, rfl⟩
                            · rw [u_n _ _ (by omega), u_n _ _ (by omega), sU_if, if_neg (by omega), sU_ne (show (10 : Nat) ≠ 11 by omega), sU_ne (show (11 : Nat) ≠ 10 by omega), sU_if, if_neg (by omega)]; exact S8 k (by omega)) (by exact KR.put hR38 (by omega) (by omega) _) (by exact KR.put hR39 (by omega) (by omega) _) _ _ hW _ (lv_sub hl [0, 4, 5] rfl)
                  · have c_33 : ¬ (i ≤ j) := fun hz_ => c_33 ((nI_leI (a := i) (b := j) (by omega) (by omega)).mpr hz_)
                    refine lv_iload hx hb dX12_tellWants_87 (lv_at hl 1 rfl) ?_
                    refine lv_if_lt (tgt := 114) hx hb dX12_tellWants_89 (by decide) (fun c_41 => ?_) (fun c_41 => ?_)
                    · have hne : ∀ s1, PO.bd X_ (knownX kd nv 0) = Except.ok s1 → ¬ (0 ≤ r_26 ∧ PS.t s1 10 (4 * PS.n s_ 3 + j) = r_26) := fun s1 _ q => absurd q.1 (by grind)
                      refine lv_iinc (v := nI (j + 1)) (lv' := [(5, .int (nI (j + 1))), (4, .int r_26), (3, .int (nI t1)), (2, .int (nI i)), (1, .int (nI (5 * sd + PS.n s_ 3))), (0, .ref (ad_m 0))]) hx hb dX12_tellWants_114 hl (k := 0) rfl (nI_add j 1) (by decide) rfl (fun ls hl => ?_)
                      refine lv_goto (tgt := 81) hx hb dX12_tellWants_117 (by decide) ?_
                      exact ih_81 (j + 1) w2 p2 (by omega) (by omega) (by rw [show PO.bd (PO.bd X_ (knownX kd nv 0)) (wtl r_26 t1 (PS.n s_ 3) (j + 1)) = PO.bd (PO.bd X_ (knownX kd nv 0)) (wtl r_26 t1 (PS.n s_ 3) j) from bd_congr (fun s1 h1 => wtl_no (hne s1 h1))]; exact hG) _ _ hW _ (lv_sub hl [0, 1, 2, 3, 4, 5] rfl)
                    · refine lv_aload_n hx hb dX12_tellWants_92 rfl (lv_at hl 5 rfl) ?_
                      refine va_get (v := .ref (ad_m 38)) (C := RX12) (T := TX12) (N := 75) (ci := 11) hx hb hts in_X12 hown hK.1 hW.1 0 rfl rfl 38 (by decide) (hts _ q1674) (fun _ h9 => h9) rfl dX12_tellWants_93 ?_
                      refine lv_iconst (v := 4) hx hb dX12_tellWants_96 (by decide) ?_
                      refine lv_iload_n hx hb dX12_tellWants_97 rfl (lv_at hl 4 rfl) ?_
                      refine lv_imul hx hb dX12_tellWants_98 ?_
                      refine lv_topi (nm_r (e' := nI (4 * (5 * sd + PS.n s_ 3))) (pk_mul 4 (5 * sd + PS.n s_ 3)) ?_)
                      refine lv_iload hx hb dX12_tellWants_99 (lv_at hl 0 rfl) ?_
                      refine lv_iadd hx hb dX12_tellWants_101 ?_
                      refine lv_topi (nm_r (e' := nI (4 * (5 * sd + PS.n s_ 3) + j)) (nI_add (4 * (5 * sd + PS.n s_ 3)) j) ?_)
                      refine z_iald (v := x_38_33 (4 * (5 * sd + PS.n s_ 3) + j)) (f := x_38_33) (j := 4 * (5 * sd + PS.n s_ 3) + j) hx hb hK.1 hW.1 25 0 rfl rfl (vp_in_nI (n := 4 * (5 * sd + PS.n s_ 3) + j) (by omega) (by decide)) (nI_clamp (n := 4 * (5 * sd + PS.n s_ 3) + j) (by omega)) rfl dX12_tellWants_102 ?_
                      refine lv_iload hx hb dX12_tellWants_103 (lv_at hl 1 rfl) ?_
                      refine lv_icmp_ne (tgt := 114) hx hb dX12_tellWants_105 (by decide) (fun c_42 => ?_) (fun c_42 => ?_)
                      · have hne : ∀ s1, PO.bd X_ (knownX kd nv 0) = Except.ok s1 → ¬ (0 ≤ r_26 ∧ PS.t s1 10 (4 * PS.n s_ 3 + j) = r_26) := by
                          intro s1 hs1 q
                          obtain ⟨s00, hx00, hkx⟩ := bd_good hs1
                          have e00 : s00 = s0 := by rw [hx0] at hx00; injection hx00 with q; exact q.symm
                          subst e00
                          apply c_42
                          rw [(S8 j (by omega)).1, ← (knownX_ext hkx).2.1]; exact q.2
                        refine lv_iinc (v := nI (j + 1)) (lv' := [(5, .int (nI (j + 1))), (4, .int r_26), (3, .int (nI t1)), (2, .int (nI i)), (1, .int (nI (5 * sd + PS.n s_ 3))), (0, .ref (ad_m 0))]) hx hb dX12_tellWants_114 hl (k := 0) rfl (nI_add j 1) (by decide) rfl (fun ls hl => ?_)
                        refine lv_goto (tgt := 81) hx hb dX12_tellWants_117 (by decide) ?_
                        exact ih_81 (j + 1) w2 p2 (by omega) (by omega) (by rw [show PO.bd (PO.bd X_ (knownX kd nv 0)) (wtl r_26 t1 (PS.n s_ 3) (j + 1)) = PO.bd (PO.bd X_ (knownX kd nv 0)) (wtl r_26 t1 (PS.n s_ 3) j) from bd_congr (fun s1 h1 => wtl_no (hne s1 h1))]; exact hG) _ _ hW _ (lv_sub hl [0, 1, 2, 3, 4, 5] rfl)
                      · have hg0 : (0 : Int32) ≤ r_26 := by grind
                        obtain ⟨s2, hs2, c1, c2, c3, c4⟩ := hG.ok (Classical.byContradiction (fun z => by have := hgn z; rw [this] at hg0; exact absurd hg0 (by decide)))
                        obtain ⟨s1, hs1, hw1⟩ := bd_good hs2
                        obtain ⟨s00, hx00, hkx⟩ := bd_good hs1
                        have e00 : s00 = s0 := by rw [hx0] at hx00; injection hx00 with q; exact q.symm
                        subst e00
                        have ek1 := knownX_ext hkx
                        have ew1 := wtl_sm hw1
                        have hG2 : FM kd pl (Except.ok s2) ufault_28 ufaultPlace_29 ut_30 w2 p2 := by rw [← hs2]; exact hG
                        have hse : PS.t s1 10 (4 * PS.n s_ 3 + j) = r_26 := by rw [ek1.2.1, ← (S8 j (by omega)).1]; exact c_42
                        refine lv_aload_n hx hb dX12_tellWants_108 rfl (lv_at hl 5 rfl) ?_
                        refine lv_iconst (v := 3) hx hb dX12_tellWants_109 (by decide) ?_
                        refine lv_iload_n hx hb dX12_tellWants_110 rfl (lv_at hl 2 rfl) ?_
                        refine z_callv (wc := wj [(mw Y ad_m (sA 39 x_39_33 (sA 38 x_38_33 (sA 36 (upd (g_m 36) (5 * sd + PS.n s_ 3) r_1) (sA 20 (fun _ => nI nn) (sA 19 (fun _ => nI sd) (sA 16 (fun _ => nI p2) (sA 15 (fun _ => nI w2) (sA 14 (fun _ => nI ufaultPlace_29) (sA 13 (fun _ => nI ufault_28) (sA 11 (fun _ => nI ut_30) g_m)))))))))) w_m)]) (wr := wj []) (va_runV (As := [.int 3, .int (nI t1)]) (rest := []) ⟨hx, hb, hml, hown, hts⟩ (m_X12_wrong l D Y ad_m (sA 39 x_39_33 (sA 38 x_38_33 (sA 36 (upd (g_m 36) (5 * sd + PS.n s_ 3) r_1) (sA 20 (fun _ => nI nn) (sA 19 (fun _ => nI sd) (sA 16 (fun _ => nI p2) (sA 15 (fun _ => nI w2) (sA 14 (fun _ => nI ufaultPlace_29) (sA 13 (fun _ => nI ufault_28) (sA 11 (fun _ => nI ut_30) g_m)))))))))) w_m kd pl vl nv s2 ufault_28 ufaultPlace_29 ut_30 w2 p2 3 t1 H.size (show TKR kd pl vl nv (g_m 5) (g_m 6) (g_m 7) (w_m 8) from by first | assumption | omega | grind) (show FM kd pl (Except.ok s2) ufault_28 ufaultPlace_29 ut_30 w2 p2 from by exact hG2) (show 3 ≤ 5 from by first | assumption | omega | grind) (show t1 ≤ ut_30 from by have := ek1.2.2.2.2.1; have := ew1.2.2.2.2; omega)) (cwV 2 hts (lw_V q1933 q1935 qs70 q133 q1936) rfl rfl rfl (by decide +kernel) ⟨Nat.le_of_ble_eq_true rfl, Nat.le_of_ble_eq_true rfl⟩) (zPreV hK hW hR (wj_split3 (B := [(mw Y ad_m (sA 39 x_39_33 (sA 38 x_38_33 (sA 36 (upd (g_m 36) (5 * sd + PS.n s_ 3) r_1) (sA 20 (fun _ => nI nn) (sA 19 (fun _ => nI sd) (sA 16 (fun _ => nI p2) (sA 15 (fun _ => nI w2) (sA 14 (fun _ => nI ufaultPlace_29) (sA 13 (fun _ => nI ufault_28) (sA 11 (fun _ => nI ut_30) g_m)))))))))) w_m)]) (R := []) (C := [(mw Y ad_m (sA 39 x_39_33 (sA 38 x_38_33 (sA 36 (upd (g_m 36) (5 * sd + PS.n s_ 3) r_1) (sA 20 (fun _ => nI nn) (sA 19 (fun _ => nI sd) (sA 16 (fun _ => nI p2) (sA 15 (fun _ => nI w2) (sA 14 (fun _ => nI ufaultPlace_29) (sA 13 (fun _ => nI ufault_28) (sA 11 (fun _ => nI ut_30) g_m)))))))))) w_m)]) (O := []) (X := []) (List.Perm.refl _)) (va_recv hK.1 hW.1 (ci := 11) (q0 := 0) rfl rfl)) rfl rfl hl.1 rfl (lv_room (Nat.le_of_ble_eq_true rfl)) dX12_tellWants_111 ⟨Nat.le_refl _, Nat.le_refl _⟩) hW hA (wj_split (B := [(mw Y ad_m (sA 39 x_39_33 (sA 38 x_38_33 (sA 36 (upd (g_m 36) (5 * sd + PS.n s_ 3) r_1) (sA 20 (fun _ => nI nn) (sA 19 (fun _ => nI sd) (sA 16 (fun _ => nI p2) (sA 15 (fun _ => nI w2) (sA 14 (fun _ => nI ufaultPlace_29) (sA 13 (fun _ => nI ufault_28) (sA 11 (fun _ => nI ut_30) g_m)))))))))) w_m)]) (C := [(mw Y ad_m (sA 39 x_39_33 (sA 38 x_38_33 (sA 36 (upd (g_m 36) (5 * sd + PS.n s_ 3) r_1) (sA 20 (fun _ => nI nn) (sA 19 (fun _ => nI sd) (sA 16 (fun _ => nI p2) (sA 15 (fun _ => nI w2) (sA 14 (fun _ => nI ufaultPlace_29) (sA 13 (fun _ => nI ufault_28) (sA 11 (fun _ => nI ut_30) g_m)))))))))) w_m)]) (R := []) (List.Perm.refl _)) (fun  u H locs hp_44 hW => ?_)
                        obtain ⟨uworst_45, uworstPlace_46⟩ := u
                        have hp_44 : FM kd pl (Except.ok (tellR 3 t1 s2)) ufault_28 ufaultPlace_29 ut_30 uworst_45 uworstPlace_46 := hp_44
                        have hW : zW D A s.heap H locs (wj [(mw Y ad_m (sA 39 x_39_33 (sA 38 x_38_33 (sA 36 (upd (g_m 36) (5 * sd + PS.n s_ 3) r_1) (sA 20 (fun _ => nI nn) (sA 19 (fun _ => nI sd) (sA 16 (fun _ => nI uworstPlace_46) (sA 15 (fun _ => nI uworst_45) (sA 14 (fun _ => nI ufaultPlace_29) (sA 13 (fun _ => nI ufault_28) (sA 11 (fun _ => nI ut_30) g_m)))))))))) w_m)]) := hW.join
                        refine lv_iinc (v := nI (j + 1)) (lv' := [(5, .int (nI (j + 1))), (4, .int r_26), (3, .int (nI t1)), (2, .int (nI i)), (1, .int (nI (5 * sd + PS.n s_ 3))), (0, .ref (ad_m 0))]) hx hb dX12_tellWants_114 hl (k := 0) rfl (nI_add j 1) (by decide) rfl (fun ls hl => ?_)
                        refine lv_goto (tgt := 81) hx hb dX12_tellWants_117 (by decide) ?_
                        exact ih_81 (j + 1) uworst_45 uworstPlace_46 (by omega) (by omega) (by
                            rw [hs1] at hs2 ⊢
                            rw [show PO.bd (Except.ok s1) (wtl r_26 t1 (PS.n s_ 3) (j + 1)) = wtl r_26 t1 (PS.n s_ 3) (j + 1) s1 from rfl, wtl_yes hg0 hse, hw1]
                            exact hp_44) _ _ hW _ (lv_sub hl [0, 1, 2, 3, 4, 5] rfl)
              exact loop_81 _ 0 uworst_31 uworstPlace_32 (Nat.lt_succ_self _) (by omega) (by rw [wtl_0]; exact hp_27f) _ _ hW _ (lv_sub hl [0, 1, 2, 3, 4, 5] rfl)
            · have c_25 : ¬ (f1 ≤ 0) := fun hz_ => c_25 ((nI_leI (a := f1) (b := 0) (by omega) (by omega)).mpr hz_)
              omega
          · have c_24 : i = 4 := (nI_eq (a := i) (b := 4) (by omega) (by omega)).mp c_24
            have ei4 : i = 4 := by omega
            refine lv_aload_n hx hb dX12_tellWants_53 rfl (lv_at hl 2 rfl) ?_
            refine lv_iconst (v := 2) hx hb dX12_tellWants_54 (by decide) ?_
            refine z_callv (wc := wj [(mw Y ad_m (sA 39 x_39_33 (sA 38 x_38_33 (sA 36 (upd (g_m 36) (5 * sd + PS.n s_ 3) r_1) (sA 20 (fun _ => nI nn) (sA 19 (fun _ => nI sd) (sA 16 (fun _ => nI p1) (sA 15 (fun _ => nI w1) (sA 14 (fun _ => nI fq1) (sA 13 (fun _ => nI f1) (sA 11 (fun _ => nI t1) g_m)))))))))) w_m)]) (wr := wj []) (va_runV (As := [.int 2]) (rest := []) ⟨hx, hb, hml, hown, hts⟩ (m_X12_fail l D Y ad_m (sA 39 x_39_33 (sA 38 x_38_33 (sA 36 (upd (g_m 36) (5 * sd + PS.n s_ 3) r_1) (sA 20 (fun _ => nI nn) (sA 19 (fun _ => nI sd) (sA 16 (fun _ => nI p1) (sA 15 (fun _ => nI w1) (sA 14 (fun _ => nI fq1) (sA 13 (fun _ => nI f1) (sA 11 (fun _ => nI t1) g_m)))))))))) w_m kd pl vl nv X_ f1 fq1 t1 w1 p1 2 H.size (show TKR kd pl vl nv (g_m 5) (g_m 6) (g_m 7) (w_m 8) from by first | assumption | omega | grind) (show FM kd pl X_ f1 fq1 t1 w1 p1 from by first | assumption | omega | grind) (show 1 ≤ 2 ∧ 2 ≤ 2 from by first | assumption | omega | grind)) (cwV 1 hts (lw_V q1913 q1915 qs65 q133 q1916) rfl rfl rfl (by decide +kernel) ⟨Nat.le_of_ble_eq_true rfl, Nat.le_of_ble_eq_true rfl⟩) (zPreV hK hW hR (wj_split3 (B := [(mw Y ad_m (sA 39 x_39_33 (sA 38 x_38_33 (sA 36 (upd (g_m 36) (5 * sd + PS.n s_ 3) r_1) (sA 20 (fun _ => nI nn) (sA 19 (fun _ => nI sd) (sA 16 (fun _ => nI p1) (sA 15 (fun _ => nI w1) (sA 14 (fun _ => nI fq1) (sA 13 (fun _ => nI f1) (sA 11 (fun _ => nI t1) g_m)))))))))) w_m)]) (R := []) (C := [(mw Y ad_m (sA 39 x_39_33 (sA 38 x_38_33 (sA 36 (upd (g_m 36) (5 * sd + PS.n s_ 3) r_1) (sA 20 (fun _ => nI nn) (sA 19 (fun _ => nI sd) (sA 16 (fun _ => nI p1) (sA 15 (fun _ => nI w1) (sA 14 (fun _ => nI fq1) (sA 13 (fun _ => nI f1) (sA 11 (fun _ => nI t1) g_m)))))))))) w_m)]) (O := []) (X := []) (List.Perm.refl _)) (va_recv hK.1 hW.1 (ci := 11) (q0 := 0) rfl rfl)) rfl rfl hl.1 rfl (lv_room (Nat.le_of_ble_eq_true rfl)) dX12_tellWants_55 ⟨Nat.le_refl _, Nat.le_refl _⟩) hW hA (wj_split (B := [(mw Y ad_m (sA 39 x_39_33 (sA 38 x_38_33 (sA 36 (upd (g_m 36) (5 * sd + PS.n s_ 3) r_1) (sA 20 (fun _ => nI nn) (sA 19 (fun _ => nI sd) (sA 16 (fun _ => nI p1) (sA 15 (fun _ => nI w1) (sA 14 (fun _ => nI fq1) (sA 13 (fun _ => nI f1) (sA 11 (fun _ => nI t1) g_m)))))))))) w_m)]) (C := [(mw Y ad_m (sA 39 x_39_33 (sA 38 x_38_33 (sA 36 (upd (g_m 36) (5 * sd + PS.n s_ 3) r_1) (sA 20 (fun _ => nI nn) (sA 19 (fun _ => nI sd) (sA 16 (fun _ => nI p1) (sA 15 (fun _ => nI w1) (sA 14 (fun _ => nI fq1) (sA 13 (fun _ => nI f1) (sA 11 (fun _ => nI t1) g_m)))))))))) w_m)]) (R := []) (List.Perm.refl _)) (fun  u H locs hp_48 hW => ?_)
            obtain ⟨ufault_49, ufaultPlace_50⟩ := u
            have hp_48 : FM kd pl (PO.bd X_ (failR 2)) ufault_49 ufaultPlace_50 t1 w1 p1 := hp_48
            have hW : zW D A s.heap H locs (wj [(mw Y ad_m (sA 39 x_39_33 (sA 38 x_38_33 (sA 36 (upd (g_m 36) (5 * sd + PS.n s_ 3) r_1) (sA 20 (fun _ => nI nn) (sA 19 (fun _ => nI sd) (sA 16 (fun _ => nI p1) (sA 15 (fun _ => nI w1) (sA 14 (fun _ => nI ufaultPlace_50) (sA 13 (fun _ => nI ufault_49) (sA 11 (fun _ => nI t1) g_m)))))))))) w_m)]) := hW.join
            have hbn55 := hp_48.bnd
            refine lv_aload_n hx hb dX12_tellWants_58 rfl (lv_at hl 2 rfl) ?_
            refine va_get (v := .int (nI ufault_49)) (C := RX12) (T := TX12) (N := 75) (ci := 11) hx hb hts in_X12 hown hK.1 hW.1 0 rfl rfl 13 (by decide) (hts _ q1649) (fun _ h9 => h9) rfl dX12_tellWants_59 ?_
            refine lv_if_le (tgt := 66) hx hb dX12_tellWants_62 (by decide) (fun c_51 => ?_) (fun c_51 => ?_)
            · have c_51 : ufault_49 ≤ 0 := (nI_leI (a := ufault_49) (b := 0) (by omega) (by omega)).mp c_51
              exact (by obtain ⟨s9, h9, -⟩ := hp_48.ok (by omega); exact (bd_fail_ne h9).elim)
            · have c_51 : ¬ (ufault_49 ≤ 0) := fun hz_ => c_51 ((nI_leI (a := ufault_49) (b := 0) (by omega) (by omega)).mpr hz_)
              refine z_vret ((ufault_49, ufaultPlace_50, t1, w1, p1, g_m 35, upd (g_m 36) (5 * sd + PS.n s_ 3) r_1, g_m 37, x_38_33, x_39_33) : (Nat) × (Nat) × (Nat) × (Nat) × (Nat) × (Nat → Int32) × (Nat → Int32) × (Nat → Int32) × (Nat → Int32) × (Nat → Int32)) hx hb hr hlocks hW rfl dX12_tellWants_65 ?_
              show (FM kd pl (PO.bd (wantsB kd vl nv s_) (mustR kd 4)) ufault_49 ufaultPlace_50 t1 w1 p1) ∧ (KR 1 sd (g_m 35) (g_m 35) ∧ KR 5 sd (g_m 36) (upd (g_m 36) (5 * sd + PS.n s_ 3) r_1) ∧ KR 5 sd (g_m 37) (g_m 37) ∧ KR 20 sd (g_m 38) x_38_33 ∧ KR 20 sd (g_m 39) x_39_33 ∧ (∀ s5, PO.bd (wantsB kd vl nv s_) (mustR kd 4) = Except.ok s5 → TMn sd (PS.n s5) (PS.t s5) (g_m 24) (g_m 25) (g_m 26) (g_m 27) (g_m 28) (g_m 29) (g_m 30) (g_m 31) (g_m 32) (g_m 33) (g_m 34) (g_m 35) (upd (g_m 36) (5 * sd + PS.n s_ 3) r_1) (g_m 37) x_38_33 x_39_33 (g_m 40) (g_m 41) (g_m 42) ∧ PS.nm s5 = PS.nm s_ ∧ PS.lw s5 = PS.lw s_ ∧ PS.at_ s_ ≤ PS.at_ s5))
              obtain ⟨s0, hx0, a1, a2, a3, a4⟩ := hF.ok (by omega)
              have hk1s : kd (PS.at_ s0) = 1 := by rw [← a1]; omega
              have hfin : PO.bd (wantsB kd vl nv s_) (mustR kd 4) = Except.error (2, PS.at_ s0) := by
                show PO.bd (PO.bd (paysB kd vl s_) (fun s => PO.bd (wantR kd vl nv 5 0 s) endW)) _ = _
                rw [← bd_bd (paysB kd vl s_), hEq, hx0, ei4]
                show PO.bd (PO.bd (wantR kd vl nv 1 4 s0) endW) _ = _
                rw [wantR_full hk1s]; rfl
              have H9 := hp_48
              rw [hx0] at H9
              refine ⟨?_, ?_⟩
              · rw [hfin]; exact H9
              · refine ⟨KR.refl _ _ _, KR.put (KR.refl _ _ _) (by omega) (by omega) _, KR.refl _ _ _, hR38, hR39, fun s5 h5 => ?_⟩
                rw [hfin] at h5
                cases h5
  exact loop_33 _ 0 (g_m 38) (g_m 39) ufault_3 ufaultPlace_4 ut_5 uworst_6 uworstPlace_7 (PO.bd (Except.ok s_) (paysB kd vl)) (Nat.lt_succ_self _) (by omega) (by
      cases hpc : numX kd vl 0 9999 s_ with
      | error e => have H9 : FM kd pl (Except.error e) ufault_3 ufaultPlace_4 ut_5 uworst_6 uworstPlace_7 := by rw [← hpc]; exact hp_2f
                   show FM kd pl (paysB kd vl s_) _ _ _ _ _; rw [pays_er hpc]; exact H9
      | ok s4 => have H9 : FM kd pl (Except.ok s4) ufault_3 ufaultPlace_4 ut_5 uworst_6 uworstPlace_7 := by rw [← hpc]; exact hp_2f
                 obtain ⟨v, _, _, _, _, hp5⟩ := pays_ok hpc
                 show FM kd pl (paysB kd vl s_) _ _ _ _ _; rw [hp5]; exact H9.tx _ _ _ _) (by rfl) (by
      intro s0 h0
      cases hpc : numX kd vl 0 9999 s_ with
      | error e => have h1 : paysB kd vl s_ = Except.ok s0 := h0
                   rw [pays_er hpc] at h1; cases h1
      | ok s4 => have h1 : paysB kd vl s_ = Except.ok s0 := h0
                 obtain ⟨v, hv1, hv2, hv3, hv4, hp5⟩ := pays_ok hpc
                 rw [hp5] at h1
                 injection h1 with h1
                 have ev : r_1 = v.1 := hp_2p s_ v rfl hv1
                 rw [← h1, ev]
                 refine ⟨rfl, rfl, rfl, by show PS.at_ s_ ≤ PS.at_ s4; omega, by show sU 8 (PS.n s_ 3) v.1 (PS.t s_) 9 = _; rw [sU_ne (by omega)], hTM.w8 v.1, ?_, fun k hk => by omega⟩
                 show upd _ _ _ _ = sU 8 (PS.n s_ 3) v.1 (PS.t s_) 8 (PS.n s_ 3)
                 rw [u_s, sU_if, if_pos ⟨rfl, rfl⟩]) (by exact KR.refl _ _ _) (by exact KR.refl _ _ _) _ _ hW _ (lv_sub hl [0, 1, 2] rfl)
