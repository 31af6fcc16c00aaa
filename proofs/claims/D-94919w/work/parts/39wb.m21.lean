/-! the model: a side made plain; what is told next -/
set_option maxRecDepth 100000
set_option maxHeartbeats 4000000 in
set_option maxRecDepth 100000 in
theorem m_X12_plain (l : Launch) (D : va_G) (Y : Nat → ClassId) (ad_m : Nat → Nat) (g_m : Nat → Nat → Int32) (w_m : Nat → Nat → Int64) (sd : Nat) (sz : Nat) (hsd : sd < 2) : Met l yX12_plain (ws_ yX12_plain cX12_plain 3 none) ({ frames := 1, cells := 0, slots := 0, locals := 12 }) (zPc D Y [.ref (ad_m 0), .int (nI sd)] sz (wj []) (wj [(mw Y ad_m g_m w_m)])) (va_Qv (fun (u : (Nat → Int32) × (Nat → Int32) × (Nat → Int32) × (Nat → Int32) × (Nat → Int32) × (Nat → Int32) × (Nat → Int32) × (Nat → Int32) × (Nat → Int32)) => TMn sd (fun _ => 0) (PS.t ps0) u.1 (g_m 25) (g_m 26) u.2.1 (g_m 28) (g_m 29) u.2.2.1 (g_m 31) (g_m 32) (g_m 33) (g_m 34) u.2.2.2.1 (g_m 36) (g_m 37) (g_m 38) (g_m 39) u.2.2.2.2.1 u.2.2.2.2.2.1 u.2.2.2.2.2.2.1 ∧ KR 1 sd (g_m 24) u.1 ∧ KR 1 sd (g_m 27) u.2.1 ∧ KR 1 sd (g_m 30) u.2.2.1 ∧ KR 1 sd (g_m 35) u.2.2.2.1 ∧ KR 1 sd (g_m 40) u.2.2.2.2.1 ∧ KR 1 sd (g_m 41) u.2.2.2.2.2.1 ∧ KR 1 sd (g_m 42) u.2.2.2.2.2.2.1 ∧ KR 3 sd (g_m 43) u.2.2.2.2.2.2.2.1 ∧ KR 3 sd (g_m 44) u.2.2.2.2.2.2.2.2 ∧ (∀ k, k < 3 → u.2.2.2.2.2.2.2.1 (3 * sd + k) = u.2.2.2.2.2.2.2.2 (3 * sd + k))) (zB D (fun (u : (Nat → Int32) × (Nat → Int32) × (Nat → Int32) × (Nat → Int32) × (Nat → Int32) × (Nat → Int32) × (Nat → Int32) × (Nat → Int32) × (Nat → Int32)) => (wj [(mw Y ad_m (sA 44 u.2.2.2.2.2.2.2.2 (sA 43 u.2.2.2.2.2.2.2.1 (sA 42 u.2.2.2.2.2.2.1 (sA 41 u.2.2.2.2.2.1 (sA 40 u.2.2.2.2.1 (sA 35 u.2.2.2.1 (sA 30 u.2.2.1 (sA 27 u.2.1 (sA 24 u.1 g_m))))))))) w_m)])) (va_A (wj [(mw Y ad_m g_m w_m)]) sz)) (va_A (wj [(mw Y ad_m g_m w_m)]) sz)) 0 0 (va_A (wj [(mw Y ad_m g_m w_m)]) sz) := by
  refine Met.ofW (cc := cX12_plain) (maxL := 3) (ret := none) (by decide) rfl ?_
  intro p e s m args below meth c s₁ B hml hv
  obtain ⟨rfl, hsz, hW, hR, hK, hA⟩ := zEntry hv
  subst hsz
  have hx := B.exec
  have hb := B.bytes
  have hr := B.returns
  have hlocks := B.notSynchronized
  have hts : ∀ w ∈ lw_all, w.before _ s = true := fun w h => atoms_spec (ws := (ws_ yX12_plain cX12_plain 3 none)) B.pre w (List.mem_cons_of_mem _ h)
  have hown : s.vm.findClass RX12 = some m.cls := findClass_of_methodNamed B.named
  generalize hAe : va_A (wj [(mw Y ad_m g_m w_m)]) s.heap.size = A at hW hR hA ⊢
  have hl := lv_entry ([.ref (ad_m 0), .int (nI sd)]) (n := 3) (Nat.le_of_ble_eq_true rfl)
  rw [lg_entry_eq]
  generalize (lg_sl ([.ref (ad_m 0), .int (nI sd)]) ++ List.replicate (3 - (lg_sl ([.ref (ad_m 0), .int (nI sd)])).length) Slot.unset).toArray = ls at hl ⊢
  have hl : lv_has ls 3 [(0, .ref (ad_m 0)), (1, .int (nI sd))] := hl
  refine lv_aload_n hx hb dX12_plain_0 rfl (lv_at hl 0 rfl) ?_
  refine va_get (v := .ref (ad_m 24)) (C := RX12) (T := TX12) (N := 75) (ci := 11) hx hb hts in_X12 hown hK.1 hW.1 0 rfl rfl 24 (by decide) (hts _ q1660) (fun _ h9 => h9) rfl dX12_plain_1 ?_
  refine lv_iload_n hx hb dX12_plain_4 rfl (lv_at hl 1 rfl) ?_
  refine lv_iconst (v := 0) hx hb dX12_plain_5 (by decide) ?_
  refine z_iast (x := 0) (f := g_m 24) (j := sd) (wn := (wj [(mw Y ad_m (sA 24 (upd (g_m 24) sd 0) g_m) w_m)])) hx hb hK.1 hW 11 0 rfl rfl (vp_in_nI (n := sd) (by omega) (by decide)) (nI_clamp (n := sd) (by omega)) dX12_plain_6 rfl (fun H locs hW => ?_)
  refine lv_aload_n hx hb dX12_plain_7 rfl (lv_at hl 0 rfl) ?_
  refine va_get (v := .ref (ad_m 27)) (C := RX12) (T := TX12) (N := 75) (ci := 11) hx hb hts in_X12 hown hK.1 hW.1 0 rfl rfl 27 (by decide) (hts _ q1663) (fun _ h9 => h9) rfl dX12_plain_8 ?_
  refine lv_iload_n hx hb dX12_plain_11 rfl (lv_at hl 1 rfl) ?_
  refine lv_iconst (v := 0) hx hb dX12_plain_12 (by decide) ?_
  refine z_iast (x := 0) (f := g_m 27) (j := sd) (wn := (wj [(mw Y ad_m (sA 27 (upd (g_m 27) sd 0) (sA 24 (upd (g_m 24) sd 0) g_m)) w_m)])) hx hb hK.1 hW 14 0 rfl rfl (vp_in_nI (n := sd) (by omega) (by decide)) (nI_clamp (n := sd) (by omega)) dX12_plain_13 rfl (fun H locs hW => ?_)
  refine lv_aload_n hx hb dX12_plain_14 rfl (lv_at hl 0 rfl) ?_
  refine va_get (v := .ref (ad_m 30)) (C := RX12) (T := TX12) (N := 75) (ci := 11) hx hb hts in_X12 hown hK.1 hW.1 0 rfl rfl 30 (by decide) (hts _ q1666) (fun _ h9 => h9) rfl dX12_plain_15 ?_
  refine lv_iload_n hx hb dX12_plain_18 rfl (lv_at hl 1 rfl) ?_
  refine lv_iconst (v := 0) hx hb dX12_plain_19 (by decide) ?_
  refine z_iast (x := 0) (f := g_m 30) (j := sd) (wn := (wj [(mw Y ad_m (sA 30 (upd (g_m 30) sd 0) (sA 27 (upd (g_m 27) sd 0) (sA 24 (upd (g_m 24) sd 0) g_m))) w_m)])) hx hb hK.1 hW 17 0 rfl rfl (vp_in_nI (n := sd) (by omega) (by decide)) (nI_clamp (n := sd) (by omega)) dX12_plain_20 rfl (fun H locs hW => ?_)
  refine lv_aload_n hx hb dX12_plain_21 rfl (lv_at hl 0 rfl) ?_
  refine va_get (v := .ref (ad_m 35)) (C := RX12) (T := TX12) (N := 75) (ci := 11) hx hb hts in_X12 hown hK.1 hW.1 0 rfl rfl 35 (by decide) (hts _ q1671) (fun _ h9 => h9) rfl dX12_plain_22 ?_
  refine lv_iload_n hx hb dX12_plain_25 rfl (lv_at hl 1 rfl) ?_
  refine lv_iconst (v := 0) hx hb dX12_plain_26 (by decide) ?_
  refine z_iast (x := 0) (f := g_m 35) (j := sd) (wn := (wj [(mw Y ad_m (sA 35 (upd (g_m 35) sd 0) (sA 30 (upd (g_m 30) sd 0) (sA 27 (upd (g_m 27) sd 0) (sA 24 (upd (g_m 24) sd 0) g_m)))) w_m)])) hx hb hK.1 hW 22 0 rfl rfl (vp_in_nI (n := sd) (by omega) (by decide)) (nI_clamp (n := sd) (by omega)) dX12_plain_27 rfl (fun H locs hW => ?_)
  refine lv_aload_n hx hb dX12_plain_28 rfl (lv_at hl 0 rfl) ?_
  refine va_get (v := .ref (ad_m 40)) (C := RX12) (T := TX12) (N := 75) (ci := 11) hx hb hts in_X12 hown hK.1 hW.1 0 rfl rfl 40 (by decide) (hts _ q1676) (fun _ h9 => h9) rfl dX12_plain_29 ?_
  refine lv_iload_n hx hb dX12_plain_32 rfl (lv_at hl 1 rfl) ?_
  refine lv_sipush (v := 9999) hx hb dX12_plain_33 (by decide) ?_
  refine z_iast (x := 9999) (f := g_m 40) (j := sd) (wn := (wj [(mw Y ad_m (sA 40 (upd (g_m 40) sd 9999) (sA 35 (upd (g_m 35) sd 0) (sA 30 (upd (g_m 30) sd 0) (sA 27 (upd (g_m 27) sd 0) (sA 24 (upd (g_m 24) sd 0) g_m))))) w_m)])) hx hb hK.1 hW 27 0 rfl rfl (vp_in_nI (n := sd) (by omega) (by decide)) (nI_clamp (n := sd) (by omega)) dX12_plain_36 rfl (fun H locs hW => ?_)
  refine lv_aload_n hx hb dX12_plain_37 rfl (lv_at hl 0 rfl) ?_
  refine va_get (v := .ref (ad_m 41)) (C := RX12) (T := TX12) (N := 75) (ci := 11) hx hb hts in_X12 hown hK.1 hW.1 0 rfl rfl 41 (by decide) (hts _ q1677) (fun _ h9 => h9) rfl dX12_plain_38 ?_
  refine lv_iload_n hx hb dX12_plain_41 rfl (lv_at hl 1 rfl) ?_
  refine lv_bipush (v := 50) hx hb dX12_plain_42 (by decide) ?_
  refine z_iast (x := 50) (f := g_m 41) (j := sd) (wn := (wj [(mw Y ad_m (sA 41 (upd (g_m 41) sd 50) (sA 40 (upd (g_m 40) sd 9999) (sA 35 (upd (g_m 35) sd 0) (sA 30 (upd (g_m 30) sd 0) (sA 27 (upd (g_m 27) sd 0) (sA 24 (upd (g_m 24) sd 0) g_m)))))) w_m)])) hx hb hK.1 hW 28 0 rfl rfl (vp_in_nI (n := sd) (by omega) (by decide)) (nI_clamp (n := sd) (by omega)) dX12_plain_44 rfl (fun H locs hW => ?_)
  refine lv_aload_n hx hb dX12_plain_45 rfl (lv_at hl 0 rfl) ?_
  refine va_get (v := .ref (ad_m 42)) (C := RX12) (T := TX12) (N := 75) (ci := 11) hx hb hts in_X12 hown hK.1 hW.1 0 rfl rfl 42 (by decide) (hts _ q1678) (fun _ h9 => h9) rfl dX12_plain_46 ?_
  refine lv_iload_n hx hb dX12_plain_49 rfl (lv_at hl 1 rfl) ?_
  refine lv_iconst (v := 0) hx hb dX12_plain_50 (by decide) ?_
  refine z_iast (x := 0) (f := g_m 42) (j := sd) (wn := (wj [(mw Y ad_m (sA 42 (upd (g_m 42) sd 0) (sA 41 (upd (g_m 41) sd 50) (sA 40 (upd (g_m 40) sd 9999) (sA 35 (upd (g_m 35) sd 0) (sA 30 (upd (g_m 30) sd 0) (sA 27 (upd (g_m 27) sd 0) (sA 24 (upd (g_m 24) sd 0) g_m))))))) w_m)])) hx hb hK.1 hW 29 0 rfl rfl (vp_in_nI (n := sd) (by omega) (by decide)) (nI_clamp (n := sd) (by omega)) dX12_plain_51 rfl (fun H locs hW => ?_)
  refine lv_iconst (v := 0) hx hb dX12_plain_52 (by decide) ?_
  refine lv_istore_n (lv' := [(2, .int 0), (0, .ref (ad_m 0)), (1, .int (nI sd))]) hx hb dX12_plain_53 rfl hl (by decide) rfl (fun ls hl => ?_)
  have loop_54 : ∀ (n : Nat) (k : Nat) (x_43_54 : Nat → Int32) (x_44_54 : Nat → Int32), 3 - k < n → (k ≤ 3) → (∀ j, j < k → x_43_54 (3 * sd + j) = 0 ∧ x_44_54 (3 * sd + j) = 0) → (KR 3 sd (g_m 43) x_43_54) → (KR 3 sd (g_m 44) x_44_54) → ∀ (H : Heap) (locs : List Loc), zW D A s.heap H locs (wj [(mw Y ad_m (sA 44 x_44_54 (sA 43 x_43_54 (sA 42 (upd (g_m 42) sd 0) (sA 41 (upd (g_m 41) sd 50) (sA 40 (upd (g_m 40) sd 9999) (sA 35 (upd (g_m 35) sd 0) (sA 30 (upd (g_m 30) sd 0) (sA 27 (upd (g_m 27) sd 0) (sA 24 (upd (g_m 24) sd 0) g_m))))))))) w_m)]) → ∀ (ls : Array Slot), lv_has ls 3 [(2, .int (nI k)), (0, .ref (ad_m 0)), (1, .int (nI sd))] → W p l e (headSpec (ws_ yX12_plain cX12_plain 3 none) ({ frames := 1, cells := 0, slots := 0, locals := 12 })).room s m ([.ref (ad_m 0), .int (nI sd)] : List Value).toArray below meth c H locs 0 0 (MQ below (va_Qv (fun (u : (Nat → Int32) × (Nat → Int32) × (Nat → Int32) × (Nat → Int32) × (Nat → Int32) × (Nat → Int32) × (Nat → Int32) × (Nat → Int32) × (Nat → Int32)) => TMn sd (fun _ => 0) (PS.t ps0) u.1 (g_m 25) (g_m 26) u.2.1 (g_m 28) (g_m 29) u.2.2.1 (g_m 31) (g_m 32) (g_m 33) (g_m 34) u.2.2.2.1 (g_m 36) (g_m 37) (g_m 38) (g_m 39) u.2.2.2.2.1 u.2.2.2.2.2.1 u.2.2.2.2.2.2.1 ∧ KR 1 sd (g_m 24) u.1 ∧ KR 1 sd (g_m 27) u.2.1 ∧ KR 1 sd (g_m 30) u.2.2.1 ∧ KR 1 sd (g_m 35) u.2.2.2.1 ∧ KR 1 sd (g_m 40) u.2.2.2.2.1 ∧ KR 1 sd (g_m 41) u.2.2.2.2.2.1 ∧ KR 1 sd (g_m 42) u.2.2.2.2.2.2.1 ∧ KR 3 sd (g_m 43) u.2.2.2.2.2.2.2.1 ∧ KR 3 sd (g_m 44) u.2.2.2.2.2.2.2.2 ∧ (∀ k, k < 3 → u.2.2.2.2.2.2.2.1 (3 * sd + k) = u.2.2.2.2.2.2.2.2 (3 * sd + k))) (zB D (fun (u : (Nat → Int32) × (Nat → Int32) × (Nat → Int32) × (Nat → Int32) × (Nat → Int32) × (Nat → Int32) × (Nat → Int32) × (Nat → Int32) × (Nat → Int32)) => (wj [(mw Y ad_m (sA 44 u.2.2.2.2.2.2.2.2 (sA 43 u.2.2.2.2.2.2.2.1 (sA 42 u.2.2.2.2.2.2.1 (sA 41 u.2.2.2.2.2.1 (sA 40 u.2.2.2.2.1 (sA 35 u.2.2.2.1 (sA 30 u.2.2.1 (sA 27 u.2.1 (sA 24 u.1 g_m))))))))) w_m)])) A) A) ([.ref (ad_m 0), .int (nI sd)] : List Value).toArray s 0 0 A) (F0 m 54 ls []) := by
    intro n
    induction n with
    | zero =>
      intro k x_43_54 x_44_54 hmz
      exact absurd hmz (Nat.not_lt_zero _)
    | succ n ih =>
      intro k x_43_54 x_44_54 hm_54 hk3 hz h43 h44 H locs hW ls hl
      have ih_54 := ih
      clear ih
      refine lv_iload_n hx hb dX12_plain_54 rfl (lv_at hl 0 rfl) ?_
      refine lv_iconst (v := 3) hx hb dX12_plain_55 (by decide) ?_
      refine lv_icmp_ge (tgt := 87) hx hb dX12_plain_56 (by decide) (fun c_1 => ?_) (fun c_1 => ?_)
      · have c_1 : 3 ≤ k := (nI_leI (a := 3) (b := k) (by omega) (by omega)).mp c_1
        refine z_vret ((upd (g_m 24) sd 0, upd (g_m 27) sd 0, upd (g_m 30) sd 0, upd (g_m 35) sd 0, upd (g_m 40) sd 9999, upd (g_m 41) sd 50, upd (g_m 42) sd 0, x_43_54, x_44_54) : (Nat → Int32) × (Nat → Int32) × (Nat → Int32) × (Nat → Int32) × (Nat → Int32) × (Nat → Int32) × (Nat → Int32) × (Nat → Int32) × (Nat → Int32)) hx hb hr hlocks hW rfl dX12_plain_87 ?_
        show TMn sd (fun _ => 0) (PS.t ps0) (upd (g_m 24) sd 0) (g_m 25) (g_m 26) (upd (g_m 27) sd 0) (g_m 28) (g_m 29) (upd (g_m 30) sd 0) (g_m 31) (g_m 32) (g_m 33) (g_m 34) (upd (g_m 35) sd 0) (g_m 36) (g_m 37) (g_m 38) (g_m 39) (upd (g_m 40) sd 9999) (upd (g_m 41) sd 50) (upd (g_m 42) sd 0) ∧ KR 1 sd (g_m 24) (upd (g_m 24) sd 0) ∧ KR 1 sd (g_m 27) (upd (g_m 27) sd 0) ∧ KR 1 sd (g_m 30) (upd (g_m 30) sd 0) ∧ KR 1 sd (g_m 35) (upd (g_m 35) sd 0) ∧ KR 1 sd (g_m 40) (upd (g_m 40) sd 9999) ∧ KR 1 sd (g_m 41) (upd (g_m 41) sd 50) ∧ KR 1 sd (g_m 42) (upd (g_m 42) sd 0) ∧ KR 3 sd (g_m 43) x_43_54 ∧ KR 3 sd (g_m 44) x_44_54 ∧ (∀ k, k < 3 → x_43_54 (3 * sd + k) = x_44_54 (3 * sd + k))
        refine ⟨⟨⟨(u_s _ _ _).trans rfl, (u_s _ _ _).trans rfl, (u_s _ _ _).trans rfl, (u_s _ _ _).trans rfl, (u_s _ _ _).trans rfl, (u_s _ _ _).trans rfl, (u_s _ _ _).trans rfl⟩, fun j hj => absurd hj (Nat.not_lt_zero _), fun j hj => absurd hj (Nat.not_lt_zero _), fun j hj => absurd hj (Nat.not_lt_zero _), fun j hj => absurd hj (Nat.not_lt_zero _)⟩, KR.put (KR.refl _ _ _) (by omega) (by omega) _, KR.put (KR.refl _ _ _) (by omega) (by omega) _, KR.put (KR.refl _ _ _) (by omega) (by omega) _, KR.put (KR.refl _ _ _) (by omega) (by omega) _, KR.put (KR.refl _ _ _) (by omega) (by omega) _, KR.put (KR.refl _ _ _) (by omega) (by omega) _, KR.put (KR.refl _ _ _) (by omega) (by omega) _, h43, h44, fun k hk => by rw [(hz k (by omega)).1, (hz k (by omega)).2]⟩
      · have c_1 : ¬ (3 ≤ k) := fun hz_ => c_1 ((nI_leI (a := 3) (b := k) (by omega) (by omega)).mpr hz_)
        refine lv_aload_n hx hb dX12_plain_59 rfl (lv_at hl 1 rfl) ?_
        refine va_get (v := .ref (ad_m 43)) (C := RX12) (T := TX12) (N := 75) (ci := 11) hx hb hts in_X12 hown hK.1 hW.1 0 rfl rfl 43 (by decide) (hts _ q1679) (fun _ h9 => h9) rfl dX12_plain_60 ?_
        refine lv_iconst (v := 3) hx hb dX12_plain_63 (by decide) ?_
        refine lv_iload_n hx hb dX12_plain_64 rfl (lv_at hl 2 rfl) ?_
        refine lv_imul hx hb dX12_plain_65 ?_
        refine lv_topi (nm_r (e' := nI (3 * sd)) (pk_mul 3 sd) ?_)
        refine lv_iload_n hx hb dX12_plain_66 rfl (lv_at hl 0 rfl) ?_
        refine lv_iadd hx hb dX12_plain_67 ?_
        refine lv_topi (nm_r (e' := nI (3 * sd + k)) (nI_add (3 * sd) k) ?_)
        refine lv_iconst (v := 0) hx hb dX12_plain_68 (by decide) ?_
        refine z_iast (x := 0) (f := x_43_54) (j := 3 * sd + k) (wn := (wj [(mw Y ad_m (sA 44 x_44_54 (sA 43 (upd x_43_54 (3 * sd + k) 0) (sA 42 (upd (g_m 42) sd 0) (sA 41 (upd (g_m 41) sd 50) (sA 40 (upd (g_m 40) sd 9999) (sA 35 (upd (g_m 35) sd 0) (sA 30 (upd (g_m 30) sd 0) (sA 27 (upd (g_m 27) sd 0) (sA 24 (upd (g_m 24) sd 0) g_m))))))))) w_m)])) hx hb hK.1 hW 30 0 rfl rfl (vp_in_nI (n := 3 * sd + k) (by omega) (by decide)) (nI_clamp (n := 3 * sd + k) (by omega)) dX12_plain_69 rfl (fun H locs hW => ?_)
        refine lv_aload_n hx hb dX12_plain_70 rfl (lv_at hl 1 rfl) ?_
        refine va_get (v := .ref (ad_m 44)) (C := RX12) (T := TX12) (N := 75) (ci := 11) hx hb hts in_X12 hown hK.1 hW.1 0 rfl rfl 44 (by decide) (hts _ q1680) (fun _ h9 => h9) rfl dX12_plain_71 ?_
        refine lv_iconst (v := 3) hx hb dX12_plain_74 (by decide) ?_
        refine lv_iload_n hx hb dX12_plain_75 rfl (lv_at hl 2 rfl) ?_
        refine lv_imul hx hb dX12_plain_76 ?_
        refine lv_topi (nm_r (e' := nI (3 * sd)) (pk_mul 3 sd) ?_)
        refine lv_iload_n hx hb dX12_plain_77 rfl (lv_at hl 0 rfl) ?_
        refine lv_iadd hx hb dX12_plain_78 ?_
        refine lv_topi (nm_r (e' := nI (3 * sd + k)) (nI_add (3 * sd) k) ?_)
        refine lv_iconst (v := 0) hx hb dX12_plain_79 (by decide) ?_
        refine z_iast (x := 0) (f := x_44_54) (j := 3 * sd + k) (wn := (wj [(mw Y ad_m (sA 44 (upd x_44_54 (3 * sd + k) 0) (sA 43 (upd x_43_54 (3 * sd + k) 0) (sA 42 (upd (g_m 42) sd 0) (sA 41 (upd (g_m 41) sd 50) (sA 40 (upd (g_m 40) sd 9999) (sA 35 (upd (g_m 35) sd 0) (sA 30 (upd (g_m 30) sd 0) (sA 27 (upd (g_m 27) sd 0) (sA 24 (upd (g_m 24) sd 0) g_m))))))))) w_m)])) hx hb hK.1 hW 31 0 rfl rfl (vp_in_nI (n := 3 * sd + k) (by omega) (by decide)) (nI_clamp (n := 3 * sd + k) (by omega)) dX12_plain_80 rfl (fun H locs hW => ?_)
        refine lv_iinc (v := nI (k + 1)) (lv' := [(2, .int (nI (k + 1))), (0, .ref (ad_m 0)), (1, .int (nI sd))]) hx hb dX12_plain_81 hl (k := 0) rfl (nI_add k 1) (by decide) rfl (fun ls hl => ?_)
        refine lv_goto (tgt := 54) hx hb dX12_plain_84 (by decide) ?_
        exact ih_54 (k + 1) (upd x_43_54 (3 * sd + k) 0) (upd x_44_54 (3 * sd + k) 0) (by omega) (by omega) (by
            intro j hj; by_cases c : j = k
            · rw [c, u_s, u_s]; exact ⟨rfl, rfl⟩
            · rw [u_n _ _ (by omega), u_n _ _ (by omega)]; exact hz j (by omega)) (by exact h43.put (by omega) (by omega) _) (by exact h44.put (by omega) (by omega) _) _ _ hW _ (lv_sub hl [0, 1, 2] rfl)
  exact loop_54 _ 0 (g_m 43) (g_m 44) (Nat.lt_succ_self _) (by omega) (by intro j hj; omega) (by exact KR.refl _ _ _) (by exact KR.refl _ _ _) _ _ hW _ (lv_sub hl [0, 1, 2] rfl)
