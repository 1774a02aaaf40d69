/-! THE CLASS 3 -/
set_option maxRecDepth 100000
set_option maxHeartbeats 4000000 in
set_option maxRecDepth 100000 in
theorem gx_pass (l : Launch) (D : va_G) (ca : Nat → ClassId) (es : Nat → Nat) (A : Nat → Prop) (ad hd : Nat → Nat → Nat) (σ γ : gw_S) (ord : List Nat) (d : Int32) (hlt : l.stackTraces = false) (hC : gw_C σ γ ord)  : vx_Met l yX1_pass (ws_ yX1_pass cX1_pass 2 (some .int)) ({ frames := 7, cells := 1, slots := 6, locals := 110 }) (va_Pc [.ref (ad 0 0), .int d] (gw_gP D ca es A ad hd σ γ ord (gw_nu σ))) (gw_Qi D ca es A ad (gw_pass σ d)) (gw_XC D ca es A ad (gw_T ["java/lang/IllegalArgumentException", "java/lang/IllegalStateException"]) (gw_pass σ d)) 1 6 A := by
  refine vx_ofW (cc := cX1_pass) (maxL := 2) (ret := (some .int)) (by decide) rfl ?_
  intro p e s m args below meth c s₁ B hml htab hv
  obtain ⟨rfl, hG, hK, hE, hN, hA⟩ := hv
  have hx := B.exec
  have hb := B.bytes
  have hr := B.returns
  have hts := atoms_spec (ws := ws_ yX1_pass cX1_pass 2 (some .int)) B.pre
  have hts : ∀ w ∈ lw_all, w.before _ s = true := fun w h => hts w (List.mem_cons_of_mem _ h)
  have hown : s.vm.findClass RX1 = some m.cls := findClass_of_methodNamed B.named
  have hlocks := B.notSynchronized
  have hS : va_S A s.heap s.heap [] := va_S.rf
  have hl := lv_entry ([.ref (ad 0 0), .int d]) (n := 2) (Nat.le_of_ble_eq_true rfl)
  rw [lg_entry_eq]
  generalize (lg_sl ([.ref (ad 0 0), .int d]) ++ List.replicate (2 - (lg_sl ([.ref (ad 0 0), .int d])).length) Slot.unset).toArray = ls at hl ⊢
  have hl : lv_has ls 2 [(0, .ref (ad 0 0)), (1, .int d)] := hl
  refine lv_iload_n hx hb dX1_pass_0 rfl (lv_at hl 1 rfl) ?_
  refine lv_i2l (v := d.toInt64) hx hb dX1_pass_1 rfl ?_
  refine lv_lconst (v := 1) hx hb dX1_pass_2 (by decide) ?_
  refine lv_ldc2 (v := 1000) hx hb hown (hts _ q786) dX1_pass_3 ?_
  rcases Classical.em (1 ≤ d ∧ d ≤ 1000) with h6 | h6
  · skip
    refine gw_scalli (va_Run.run (va_runS (As := [.long d.toInt64, .long 1, .long 1000]) (rest := []) ⟨hx, hb, hml, hown, hts⟩ (gg_inRange l d.toInt64 1 1000) (va_cwS 3 hts (lw_S q279 q280 q42 q281) rfl rfl rfl (by decide +kernel) ⟨Nat.le_of_ble_eq_true rfl, Nat.le_of_ble_eq_true rfl⟩) gw_spre rfl rfl hl.1 rfl (lv_room (Nat.le_of_ble_eq_true rfl)) dX1_pass_6 ⟨Nat.le_of_ble_eq_true rfl, Nat.le_of_ble_eq_true rfl⟩)) ?_
    refine gw_topi (y := 1) (if_pos (gw_rgp (x := d) (by decide) (by decide) h6)) ?_
    refine va_csv (va_Run.run (va_runS (As := [.int 1]) (rest := []) ⟨hx, hb, hml, hown, hts⟩ (gg_checkArgument1 l) (va_cwS 1 hts (lw_S q284 q285 q42 q286) rfl rfl rfl (by decide +kernel) ⟨Nat.le_of_ble_eq_true rfl, Nat.le_of_ble_eq_true rfl⟩) gw_spre rfl rfl hl.1 rfl (lv_room (Nat.le_of_ble_eq_true rfl)) dX1_pass_9 ⟨Nat.le_of_ble_eq_true rfl, Nat.le_of_ble_eq_true rfl⟩)) (fun _ => ?_)
    refine lv_aload_n hx hb dX1_pass_12 rfl (lv_at hl 0 rfl) ?_
    refine gw_get hx hb hts in_X1 hown hK (gw_c0 hG) rfl 14 (by decide) (hts _ q114) (v := .int (σ 1 0)) rfl dX1_pass_13 ?_
    refine lv_iload_n hx hb dX1_pass_16 rfl (lv_at hl 1 rfl) ?_
    refine lv_iadd hx hb dX1_pass_17 ?_
    refine lv_sipush (v := 20000) hx hb dX1_pass_18 (by decide) ?_
    refine lv_icmp_gt (tgt := 28) hx hb dX1_pass_21 (by decide) (fun c21 => ?_) (fun c21 => ?_)
    · skip
      refine lv_iconst (v := 0) hx hb dX1_pass_28 (by decide) ?_
      have hF9 : (gw_pass σ d) = gw_fail σ 2 := (by simp only [gw_pass, gw_fail, h6, c21, (Int32.not_le.mpr c21), and_true, true_and, and_false, false_and, and_self, or_true, true_or, or_false, false_or, not_true_eq_false, not_false_eq_true, if_true, if_false, ↓reduceIte]; try rfl)
      refine vx_callv (vx_runS (As := [.int 0]) (rest := []) ⟨hx, hb, hml, hown, hts⟩ (gg_checkState0 l A hlt) (va_cwS 1 hts (lw_S q358 q359 q42 q360) rfl rfl rfl (by decide +kernel) ⟨Nat.le_of_ble_eq_true rfl, Nat.le_of_ble_eq_true rfl⟩) (gw_gspre [.int 0] gw_Thb (fun U hU hW => gw_That hU hW hE hN hS)) rfl rfl hl.1 rfl (lv_room (Nat.le_of_ble_eq_true rfl)) dX1_pass_29 ⟨Nat.le_of_ble_eq_true rfl, Nat.le_of_ble_eq_true rfl⟩) hS (fun _ _ h => h.elim) (fun _ h => h.elim) (fun _ _ h => h.elim) (fun E ce q9 u9 t9 H1 locs1 ht9 hA9 _ hBX hz9 hq9 hS1 hce hcv hcl => ?_) (fun u9 t9 H1 locs1 ht9 hA9 hp9 => hp9.elim)
      exact gw_out htab hlocks hce hcv hcl hF9 (by decide) hBX hG hC hq9 hS1 (Nat.le_of_ble_eq_true rfl) (Nat.le_of_ble_eq_true rfl)
    · skip
      refine lv_iconst (v := 1) hx hb dX1_pass_24 (by decide) ?_
      refine lv_goto (tgt := 29) hx hb dX1_pass_25 (by decide) ?_
      refine va_csv (va_Run.run (va_runS (As := [.int 1]) (rest := []) ⟨hx, hb, hml, hown, hts⟩ (gg_checkState1 l) (va_cwS 1 hts (lw_S q358 q359 q42 q360) rfl rfl rfl (by decide +kernel) ⟨Nat.le_of_ble_eq_true rfl, Nat.le_of_ble_eq_true rfl⟩) gw_spre rfl rfl hl.1 rfl (lv_room (Nat.le_of_ble_eq_true rfl)) dX1_pass_29 ⟨Nat.le_of_ble_eq_true rfl, Nat.le_of_ble_eq_true rfl⟩)) (fun _ => ?_)
      refine lv_aload_n hx hb dX1_pass_32 rfl (lv_at hl 0 rfl) ?_
      refine lv_dup hx hb dX1_pass_33 rfl ?_
      refine gw_get hx hb hts in_X1 hown hK (gw_c0 hG) rfl 14 (by decide) (hts _ q114) (v := .int (σ 1 0)) rfl dX1_pass_34 ?_
      refine lv_iload_n hx hb dX1_pass_37 rfl (lv_at hl 1 rfl) ?_
      refine lv_iadd hx hb dX1_pass_38 ?_
      have hG := gw_gW.nu (gw_gW.z (v := 0) hG) (gw_nu_up rfl).symm
      refine gw_gput0_1 hx hb hts hown hK hG hS (hts _ q114) dX1_pass_39 (fun H locs hG hS => ?_)
      refine lv_aload_n hx hb dX1_pass_42 rfl (lv_at hl 0 rfl) ?_
      refine gw_get hx hb hts in_X1 hown hK (gw_c0 hG) rfl 14 (by decide) (hts _ q114) (v := .int ((σ 1 0) + d)) rfl dX1_pass_43 ?_
      have hG := gw_gW.nu hG (show gw_nu (gw_up (gw_up σ 0 0 0) 1 0 ((σ 1 0) + d)) = gw_nu σ from ((gw_nu_up rfl).trans (gw_nu_up rfl)))
      have hE9 : gw_up (gw_up σ 0 0 0) 1 0 ((σ 1 0) + d) = (gw_pass σ d).2 := (by simp only [gw_pass, gw_fail, h6, c21, (Int32.not_lt.mp c21), and_true, true_and, and_false, false_and, and_self, or_true, true_or, or_false, false_or, not_true_eq_false, not_false_eq_true, if_true, if_false, ↓reduceIte]; try rfl)
      have hP9 : (σ 1 0) + d = (gw_pass σ d).1 := (by simp only [gw_pass, gw_fail, h6, c21, (Int32.not_lt.mp c21), and_true, true_and, and_false, false_and, and_self, or_true, true_or, or_false, false_or, not_true_eq_false, not_false_eq_true, if_true, if_false, ↓reduceIte]; try rfl)
      have hC9 : gw_C (gw_up (gw_up σ 0 0 0) 1 0 ((σ 1 0) + d)) γ ord := (gw_C_up rfl (gw_C_up rfl hC))
      have hZ9 : (gw_up (gw_up σ 0 0 0) 1 0 ((σ 1 0) + d)) 0 0 = 0 := rfl
      rw [hE9] at hG hC9 hZ9
      refine vx_ret (W.widen (k := 1) (n := 6) (Nat.le_of_ble_eq_true rfl) (Nat.le_of_ble_eq_true rfl) ?_)
      exact W.iret (v := (σ 1 0) + d) hx hb hr (fun t ht hW => ⟨⟨_, (hd, γ, ord), rfl, ⟨hP9, hZ9, hC9⟩, by show gw_gW D ca es A ad _ _ _ _ _ t.heap; rw [ht]; exact hG⟩, hS.F ht⟩) hS.2.2 dX1_pass_46
  · skip
    refine gw_scalli (va_Run.run (va_runS (As := [.long d.toInt64, .long 1, .long 1000]) (rest := []) ⟨hx, hb, hml, hown, hts⟩ (gg_inRange l d.toInt64 1 1000) (va_cwS 3 hts (lw_S q279 q280 q42 q281) rfl rfl rfl (by decide +kernel) ⟨Nat.le_of_ble_eq_true rfl, Nat.le_of_ble_eq_true rfl⟩) gw_spre rfl rfl hl.1 rfl (lv_room (Nat.le_of_ble_eq_true rfl)) dX1_pass_6 ⟨Nat.le_of_ble_eq_true rfl, Nat.le_of_ble_eq_true rfl⟩)) ?_
    refine gw_topi (y := 0) (if_neg (gw_rgn (x := d) (by decide) (by decide) h6)) ?_
    have hF9 : (gw_pass σ d) = gw_fail σ 1 := (by simp only [gw_pass, gw_fail, h6, and_true, true_and, and_false, false_and, and_self, or_true, true_or, or_false, false_or, not_true_eq_false, not_false_eq_true, if_true, if_false, ↓reduceIte]; try rfl)
    refine vx_callv (vx_runS (As := [.int 0]) (rest := []) ⟨hx, hb, hml, hown, hts⟩ (gg_checkArgument0 l A hlt) (va_cwS 1 hts (lw_S q284 q285 q42 q286) rfl rfl rfl (by decide +kernel) ⟨Nat.le_of_ble_eq_true rfl, Nat.le_of_ble_eq_true rfl⟩) (gw_gspre [.int 0] gw_Thb (fun U hU hW => gw_That hU hW hE hN hS)) rfl rfl hl.1 rfl (lv_room (Nat.le_of_ble_eq_true rfl)) dX1_pass_9 ⟨Nat.le_of_ble_eq_true rfl, Nat.le_of_ble_eq_true rfl⟩) hS (fun _ _ h => h.elim) (fun _ h => h.elim) (fun _ _ h => h.elim) (fun E ce q9 u9 t9 H1 locs1 ht9 hA9 _ hBX hz9 hq9 hS1 hce hcv hcl => ?_) (fun u9 t9 H1 locs1 ht9 hA9 hp9 => hp9.elim)
    exact gw_out htab hlocks hce hcv hcl hF9 (by decide) hBX hG hC hq9 hS1 (Nat.le_of_ble_eq_true rfl) (Nat.le_of_ble_eq_true rfl)

set_option maxHeartbeats 4000000 in
set_option maxRecDepth 100000 in
theorem gx_call (l : Launch) (D : va_G) (ca : Nat → ClassId) (es : Nat → Nat) (A : Nat → Prop) (ad hd : Nat → Nat → Nat) (σ γ : gw_S) (ord : List Nat) (f o q y : Int32) (hlt : l.stackTraces = false) (hC : gw_C σ γ ord) (hJ : gw_J σ) : vx_Met l yX1_call (ws_ yX1_call cX1_call 5 (some .int)) ({ frames := 7, cells := 1, slots := 6, locals := 110 }) (va_Pc [.ref (ad 0 0), .int f, .int o, .int q, .int y] (gw_gP D ca es A ad hd σ γ ord (gw_nu σ))) (gw_Qi D ca es A ad (gw_call σ f o q y)) (gw_XC D ca es A ad (gw_T ["java/lang/IllegalArgumentException", "java/lang/IllegalStateException"]) (gw_call σ f o q y)) 1 6 A := by
  refine vx_ofW (cc := cX1_call) (maxL := 5) (ret := (some .int)) (by decide) rfl ?_
  intro p e s m args below meth c s₁ B hml htab hv
  obtain ⟨rfl, hG, hK, hE, hN, hA⟩ := hv
  have hx := B.exec
  have hb := B.bytes
  have hr := B.returns
  have hts := atoms_spec (ws := ws_ yX1_call cX1_call 5 (some .int)) B.pre
  have hts : ∀ w ∈ lw_all, w.before _ s = true := fun w h => hts w (List.mem_cons_of_mem _ h)
  have hown : s.vm.findClass RX1 = some m.cls := findClass_of_methodNamed B.named
  have hlocks := B.notSynchronized
  have hS : va_S A s.heap s.heap [] := va_S.rf
  have hl := lv_entry ([.ref (ad 0 0), .int f, .int o, .int q, .int y]) (n := 5) (Nat.le_of_ble_eq_true rfl)
  rw [lg_entry_eq]
  generalize (lg_sl ([.ref (ad 0 0), .int f, .int o, .int q, .int y]) ++ List.replicate (5 - (lg_sl ([.ref (ad 0 0), .int f, .int o, .int q, .int y])).length) Slot.unset).toArray = ls at hl ⊢
  have hl : lv_has ls 5 [(0, .ref (ad 0 0)), (1, .int f), (2, .int o), (3, .int q), (4, .int y)] := hl
  refine lv_iload_n hx hb dX1_call_0 rfl (lv_at hl 1 rfl) ?_
  refine lv_i2l (v := f.toInt64) hx hb dX1_call_1 rfl ?_
  refine lv_lconst (v := 0) hx hb dX1_call_2 (by decide) ?_
  refine lv_ldc2 (v := 3) hx hb hown (hts _ q278) dX1_call_3 ?_
  rcases Classical.em (0 ≤ f ∧ f ≤ 3) with h6 | h6
  · skip
    refine gw_scalli (va_Run.run (va_runS (As := [.long f.toInt64, .long 0, .long 3]) (rest := []) ⟨hx, hb, hml, hown, hts⟩ (gg_inRange l f.toInt64 0 3) (va_cwS 3 hts (lw_S q279 q280 q42 q281) rfl rfl rfl (by decide +kernel) ⟨Nat.le_of_ble_eq_true rfl, Nat.le_of_ble_eq_true rfl⟩) gw_spre rfl rfl hl.1 rfl (lv_room (Nat.le_of_ble_eq_true rfl)) dX1_call_6 ⟨Nat.le_of_ble_eq_true rfl, Nat.le_of_ble_eq_true rfl⟩)) ?_
    refine gw_topi (y := 1) (if_pos (gw_rgp (x := f) (by decide) (by decide) h6)) ?_
    refine lv_if_eq (tgt := 54) hx hb dX1_call_9 (by decide) (fun c_ => absurd c_ (by decide)) (fun _ => ?_)
    refine lv_iload_n hx hb dX1_call_12 rfl (lv_at hl 2 rfl) ?_
    refine lv_i2l (v := o.toInt64) hx hb dX1_call_13 rfl ?_
    refine lv_lconst (v := 0) hx hb dX1_call_14 (by decide) ?_
    refine lv_ldc2 (v := 10000) hx hb hown (hts _ q479) dX1_call_15 ?_
    rcases Classical.em (0 ≤ o ∧ o ≤ 10000) with h18 | h18
    · skip
      refine gw_scalli (va_Run.run (va_runS (As := [.long o.toInt64, .long 0, .long 10000]) (rest := []) ⟨hx, hb, hml, hown, hts⟩ (gg_inRange l o.toInt64 0 10000) (va_cwS 3 hts (lw_S q279 q280 q42 q281) rfl rfl rfl (by decide +kernel) ⟨Nat.le_of_ble_eq_true rfl, Nat.le_of_ble_eq_true rfl⟩) gw_spre rfl rfl hl.1 rfl (lv_room (Nat.le_of_ble_eq_true rfl)) dX1_call_18 ⟨Nat.le_of_ble_eq_true rfl, Nat.le_of_ble_eq_true rfl⟩)) ?_
      refine gw_topi (y := 1) (if_pos (gw_rgp (x := o) (by decide) (by decide) h18)) ?_
      refine lv_if_eq (tgt := 54) hx hb dX1_call_21 (by decide) (fun c_ => absurd c_ (by decide)) (fun _ => ?_)
      refine lv_iload_n hx hb dX1_call_24 rfl (lv_at hl 3 rfl) ?_
      refine lv_i2l (v := q.toInt64) hx hb dX1_call_25 rfl ?_
      refine lv_iload_n hx hb dX1_call_26 rfl (lv_at hl 2 rfl) ?_
      refine lv_i2l (v := o.toInt64) hx hb dX1_call_27 rfl ?_
      refine lv_ldc2 (v := 10000) hx hb hown (hts _ q479) dX1_call_28 ?_
      rcases Classical.em (o ≤ q ∧ q ≤ 10000) with h31 | h31
      · skip
        refine gw_scalli (va_Run.run (va_runS (As := [.long q.toInt64, .long o.toInt64, .long 10000]) (rest := []) ⟨hx, hb, hml, hown, hts⟩ (gg_inRange l q.toInt64 o.toInt64 10000) (va_cwS 3 hts (lw_S q279 q280 q42 q281) rfl rfl rfl (by decide +kernel) ⟨Nat.le_of_ble_eq_true rfl, Nat.le_of_ble_eq_true rfl⟩) gw_spre rfl rfl hl.1 rfl (lv_room (Nat.le_of_ble_eq_true rfl)) dX1_call_31 ⟨Nat.le_of_ble_eq_true rfl, Nat.le_of_ble_eq_true rfl⟩)) ?_
        refine gw_topi (y := 1) (if_pos (gw_rgp (x := q) rfl (by decide) h31)) ?_
        refine lv_if_eq (tgt := 54) hx hb dX1_call_34 (by decide) (fun c_ => absurd c_ (by decide)) (fun _ => ?_)
        refine lv_iload hx hb dX1_call_37 (lv_at hl 4 rfl) ?_
        refine lv_i2l (v := y.toInt64) hx hb dX1_call_39 rfl ?_
        refine lv_lconst (v := 0) hx hb dX1_call_40 (by decide) ?_
        refine lv_ldc2 (v := 9) hx hb hown (hts _ q480) dX1_call_41 ?_
        rcases Classical.em (0 ≤ y ∧ y ≤ 9) with h44 | h44
        · skip
          refine gw_scalli (va_Run.run (va_runS (As := [.long y.toInt64, .long 0, .long 9]) (rest := []) ⟨hx, hb, hml, hown, hts⟩ (gg_inRange l y.toInt64 0 9) (va_cwS 3 hts (lw_S q279 q280 q42 q281) rfl rfl rfl (by decide +kernel) ⟨Nat.le_of_ble_eq_true rfl, Nat.le_of_ble_eq_true rfl⟩) gw_spre rfl rfl hl.1 rfl (lv_room (Nat.le_of_ble_eq_true rfl)) dX1_call_44 ⟨Nat.le_of_ble_eq_true rfl, Nat.le_of_ble_eq_true rfl⟩)) ?_
          refine gw_topi (y := 1) (if_pos (gw_rgp (x := y) (by decide) (by decide) h44)) ?_
          refine lv_if_eq (tgt := 54) hx hb dX1_call_47 (by decide) (fun c_ => absurd c_ (by decide)) (fun _ => ?_)
          refine lv_iconst (v := 1) hx hb dX1_call_50 (by decide) ?_
          refine lv_goto (tgt := 55) hx hb dX1_call_51 (by decide) ?_
          refine va_csv (va_Run.run (va_runS (As := [.int 1]) (rest := []) ⟨hx, hb, hml, hown, hts⟩ (gg_checkArgument1 l) (va_cwS 1 hts (lw_S q284 q285 q42 q286) rfl rfl rfl (by decide +kernel) ⟨Nat.le_of_ble_eq_true rfl, Nat.le_of_ble_eq_true rfl⟩) gw_spre rfl rfl hl.1 rfl (lv_room (Nat.le_of_ble_eq_true rfl)) dX1_call_55 ⟨Nat.le_of_ble_eq_true rfl, Nat.le_of_ble_eq_true rfl⟩)) (fun _ => ?_)
          refine lv_aload_n hx hb dX1_call_58 rfl (lv_at hl 0 rfl) ?_
          refine gw_get hx hb hts in_X1 hown hK (gw_c0 hG) rfl 12 (by decide) (hts _ q112) (v := .int (σ 7 0)) rfl dX1_call_59 ?_
          refine lv_bipush (v := 6) hx hb dX1_call_62 (by decide) ?_
          refine lv_icmp_ge (tgt := 71) hx hb dX1_call_64 (by decide) (fun c64 => ?_) (fun c64 => ?_)
          · skip
            have c64b : σ 7 0 = 6 := gw_capT (k := 6) hJ.n7 hJ.b7 (by decide) c64
            refine lv_iconst (v := 0) hx hb dX1_call_71 (by decide) ?_
            have hF9 : (gw_call σ f o q y) = gw_fail σ 2 := (by simp only [gw_call, gw_call1, gw_fail, h6, h18, h31, h44, c64, (Int32.not_lt.mpr c64), (eq_true c64b), and_true, true_and, and_false, false_and, and_self, or_true, true_or, or_false, false_or, not_true_eq_false, not_false_eq_true, if_true, if_false, ↓reduceIte]; try rfl)
            refine vx_callv (vx_runS (As := [.int 0]) (rest := []) ⟨hx, hb, hml, hown, hts⟩ (gg_checkState0 l A hlt) (va_cwS 1 hts (lw_S q358 q359 q42 q360) rfl rfl rfl (by decide +kernel) ⟨Nat.le_of_ble_eq_true rfl, Nat.le_of_ble_eq_true rfl⟩) (gw_gspre [.int 0] gw_Thb (fun U hU hW => gw_That hU hW hE hN hS)) rfl rfl hl.1 rfl (lv_room (Nat.le_of_ble_eq_true rfl)) dX1_call_72 ⟨Nat.le_of_ble_eq_true rfl, Nat.le_of_ble_eq_true rfl⟩) hS (fun _ _ h => h.elim) (fun _ h => h.elim) (fun _ _ h => h.elim) (fun E ce q9 u9 t9 H1 locs1 ht9 hA9 _ hBX hz9 hq9 hS1 hce hcv hcl => ?_) (fun u9 t9 H1 locs1 ht9 hA9 hp9 => hp9.elim)
            exact gw_out htab hlocks hce hcv hcl hF9 (by decide) hBX hG hC hq9 hS1 (Nat.le_of_ble_eq_true rfl) (Nat.le_of_ble_eq_true rfl)
          · skip
            have c64b : ¬ σ 7 0 = 6 := gw_capF c64
            refine lv_iconst (v := 1) hx hb dX1_call_67 (by decide) ?_
            refine lv_goto (tgt := 72) hx hb dX1_call_68 (by decide) ?_
            refine va_csv (va_Run.run (va_runS (As := [.int 1]) (rest := []) ⟨hx, hb, hml, hown, hts⟩ (gg_checkState1 l) (va_cwS 1 hts (lw_S q358 q359 q42 q360) rfl rfl rfl (by decide +kernel) ⟨Nat.le_of_ble_eq_true rfl, Nat.le_of_ble_eq_true rfl⟩) gw_spre rfl rfl hl.1 rfl (lv_room (Nat.le_of_ble_eq_true rfl)) dX1_call_72 ⟨Nat.le_of_ble_eq_true rfl, Nat.le_of_ble_eq_true rfl⟩)) (fun _ => ?_)
            refine lv_aload_n hx hb dX1_call_75 rfl (lv_at hl 0 rfl) ?_
            refine gw_get hx hb hts in_X1 hown hK (gw_c0 hG) rfl 4 (by decide) (hts _ q104) (v := .ref (ad 6 0)) rfl dX1_call_76 ?_
            refine lv_aload_n hx hb dX1_call_79 rfl (lv_at hl 0 rfl) ?_
            refine gw_get hx hb hts in_X1 hown hK (gw_c0 hG) rfl 12 (by decide) (hts _ q112) (v := .int (σ 7 0)) rfl dX1_call_80 ?_
            refine gw_topi (y := nI (gw_n σ 7)) hJ.n7 ?_
            refine lv_iload_n hx hb dX1_call_83 rfl (lv_at hl 1 rfl) ?_
            have hG := gw_gW.nu (gw_gW.z (v := 0) hG) (gw_nu_up rfl).symm
            refine gw_gst0 (j := gw_n σ 7) hx hb hK hG hS (gw_ltn hJ.n7 hJ.b7 c64b) dX1_call_84 (fun H locs hG hS => ?_)
            refine lv_aload_n hx hb dX1_call_85 rfl (lv_at hl 0 rfl) ?_
            refine gw_get hx hb hts in_X1 hown hK (gw_c0 hG) rfl 5 (by decide) (hts _ q105) (v := .ref (ad 6 1)) rfl dX1_call_86 ?_
            refine lv_aload_n hx hb dX1_call_89 rfl (lv_at hl 0 rfl) ?_
            refine gw_get hx hb hts in_X1 hown hK (gw_c0 hG) rfl 12 (by decide) (hts _ q112) (v := .int (σ 7 0)) rfl dX1_call_90 ?_
            refine gw_topi (y := nI (gw_n σ 7)) hJ.n7 ?_
            refine lv_iload_n hx hb dX1_call_93 rfl (lv_at hl 2 rfl) ?_
            refine gw_gst1 (j := gw_n σ 7) hx hb hK hG hS (gw_ltn hJ.n7 hJ.b7 c64b) dX1_call_94 (fun H locs hG hS => ?_)
            refine lv_aload_n hx hb dX1_call_95 rfl (lv_at hl 0 rfl) ?_
            refine gw_get hx hb hts in_X1 hown hK (gw_c0 hG) rfl 6 (by decide) (hts _ q106) (v := .ref (ad 6 2)) rfl dX1_call_96 ?_
            refine lv_aload_n hx hb dX1_call_99 rfl (lv_at hl 0 rfl) ?_
            refine gw_get hx hb hts in_X1 hown hK (gw_c0 hG) rfl 12 (by decide) (hts _ q112) (v := .int (σ 7 0)) rfl dX1_call_100 ?_
            refine gw_topi (y := nI (gw_n σ 7)) hJ.n7 ?_
            refine lv_iload_n hx hb dX1_call_103 rfl (lv_at hl 3 rfl) ?_
            refine gw_gst2 (j := gw_n σ 7) hx hb hK hG hS (gw_ltn hJ.n7 hJ.b7 c64b) dX1_call_104 (fun H locs hG hS => ?_)
            refine lv_aload_n hx hb dX1_call_105 rfl (lv_at hl 0 rfl) ?_
            refine gw_get hx hb hts in_X1 hown hK (gw_c0 hG) rfl 7 (by decide) (hts _ q107) (v := .ref (ad 6 3)) rfl dX1_call_106 ?_
            refine lv_aload_n hx hb dX1_call_109 rfl (lv_at hl 0 rfl) ?_
            refine gw_get hx hb hts in_X1 hown hK (gw_c0 hG) rfl 12 (by decide) (hts _ q112) (v := .int (σ 7 0)) rfl dX1_call_110 ?_
            refine gw_topi (y := nI (gw_n σ 7)) hJ.n7 ?_
            refine lv_iload hx hb dX1_call_113 (lv_at hl 4 rfl) ?_
            refine gw_gst3 (j := gw_n σ 7) hx hb hK hG hS (gw_ltn hJ.n7 hJ.b7 c64b) dX1_call_115 (fun H locs hG hS => ?_)
            refine lv_aload_n hx hb dX1_call_116 rfl (lv_at hl 0 rfl) ?_
            refine lv_dup hx hb dX1_call_117 rfl ?_
            refine gw_get hx hb hts in_X1 hown hK (gw_c0 hG) rfl 12 (by decide) (hts _ q112) (v := .int (σ 7 0)) rfl dX1_call_118 ?_
            refine lv_iconst (v := 1) hx hb dX1_call_121 (by decide) ?_
            refine lv_iadd hx hb dX1_call_122 ?_
            refine gw_gput0_7 hx hb hts hown hK hG hS (hts _ q112) dX1_call_123 (fun H locs hG hS => ?_)
            refine lv_aload_n hx hb dX1_call_126 rfl (lv_at hl 0 rfl) ?_
            refine gw_get hx hb hts in_X1 hown hK (gw_c0 hG) rfl 12 (by decide) (hts _ q112) (v := .int ((σ 7 0) + 1)) rfl dX1_call_127 ?_
            refine lv_iconst (v := 1) hx hb dX1_call_130 (by decide) ?_
            refine lv_isub hx hb dX1_call_131 ?_
            have hG := gw_gW.nu hG (show gw_nu (gw_up (gw_up (gw_up (gw_up (gw_up (gw_up σ 0 0 0) 8 (gw_n σ 7) f) 9 (gw_n σ 7) o) 10 (gw_n σ 7) q) 11 (gw_n σ 7) y) 7 0 ((σ 7 0) + 1)) = gw_nu σ from ((gw_nu_up rfl).trans ((gw_nu_up rfl).trans ((gw_nu_up rfl).trans ((gw_nu_up rfl).trans ((gw_nu_up rfl).trans (gw_nu_up rfl)))))))
            have hE9 : gw_up (gw_up (gw_up (gw_up (gw_up (gw_up σ 0 0 0) 8 (gw_n σ 7) f) 9 (gw_n σ 7) o) 10 (gw_n σ 7) q) 11 (gw_n σ 7) y) 7 0 ((σ 7 0) + 1) = (gw_call σ f o q y).2 := (by simp only [gw_call, gw_call1, gw_fail, h6, h18, h31, h44, c64, (Int32.not_le.mp c64), c64b, and_true, true_and, and_false, false_and, and_self, or_true, true_or, or_false, false_or, not_true_eq_false, not_false_eq_true, if_true, if_false, ↓reduceIte]; try rfl)
            have hP9 : ((σ 7 0) + 1) - 1 = (gw_call σ f o q y).1 := (by simp only [gw_call, gw_call1, gw_fail, h6, h18, h31, h44, c64, (Int32.not_le.mp c64), c64b, and_true, true_and, and_false, false_and, and_self, or_true, true_or, or_false, false_or, not_true_eq_false, not_false_eq_true, if_true, if_false, ↓reduceIte]; try rfl)
            have hC9 : gw_C (gw_up (gw_up (gw_up (gw_up (gw_up (gw_up σ 0 0 0) 8 (gw_n σ 7) f) 9 (gw_n σ 7) o) 10 (gw_n σ 7) q) 11 (gw_n σ 7) y) 7 0 ((σ 7 0) + 1)) γ ord := (gw_C_up rfl (gw_C_up rfl (gw_C_up rfl (gw_C_up rfl (gw_C_up rfl (gw_C_up rfl hC))))))
            have hZ9 : (gw_up (gw_up (gw_up (gw_up (gw_up (gw_up σ 0 0 0) 8 (gw_n σ 7) f) 9 (gw_n σ 7) o) 10 (gw_n σ 7) q) 11 (gw_n σ 7) y) 7 0 ((σ 7 0) + 1)) 0 0 = 0 := rfl
            rw [hE9] at hG hC9 hZ9
            refine vx_ret (W.widen (k := 1) (n := 6) (Nat.le_of_ble_eq_true rfl) (Nat.le_of_ble_eq_true rfl) ?_)
            exact W.iret (v := ((σ 7 0) + 1) - 1) hx hb hr (fun t ht hW => ⟨⟨_, (hd, γ, ord), rfl, ⟨hP9, hZ9, hC9⟩, by show gw_gW D ca es A ad _ _ _ _ _ t.heap; rw [ht]; exact hG⟩, hS.F ht⟩) hS.2.2 dX1_call_132
        · skip
          refine gw_scalli (va_Run.run (va_runS (As := [.long y.toInt64, .long 0, .long 9]) (rest := []) ⟨hx, hb, hml, hown, hts⟩ (gg_inRange l y.toInt64 0 9) (va_cwS 3 hts (lw_S q279 q280 q42 q281) rfl rfl rfl (by decide +kernel) ⟨Nat.le_of_ble_eq_true rfl, Nat.le_of_ble_eq_true rfl⟩) gw_spre rfl rfl hl.1 rfl (lv_room (Nat.le_of_ble_eq_true rfl)) dX1_call_44 ⟨Nat.le_of_ble_eq_true rfl, Nat.le_of_ble_eq_true rfl⟩)) ?_
          refine gw_topi (y := 0) (if_neg (gw_rgn (x := y) (by decide) (by decide) h44)) ?_
          refine lv_if_eq (tgt := 54) hx hb dX1_call_47 (by decide) (fun _ => ?_) (fun c_ => absurd c_ (by decide))
          refine lv_iconst (v := 0) hx hb dX1_call_54 (by decide) ?_
          have hF9 : (gw_call σ f o q y) = gw_fail σ 1 := (by simp only [gw_call, gw_call1, gw_fail, h6, h18, h31, h44, and_true, true_and, and_false, false_and, and_self, or_true, true_or, or_false, false_or, not_true_eq_false, not_false_eq_true, if_true, if_false, ↓reduceIte]; try rfl)
          refine vx_callv (vx_runS (As := [.int 0]) (rest := []) ⟨hx, hb, hml, hown, hts⟩ (gg_checkArgument0 l A hlt) (va_cwS 1 hts (lw_S q284 q285 q42 q286) rfl rfl rfl (by decide +kernel) ⟨Nat.le_of_ble_eq_true rfl, Nat.le_of_ble_eq_true rfl⟩) (gw_gspre [.int 0] gw_Thb (fun U hU hW => gw_That hU hW hE hN hS)) rfl rfl hl.1 rfl (lv_room (Nat.le_of_ble_eq_true rfl)) dX1_call_55 ⟨Nat.le_of_ble_eq_true rfl, Nat.le_of_ble_eq_true rfl⟩) hS (fun _ _ h => h.elim) (fun _ h => h.elim) (fun _ _ h => h.elim) (fun E ce q9 u9 t9 H1 locs1 ht9 hA9 _ hBX hz9 hq9 hS1 hce hcv hcl => ?_) (fun u9 t9 H1 locs1 ht9 hA9 hp9 => hp9.elim)
          exact gw_out htab hlocks hce hcv hcl hF9 (by decide) hBX hG hC hq9 hS1 (Nat.le_of_ble_eq_true rfl) (Nat.le_of_ble_eq_true rfl)
      · skip
        refine gw_scalli (va_Run.run (va_runS (As := [.long q.toInt64, .long o.toInt64, .long 10000]) (rest := []) ⟨hx, hb, hml, hown, hts⟩ (gg_inRange l q.toInt64 o.toInt64 10000) (va_cwS 3 hts (lw_S q279 q280 q42 q281) rfl rfl rfl (by decide +kernel) ⟨Nat.le_of_ble_eq_true rfl, Nat.le_of_ble_eq_true rfl⟩) gw_spre rfl rfl hl.1 rfl (lv_room (Nat.le_of_ble_eq_true rfl)) dX1_call_31 ⟨Nat.le_of_ble_eq_true rfl, Nat.le_of_ble_eq_true rfl⟩)) ?_
        refine gw_topi (y := 0) (if_neg (gw_rgn (x := q) rfl (by decide) h31)) ?_
        refine lv_if_eq (tgt := 54) hx hb dX1_call_34 (by decide) (fun _ => ?_) (fun c_ => absurd c_ (by decide))
        refine lv_iconst (v := 0) hx hb dX1_call_54 (by decide) ?_
        have hF9 : (gw_call σ f o q y) = gw_fail σ 1 := (by simp only [gw_call, gw_call1, gw_fail, h6, h18, h31, and_true, true_and, and_false, false_and, and_self, or_true, true_or, or_false, false_or, not_true_eq_false, not_false_eq_true, if_true, if_false, ↓reduceIte]; try rfl)
        refine vx_callv (vx_runS (As := [.int 0]) (rest := []) ⟨hx, hb, hml, hown, hts⟩ (gg_checkArgument0 l A hlt) (va_cwS 1 hts (lw_S q284 q285 q42 q286) rfl rfl rfl (by decide +kernel) ⟨Nat.le_of_ble_eq_true rfl, Nat.le_of_ble_eq_true rfl⟩) (gw_gspre [.int 0] gw_Thb (fun U hU hW => gw_That hU hW hE hN hS)) rfl rfl hl.1 rfl (lv_room (Nat.le_of_ble_eq_true rfl)) dX1_call_55 ⟨Nat.le_of_ble_eq_true rfl, Nat.le_of_ble_eq_true rfl⟩) hS (fun _ _ h => h.elim) (fun _ h => h.elim) (fun _ _ h => h.elim) (fun E ce q9 u9 t9 H1 locs1 ht9 hA9 _ hBX hz9 hq9 hS1 hce hcv hcl => ?_) (fun u9 t9 H1 locs1 ht9 hA9 hp9 => hp9.elim)
        exact gw_out htab hlocks hce hcv hcl hF9 (by decide) hBX hG hC hq9 hS1 (Nat.le_of_ble_eq_true rfl) (Nat.le_of_ble_eq_true rfl)
    · skip
      refine gw_scalli (va_Run.run (va_runS (As := [.long o.toInt64, .long 0, .long 10000]) (rest := []) ⟨hx, hb, hml, hown, hts⟩ (gg_inRange l o.toInt64 0 10000) (va_cwS 3 hts (lw_S q279 q280 q42 q281) rfl rfl rfl (by decide +kernel) ⟨Nat.le_of_ble_eq_true rfl, Nat.le_of_ble_eq_true rfl⟩) gw_spre rfl rfl hl.1 rfl (lv_room (Nat.le_of_ble_eq_true rfl)) dX1_call_18 ⟨Nat.le_of_ble_eq_true rfl, Nat.le_of_ble_eq_true rfl⟩)) ?_
      refine gw_topi (y := 0) (if_neg (gw_rgn (x := o) (by decide) (by decide) h18)) ?_
      refine lv_if_eq (tgt := 54) hx hb dX1_call_21 (by decide) (fun _ => ?_) (fun c_ => absurd c_ (by decide))
      refine lv_iconst (v := 0) hx hb dX1_call_54 (by decide) ?_
      have hF9 : (gw_call σ f o q y) = gw_fail σ 1 := (by simp only [gw_call, gw_call1, gw_fail, h6, h18, and_true, true_and, and_false, false_and, and_self, or_true, true_or, or_false, false_or, not_true_eq_false, not_false_eq_true, if_true, if_false, ↓reduceIte]; try rfl)
      refine vx_callv (vx_runS (As := [.int 0]) (rest := []) ⟨hx, hb, hml, hown, hts⟩ (gg_checkArgument0 l A hlt) (va_cwS 1 hts (lw_S q284 q285 q42 q286) rfl rfl rfl (by decide +kernel) ⟨Nat.le_of_ble_eq_true rfl, Nat.le_of_ble_eq_true rfl⟩) (gw_gspre [.int 0] gw_Thb (fun U hU hW => gw_That hU hW hE hN hS)) rfl rfl hl.1 rfl (lv_room (Nat.le_of_ble_eq_true rfl)) dX1_call_55 ⟨Nat.le_of_ble_eq_true rfl, Nat.le_of_ble_eq_true rfl⟩) hS (fun _ _ h => h.elim) (fun _ h => h.elim) (fun _ _ h => h.elim) (fun E ce q9 u9 t9 H1 locs1 ht9 hA9 _ hBX hz9 hq9 hS1 hce hcv hcl => ?_) (fun u9 t9 H1 locs1 ht9 hA9 hp9 => hp9.elim)
      exact gw_out htab hlocks hce hcv hcl hF9 (by decide) hBX hG hC hq9 hS1 (Nat.le_of_ble_eq_true rfl) (Nat.le_of_ble_eq_true rfl)
  · skip
    refine gw_scalli (va_Run.run (va_runS (As := [.long f.toInt64, .long 0, .long 3]) (rest := []) ⟨hx, hb, hml, hown, hts⟩ (gg_inRange l f.toInt64 0 3) (va_cwS 3 hts (lw_S q279 q280 q42 q281) rfl rfl rfl (by decide +kernel) ⟨Nat.le_of_ble_eq_true rfl, Nat.le_of_ble_eq_true rfl⟩) gw_spre rfl rfl hl.1 rfl (lv_room (Nat.le_of_ble_eq_true rfl)) dX1_call_6 ⟨Nat.le_of_ble_eq_true rfl, Nat.le_of_ble_eq_true rfl⟩)) ?_
    refine gw_topi (y := 0) (if_neg (gw_rgn (x := f) (by decide) (by decide) h6)) ?_
    refine lv_if_eq (tgt := 54) hx hb dX1_call_9 (by decide) (fun _ => ?_) (fun c_ => absurd c_ (by decide))
    refine lv_iconst (v := 0) hx hb dX1_call_54 (by decide) ?_
    have hF9 : (gw_call σ f o q y) = gw_fail σ 1 := (by simp only [gw_call, gw_call1, gw_fail, h6, and_true, true_and, and_false, false_and, and_self, or_true, true_or, or_false, false_or, not_true_eq_false, not_false_eq_true, if_true, if_false, ↓reduceIte]; try rfl)
    refine vx_callv (vx_runS (As := [.int 0]) (rest := []) ⟨hx, hb, hml, hown, hts⟩ (gg_checkArgument0 l A hlt) (va_cwS 1 hts (lw_S q284 q285 q42 q286) rfl rfl rfl (by decide +kernel) ⟨Nat.le_of_ble_eq_true rfl, Nat.le_of_ble_eq_true rfl⟩) (gw_gspre [.int 0] gw_Thb (fun U hU hW => gw_That hU hW hE hN hS)) rfl rfl hl.1 rfl (lv_room (Nat.le_of_ble_eq_true rfl)) dX1_call_55 ⟨Nat.le_of_ble_eq_true rfl, Nat.le_of_ble_eq_true rfl⟩) hS (fun _ _ h => h.elim) (fun _ h => h.elim) (fun _ _ h => h.elim) (fun E ce q9 u9 t9 H1 locs1 ht9 hA9 _ hBX hz9 hq9 hS1 hce hcv hcl => ?_) (fun u9 t9 H1 locs1 ht9 hA9 hp9 => hp9.elim)
    exact gw_out htab hlocks hce hcv hcl hF9 (by decide) hBX hG hC hq9 hS1 (Nat.le_of_ble_eq_true rfl) (Nat.le_of_ble_eq_true rfl)

set_option maxHeartbeats 4000000 in
set_option maxRecDepth 100000 in
theorem gx_reviewer (l : Launch) (D : va_G) (ca : Nat → ClassId) (es : Nat → Nat) (A : Nat → Prop) (ad hd : Nat → Nat → Nat) (σ γ : gw_S) (ord : List Nat) (w h : Int32) (hlt : l.stackTraces = false) (hC : gw_C σ γ ord) (hJ : gw_J σ) : vx_Met l yX1_reviewer (ws_ yX1_reviewer cX1_reviewer 3 (some .int)) ({ frames := 7, cells := 1, slots := 6, locals := 110 }) (va_Pc [.ref (ad 0 0), .int w, .int h] (gw_gP D ca es A ad hd σ γ ord (gw_nu σ))) (gw_Qi D ca es A ad (gw_reviewer σ w h)) (gw_XC D ca es A ad (gw_T ["java/lang/IllegalArgumentException", "java/lang/IllegalStateException"]) (gw_reviewer σ w h)) 1 6 A := by
  refine vx_ofW (cc := cX1_reviewer) (maxL := 3) (ret := (some .int)) (by decide) rfl ?_
  intro p e s m args below meth c s₁ B hml htab hv
  obtain ⟨rfl, hG, hK, hE, hN, hA⟩ := hv
  have hx := B.exec
  have hb := B.bytes
  have hr := B.returns
  have hts := atoms_spec (ws := ws_ yX1_reviewer cX1_reviewer 3 (some .int)) B.pre
  have hts : ∀ w ∈ lw_all, w.before _ s = true := fun w h => hts w (List.mem_cons_of_mem _ h)
  have hown : s.vm.findClass RX1 = some m.cls := findClass_of_methodNamed B.named
  have hlocks := B.notSynchronized
  have hS : va_S A s.heap s.heap [] := va_S.rf
  have hl := lv_entry ([.ref (ad 0 0), .int w, .int h]) (n := 3) (Nat.le_of_ble_eq_true rfl)
  rw [lg_entry_eq]
  generalize (lg_sl ([.ref (ad 0 0), .int w, .int h]) ++ List.replicate (3 - (lg_sl ([.ref (ad 0 0), .int w, .int h])).length) Slot.unset).toArray = ls at hl ⊢
  have hl : lv_has ls 3 [(0, .ref (ad 0 0)), (1, .int w), (2, .int h)] := hl
  refine lv_iload_n hx hb dX1_reviewer_0 rfl (lv_at hl 1 rfl) ?_
  refine lv_i2l (v := w.toInt64) hx hb dX1_reviewer_1 rfl ?_
  refine lv_lconst (v := 0) hx hb dX1_reviewer_2 (by decide) ?_
  refine lv_ldc2 (v := 29) hx hb hown (hts _ q543) dX1_reviewer_3 ?_
  rcases Classical.em (0 ≤ w ∧ w ≤ 29) with h6 | h6
  · skip
    refine gw_scalli (va_Run.run (va_runS (As := [.long w.toInt64, .long 0, .long 29]) (rest := []) ⟨hx, hb, hml, hown, hts⟩ (gg_inRange l w.toInt64 0 29) (va_cwS 3 hts (lw_S q279 q280 q42 q281) rfl rfl rfl (by decide +kernel) ⟨Nat.le_of_ble_eq_true rfl, Nat.le_of_ble_eq_true rfl⟩) gw_spre rfl rfl hl.1 rfl (lv_room (Nat.le_of_ble_eq_true rfl)) dX1_reviewer_6 ⟨Nat.le_of_ble_eq_true rfl, Nat.le_of_ble_eq_true rfl⟩)) ?_
    refine gw_topi (y := 1) (if_pos (gw_rgp (x := w) (by decide) (by decide) h6)) ?_
    refine lv_if_eq (tgt := 28) hx hb dX1_reviewer_9 (by decide) (fun c_ => absurd c_ (by decide)) (fun _ => ?_)
    refine lv_iload_n hx hb dX1_reviewer_12 rfl (lv_at hl 2 rfl) ?_
    refine lv_i2l (v := h.toInt64) hx hb dX1_reviewer_13 rfl ?_
    refine lv_lconst (v := 0) hx hb dX1_reviewer_14 (by decide) ?_
    refine lv_ldc2 (v := 9) hx hb hown (hts _ q480) dX1_reviewer_15 ?_
    rcases Classical.em (0 ≤ h ∧ h ≤ 9) with h18 | h18
    · skip
      refine gw_scalli (va_Run.run (va_runS (As := [.long h.toInt64, .long 0, .long 9]) (rest := []) ⟨hx, hb, hml, hown, hts⟩ (gg_inRange l h.toInt64 0 9) (va_cwS 3 hts (lw_S q279 q280 q42 q281) rfl rfl rfl (by decide +kernel) ⟨Nat.le_of_ble_eq_true rfl, Nat.le_of_ble_eq_true rfl⟩) gw_spre rfl rfl hl.1 rfl (lv_room (Nat.le_of_ble_eq_true rfl)) dX1_reviewer_18 ⟨Nat.le_of_ble_eq_true rfl, Nat.le_of_ble_eq_true rfl⟩)) ?_
      refine gw_topi (y := 1) (if_pos (gw_rgp (x := h) (by decide) (by decide) h18)) ?_
      refine lv_if_eq (tgt := 28) hx hb dX1_reviewer_21 (by decide) (fun c_ => absurd c_ (by decide)) (fun _ => ?_)
      refine lv_iconst (v := 1) hx hb dX1_reviewer_24 (by decide) ?_
      refine lv_goto (tgt := 29) hx hb dX1_reviewer_25 (by decide) ?_
      refine va_csv (va_Run.run (va_runS (As := [.int 1]) (rest := []) ⟨hx, hb, hml, hown, hts⟩ (gg_checkArgument1 l) (va_cwS 1 hts (lw_S q284 q285 q42 q286) rfl rfl rfl (by decide +kernel) ⟨Nat.le_of_ble_eq_true rfl, Nat.le_of_ble_eq_true rfl⟩) gw_spre rfl rfl hl.1 rfl (lv_room (Nat.le_of_ble_eq_true rfl)) dX1_reviewer_29 ⟨Nat.le_of_ble_eq_true rfl, Nat.le_of_ble_eq_true rfl⟩)) (fun _ => ?_)
      refine lv_aload_n hx hb dX1_reviewer_32 rfl (lv_at hl 0 rfl) ?_
      refine gw_get hx hb hts in_X1 hown hK (gw_c0 hG) rfl 19 (by decide) (hts _ q119) (v := .int (σ 25 0)) rfl dX1_reviewer_33 ?_
      refine lv_bipush (v := 10) hx hb dX1_reviewer_36 (by decide) ?_
      refine lv_icmp_ge (tgt := 45) hx hb dX1_reviewer_38 (by decide) (fun c38 => ?_) (fun c38 => ?_)
      · skip
        have c38b : σ 25 0 = 10 := gw_capT (k := 10) hJ.n25 hJ.b25 (by decide) c38
        refine lv_iconst (v := 0) hx hb dX1_reviewer_45 (by decide) ?_
        have hF9 : (gw_reviewer σ w h) = gw_fail σ 2 := (by simp only [gw_reviewer, gw_fail, h6, h18, c38, (Int32.not_lt.mpr c38), (eq_true c38b), and_true, true_and, and_false, false_and, and_self, or_true, true_or, or_false, false_or, not_true_eq_false, not_false_eq_true, if_true, if_false, ↓reduceIte]; try rfl)
        refine vx_callv (vx_runS (As := [.int 0]) (rest := []) ⟨hx, hb, hml, hown, hts⟩ (gg_checkState0 l A hlt) (va_cwS 1 hts (lw_S q358 q359 q42 q360) rfl rfl rfl (by decide +kernel) ⟨Nat.le_of_ble_eq_true rfl, Nat.le_of_ble_eq_true rfl⟩) (gw_gspre [.int 0] gw_Thb (fun U hU hW => gw_That hU hW hE hN hS)) rfl rfl hl.1 rfl (lv_room (Nat.le_of_ble_eq_true rfl)) dX1_reviewer_46 ⟨Nat.le_of_ble_eq_true rfl, Nat.le_of_ble_eq_true rfl⟩) hS (fun _ _ h => h.elim) (fun _ h => h.elim) (fun _ _ h => h.elim) (fun E ce q9 u9 t9 H1 locs1 ht9 hA9 _ hBX hz9 hq9 hS1 hce hcv hcl => ?_) (fun u9 t9 H1 locs1 ht9 hA9 hp9 => hp9.elim)
        exact gw_out htab hlocks hce hcv hcl hF9 (by decide) hBX hG hC hq9 hS1 (Nat.le_of_ble_eq_true rfl) (Nat.le_of_ble_eq_true rfl)
      · skip
        have c38b : ¬ σ 25 0 = 10 := gw_capF c38
        refine lv_iconst (v := 1) hx hb dX1_reviewer_41 (by decide) ?_
        refine lv_goto (tgt := 46) hx hb dX1_reviewer_42 (by decide) ?_
        refine va_csv (va_Run.run (va_runS (As := [.int 1]) (rest := []) ⟨hx, hb, hml, hown, hts⟩ (gg_checkState1 l) (va_cwS 1 hts (lw_S q358 q359 q42 q360) rfl rfl rfl (by decide +kernel) ⟨Nat.le_of_ble_eq_true rfl, Nat.le_of_ble_eq_true rfl⟩) gw_spre rfl rfl hl.1 rfl (lv_room (Nat.le_of_ble_eq_true rfl)) dX1_reviewer_46 ⟨Nat.le_of_ble_eq_true rfl, Nat.le_of_ble_eq_true rfl⟩)) (fun _ => ?_)
        refine lv_aload_n hx hb dX1_reviewer_49 rfl (lv_at hl 0 rfl) ?_
        refine gw_get hx hb hts in_X1 hown hK (gw_c0 hG) rfl 15 (by decide) (hts _ q115) (v := .ref (ad 6 7)) rfl dX1_reviewer_50 ?_
        refine lv_aload_n hx hb dX1_reviewer_53 rfl (lv_at hl 0 rfl) ?_
        refine gw_get hx hb hts in_X1 hown hK (gw_c0 hG) rfl 19 (by decide) (hts _ q119) (v := .int (σ 25 0)) rfl dX1_reviewer_54 ?_
        refine gw_topi (y := nI (gw_n σ 25)) hJ.n25 ?_
        refine lv_iload_n hx hb dX1_reviewer_57 rfl (lv_at hl 1 rfl) ?_
        have hG := gw_gW.nu (gw_gW.z (v := 0) hG) (gw_nu_up rfl).symm
        refine gw_gst7 (j := gw_n σ 25) hx hb hK hG hS (gw_ltn hJ.n25 hJ.b25 c38b) dX1_reviewer_58 (fun H locs hG hS => ?_)
        refine lv_aload_n hx hb dX1_reviewer_59 rfl (lv_at hl 0 rfl) ?_
        refine gw_get hx hb hts in_X1 hown hK (gw_c0 hG) rfl 16 (by decide) (hts _ q116) (v := .ref (ad 6 8)) rfl dX1_reviewer_60 ?_
        refine lv_aload_n hx hb dX1_reviewer_63 rfl (lv_at hl 0 rfl) ?_
        refine gw_get hx hb hts in_X1 hown hK (gw_c0 hG) rfl 19 (by decide) (hts _ q119) (v := .int (σ 25 0)) rfl dX1_reviewer_64 ?_
        refine gw_topi (y := nI (gw_n σ 25)) hJ.n25 ?_
        refine lv_iload_n hx hb dX1_reviewer_67 rfl (lv_at hl 2 rfl) ?_
        refine gw_gst8 (j := gw_n σ 25) hx hb hK hG hS (gw_ltn hJ.n25 hJ.b25 c38b) dX1_reviewer_68 (fun H locs hG hS => ?_)
        refine lv_aload_n hx hb dX1_reviewer_69 rfl (lv_at hl 0 rfl) ?_
        refine lv_dup hx hb dX1_reviewer_70 rfl ?_
        refine gw_get hx hb hts in_X1 hown hK (gw_c0 hG) rfl 19 (by decide) (hts _ q119) (v := .int (σ 25 0)) rfl dX1_reviewer_71 ?_
        refine lv_iconst (v := 1) hx hb dX1_reviewer_74 (by decide) ?_
        refine lv_iadd hx hb dX1_reviewer_75 ?_
        refine gw_gput0_25 hx hb hts hown hK hG hS (hts _ q119) dX1_reviewer_76 (fun H locs hG hS => ?_)
        refine lv_aload_n hx hb dX1_reviewer_79 rfl (lv_at hl 0 rfl) ?_
        refine gw_get hx hb hts in_X1 hown hK (gw_c0 hG) rfl 19 (by decide) (hts _ q119) (v := .int ((σ 25 0) + 1)) rfl dX1_reviewer_80 ?_
        refine lv_iconst (v := 1) hx hb dX1_reviewer_83 (by decide) ?_
        refine lv_isub hx hb dX1_reviewer_84 ?_
        have hG := gw_gW.nu hG (show gw_nu (gw_up (gw_up (gw_up (gw_up σ 0 0 0) 26 (gw_n σ 25) w) 27 (gw_n σ 25) h) 25 0 ((σ 25 0) + 1)) = gw_nu σ from ((gw_nu_up rfl).trans ((gw_nu_up rfl).trans ((gw_nu_up rfl).trans (gw_nu_up rfl)))))
        have hE9 : gw_up (gw_up (gw_up (gw_up σ 0 0 0) 26 (gw_n σ 25) w) 27 (gw_n σ 25) h) 25 0 ((σ 25 0) + 1) = (gw_reviewer σ w h).2 := (by simp only [gw_reviewer, gw_fail, h6, h18, c38, (Int32.not_le.mp c38), c38b, and_true, true_and, and_false, false_and, and_self, or_true, true_or, or_false, false_or, not_true_eq_false, not_false_eq_true, if_true, if_false, ↓reduceIte]; try rfl)
        have hP9 : ((σ 25 0) + 1) - 1 = (gw_reviewer σ w h).1 := (by simp only [gw_reviewer, gw_fail, h6, h18, c38, (Int32.not_le.mp c38), c38b, and_true, true_and, and_false, false_and, and_self, or_true, true_or, or_false, false_or, not_true_eq_false, not_false_eq_true, if_true, if_false, ↓reduceIte]; try rfl)
        have hC9 : gw_C (gw_up (gw_up (gw_up (gw_up σ 0 0 0) 26 (gw_n σ 25) w) 27 (gw_n σ 25) h) 25 0 ((σ 25 0) + 1)) γ ord := (gw_C_up rfl (gw_C_up rfl (gw_C_up rfl (gw_C_up rfl hC))))
        have hZ9 : (gw_up (gw_up (gw_up (gw_up σ 0 0 0) 26 (gw_n σ 25) w) 27 (gw_n σ 25) h) 25 0 ((σ 25 0) + 1)) 0 0 = 0 := rfl
        rw [hE9] at hG hC9 hZ9
        refine vx_ret (W.widen (k := 1) (n := 6) (Nat.le_of_ble_eq_true rfl) (Nat.le_of_ble_eq_true rfl) ?_)
        exact W.iret (v := ((σ 25 0) + 1) - 1) hx hb hr (fun t ht hW => ⟨⟨_, (hd, γ, ord), rfl, ⟨hP9, hZ9, hC9⟩, by show gw_gW D ca es A ad _ _ _ _ _ t.heap; rw [ht]; exact hG⟩, hS.F ht⟩) hS.2.2 dX1_reviewer_85
    · skip
      refine gw_scalli (va_Run.run (va_runS (As := [.long h.toInt64, .long 0, .long 9]) (rest := []) ⟨hx, hb, hml, hown, hts⟩ (gg_inRange l h.toInt64 0 9) (va_cwS 3 hts (lw_S q279 q280 q42 q281) rfl rfl rfl (by decide +kernel) ⟨Nat.le_of_ble_eq_true rfl, Nat.le_of_ble_eq_true rfl⟩) gw_spre rfl rfl hl.1 rfl (lv_room (Nat.le_of_ble_eq_true rfl)) dX1_reviewer_18 ⟨Nat.le_of_ble_eq_true rfl, Nat.le_of_ble_eq_true rfl⟩)) ?_
      refine gw_topi (y := 0) (if_neg (gw_rgn (x := h) (by decide) (by decide) h18)) ?_
      refine lv_if_eq (tgt := 28) hx hb dX1_reviewer_21 (by decide) (fun _ => ?_) (fun c_ => absurd c_ (by decide))
      refine lv_iconst (v := 0) hx hb dX1_reviewer_28 (by decide) ?_
      have hF9 : (gw_reviewer σ w h) = gw_fail σ 1 := (by simp only [gw_reviewer, gw_fail, h6, h18, and_true, true_and, and_false, false_and, and_self, or_true, true_or, or_false, false_or, not_true_eq_false, not_false_eq_true, if_true, if_false, ↓reduceIte]; try rfl)
      refine vx_callv (vx_runS (As := [.int 0]) (rest := []) ⟨hx, hb, hml, hown, hts⟩ (gg_checkArgument0 l A hlt) (va_cwS 1 hts (lw_S q284 q285 q42 q286) rfl rfl rfl (by decide +kernel) ⟨Nat.le_of_ble_eq_true rfl, Nat.le_of_ble_eq_true rfl⟩) (gw_gspre [.int 0] gw_Thb (fun U hU hW => gw_That hU hW hE hN hS)) rfl rfl hl.1 rfl (lv_room (Nat.le_of_ble_eq_true rfl)) dX1_reviewer_29 ⟨Nat.le_of_ble_eq_true rfl, Nat.le_of_ble_eq_true rfl⟩) hS (fun _ _ h => h.elim) (fun _ h => h.elim) (fun _ _ h => h.elim) (fun E ce q9 u9 t9 H1 locs1 ht9 hA9 _ hBX hz9 hq9 hS1 hce hcv hcl => ?_) (fun u9 t9 H1 locs1 ht9 hA9 hp9 => hp9.elim)
      exact gw_out htab hlocks hce hcv hcl hF9 (by decide) hBX hG hC hq9 hS1 (Nat.le_of_ble_eq_true rfl) (Nat.le_of_ble_eq_true rfl)
  · skip
    refine gw_scalli (va_Run.run (va_runS (As := [.long w.toInt64, .long 0, .long 29]) (rest := []) ⟨hx, hb, hml, hown, hts⟩ (gg_inRange l w.toInt64 0 29) (va_cwS 3 hts (lw_S q279 q280 q42 q281) rfl rfl rfl (by decide +kernel) ⟨Nat.le_of_ble_eq_true rfl, Nat.le_of_ble_eq_true rfl⟩) gw_spre rfl rfl hl.1 rfl (lv_room (Nat.le_of_ble_eq_true rfl)) dX1_reviewer_6 ⟨Nat.le_of_ble_eq_true rfl, Nat.le_of_ble_eq_true rfl⟩)) ?_
    refine gw_topi (y := 0) (if_neg (gw_rgn (x := w) (by decide) (by decide) h6)) ?_
    refine lv_if_eq (tgt := 28) hx hb dX1_reviewer_9 (by decide) (fun _ => ?_) (fun c_ => absurd c_ (by decide))
    refine lv_iconst (v := 0) hx hb dX1_reviewer_28 (by decide) ?_
    have hF9 : (gw_reviewer σ w h) = gw_fail σ 1 := (by simp only [gw_reviewer, gw_fail, h6, and_true, true_and, and_false, false_and, and_self, or_true, true_or, or_false, false_or, not_true_eq_false, not_false_eq_true, if_true, if_false, ↓reduceIte]; try rfl)
    refine vx_callv (vx_runS (As := [.int 0]) (rest := []) ⟨hx, hb, hml, hown, hts⟩ (gg_checkArgument0 l A hlt) (va_cwS 1 hts (lw_S q284 q285 q42 q286) rfl rfl rfl (by decide +kernel) ⟨Nat.le_of_ble_eq_true rfl, Nat.le_of_ble_eq_true rfl⟩) (gw_gspre [.int 0] gw_Thb (fun U hU hW => gw_That hU hW hE hN hS)) rfl rfl hl.1 rfl (lv_room (Nat.le_of_ble_eq_true rfl)) dX1_reviewer_29 ⟨Nat.le_of_ble_eq_true rfl, Nat.le_of_ble_eq_true rfl⟩) hS (fun _ _ h => h.elim) (fun _ h => h.elim) (fun _ _ h => h.elim) (fun E ce q9 u9 t9 H1 locs1 ht9 hA9 _ hBX hz9 hq9 hS1 hce hcv hcl => ?_) (fun u9 t9 H1 locs1 ht9 hA9 hp9 => hp9.elim)
    exact gw_out htab hlocks hce hcv hcl hF9 (by decide) hBX hG hC hq9 hS1 (Nat.le_of_ble_eq_true rfl) (Nat.le_of_ble_eq_true rfl)

set_option maxHeartbeats 4000000 in
set_option maxRecDepth 100000 in
theorem gx_conflict (l : Launch) (D : va_G) (ca : Nat → ClassId) (es : Nat → Nat) (A : Nat → Prop) (ad hd : Nat → Nat → Nat) (σ γ : gw_S) (ord : List Nat) (i w b : Int32) (hlt : l.stackTraces = false) (hC : gw_C σ γ ord) (hJ : gw_J σ) (hb1 : b = 0 ∨ b = 1) : vx_Met l yX1_conflict (ws_ yX1_conflict cX1_conflict 5 (some .boolean)) ({ frames := 7, cells := 1, slots := 6, locals := 110 }) (va_Pc [.ref (ad 0 0), .int i, .int w, .int b] (gw_gP D ca es A ad hd σ γ ord (gw_nu σ))) (gw_Qi D ca es A ad (gw_conflict σ i w b)) (gw_XC D ca es A ad (gw_T ["java/lang/IndexOutOfBoundsException", "java/lang/IllegalArgumentException"]) (gw_conflict σ i w b)) 1 6 A := by
  refine vx_ofW (cc := cX1_conflict) (maxL := 5) (ret := (some .boolean)) (by decide) rfl ?_
  intro p e s m args below meth c s₁ B hml htab hv
  obtain ⟨rfl, hG, hK, hE, hN, hA⟩ := hv
  have hx := B.exec
  have hb := B.bytes
  have hr := B.returns
  have hts := atoms_spec (ws := ws_ yX1_conflict cX1_conflict 5 (some .boolean)) B.pre
  have hts : ∀ w ∈ lw_all, w.before _ s = true := fun w h => hts w (List.mem_cons_of_mem _ h)
  have hown : s.vm.findClass RX1 = some m.cls := findClass_of_methodNamed B.named
  have hlocks := B.notSynchronized
  have hS : va_S A s.heap s.heap [] := va_S.rf
  have hl := lv_entry ([.ref (ad 0 0), .int i, .int w, .int b]) (n := 5) (Nat.le_of_ble_eq_true rfl)
  rw [lg_entry_eq]
  generalize (lg_sl ([.ref (ad 0 0), .int i, .int w, .int b]) ++ List.replicate (5 - (lg_sl ([.ref (ad 0 0), .int i, .int w, .int b])).length) Slot.unset).toArray = ls at hl ⊢
  have hl : lv_has ls 5 [(0, .ref (ad 0 0)), (1, .int i), (2, .int w), (3, .int b)] := hl
  refine lv_aload_n hx hb dX1_conflict_0 rfl (lv_at hl 0 rfl) ?_
  refine lv_iload_n hx hb dX1_conflict_1 rfl (lv_at hl 1 rfl) ?_
  rcases Classical.em (gw_isR σ i) with h2 | h2
  · skip
    refine gw_scalli (va_Run.run (va_runV (As := [.int i]) (rest := []) ⟨hx, hb, hml, hown, hts⟩ (gg_isReviewer l D ca es A ad hd σ γ ord i) (cwV 1 hts (lw_V q634 q636 qs16 q42 q637) rfl rfl rfl (by decide +kernel) ⟨Nat.le_of_ble_eq_true rfl, Nat.le_of_ble_eq_true rfl⟩) (gw_grecv [.int i] gw_gPb (gw_c0 hG) rfl hK (fun U hU hW => gw_gat hU hW hG hK hE hN hA hS)) rfl rfl hl.1 rfl (lv_room (Nat.le_of_ble_eq_true rfl)) dX1_conflict_2 ⟨Nat.le_of_ble_eq_true rfl, Nat.le_of_ble_eq_true rfl⟩)) ?_
    refine gw_topi (y := 1) (if_pos h2) ?_
    refine va_csv (va_Run.run (va_runS (As := [.int 1]) (rest := []) ⟨hx, hb, hml, hown, hts⟩ (gg_checkIndex1 l) (va_cwS 1 hts (lw_S q525 q526 q42 q527) rfl rfl rfl (by decide +kernel) ⟨Nat.le_of_ble_eq_true rfl, Nat.le_of_ble_eq_true rfl⟩) gw_spre rfl rfl hl.1 rfl (lv_room (Nat.le_of_ble_eq_true rfl)) dX1_conflict_5 ⟨Nat.le_of_ble_eq_true rfl, Nat.le_of_ble_eq_true rfl⟩)) (fun _ => ?_)
    refine lv_iload_n hx hb dX1_conflict_8 rfl (lv_at hl 2 rfl) ?_
    refine lv_i2l (v := w.toInt64) hx hb dX1_conflict_9 rfl ?_
    refine lv_lconst (v := 0) hx hb dX1_conflict_10 (by decide) ?_
    refine lv_ldc2 (v := 29) hx hb hown (hts _ q543) dX1_conflict_11 ?_
    rcases Classical.em (0 ≤ w ∧ w ≤ 29) with h14 | h14
    · skip
      refine gw_scalli (va_Run.run (va_runS (As := [.long w.toInt64, .long 0, .long 29]) (rest := []) ⟨hx, hb, hml, hown, hts⟩ (gg_inRange l w.toInt64 0 29) (va_cwS 3 hts (lw_S q279 q280 q42 q281) rfl rfl rfl (by decide +kernel) ⟨Nat.le_of_ble_eq_true rfl, Nat.le_of_ble_eq_true rfl⟩) gw_spre rfl rfl hl.1 rfl (lv_room (Nat.le_of_ble_eq_true rfl)) dX1_conflict_14 ⟨Nat.le_of_ble_eq_true rfl, Nat.le_of_ble_eq_true rfl⟩)) ?_
      refine gw_topi (y := 1) (if_pos (gw_rgp (x := w) (by decide) (by decide) h14)) ?_
      refine va_csv (va_Run.run (va_runS (As := [.int 1]) (rest := []) ⟨hx, hb, hml, hown, hts⟩ (gg_checkArgument1 l) (va_cwS 1 hts (lw_S q284 q285 q42 q286) rfl rfl rfl (by decide +kernel) ⟨Nat.le_of_ble_eq_true rfl, Nat.le_of_ble_eq_true rfl⟩) gw_spre rfl rfl hl.1 rfl (lv_room (Nat.le_of_ble_eq_true rfl)) dX1_conflict_17 ⟨Nat.le_of_ble_eq_true rfl, Nat.le_of_ble_eq_true rfl⟩)) (fun _ => ?_)
      obtain ⟨i_, hi_, rfl⟩ := gw_idx h2 hJ.n25 (by have := hJ.b25; omega)
      have hxi_ : gw_ix (nI i_) = i_ := gw_ix_nI (by have := hJ.b25; omega)
      obtain ⟨w_, hlw_, hw_, rfl⟩ := gw_rng 0 29 h14 (by decide) (by decide) (by decide)
      have hxw_ : gw_ix (nI w_) = w_ := gw_ix_nI (by omega)
      refine lv_aload_n hx hb dX1_conflict_20 rfl (lv_at hl 0 rfl) ?_
      refine gw_get hx hb hts in_X1 hown hK (gw_c0 hG) rfl 17 (by decide) (hts _ q117) (v := .ref (ad 6 9)) rfl dX1_conflict_21 ?_
      refine lv_iload_n hx hb dX1_conflict_24 rfl (lv_at hl 1 rfl) ?_
      refine gw_gald 9 (n := 10) (j := i_) hx hb hK hG (by decide) rfl rfl (by decide) (by have := hJ.b25; omega) dX1_conflict_25 (v := γ 2 i_) rfl ?_
      refine lv_iload_n hx hb dX1_conflict_26 rfl (lv_at hl 2 rfl) ?_
      refine lv_ishr hx hb dX1_conflict_27 ?_
      refine lv_iconst (v := 1) hx hb dX1_conflict_28 (by decide) ?_
      refine lv_iand hx hb dX1_conflict_29 ?_
      refine gw_topi (y := σ 28 ((30 * i_) + w_)) (hC.2.1 _ (by have := hJ.b25; omega) _ (by omega)) ?_
      refine lv_iconst (v := 1) hx hb dX1_conflict_30 (by decide) ?_
      refine lv_icmp_ne (tgt := 38) hx hb dX1_conflict_31 (by decide) (fun c31 => ?_) (fun c31 => ?_)
      · skip
        have c31b : σ 28 ((30 * i_) + w_) = 0 := (gw_bit_01 _ _).elim (fun z => by rw [← (hC.2.1 _ (by have := hJ.b25; omega) _ (by omega))]; exact z) (fun z => absurd (by rw [← (hC.2.1 _ (by have := hJ.b25; omega) _ (by omega))]; exact z) c31)
        refine lv_iconst (v := 0) hx hb dX1_conflict_38 (by decide) ?_
        refine lv_istore (lv' := [(4, .int 0), (0, .ref (ad 0 0)), (1, .int (nI i_)), (2, .int (nI w_)), (3, .int b)]) hx hb dX1_conflict_39 hl (by decide) rfl (fun ls hl => ?_)
        refine lv_iload hx hb dX1_conflict_41 (lv_at hl 0 rfl) ?_
        refine lv_iload_n hx hb dX1_conflict_43 rfl (lv_at hl 4 rfl) ?_
        refine lv_icmp_eq (tgt := 59) hx hb dX1_conflict_44 (by decide) (fun c44 => ?_) (fun c44 => ?_)
        · skip
          have c44b : σ 28 ((30 * i_) + w_) = b := c31b.trans c44
          refine lv_iload hx hb dX1_conflict_59 (lv_at hl 0 rfl) ?_
          have hG := gw_gW.nu (gw_gW.z (v := 0) hG) (gw_nu_up rfl).symm
          have hG := gw_gW.nu hG (show gw_nu (gw_up σ 0 0 0) = gw_nu σ from (gw_nu_up rfl))
          have hE9 : gw_up σ 0 0 0 = (gw_conflict σ (nI i_) (nI w_) b).2 := (by have z := gw_up_id (σ := gw_up σ 0 0 0) (k := 28) (j := (30 * i_) + w_) (v := b) c44b; simp only [z, gw_conflict, gw_fail, (eq_true h2), h14, hxi_, hxw_, c31, (eq_true c31b), (eq_true c44), z, and_true, true_and, and_false, false_and, and_self, or_true, true_or, or_false, false_or, not_true_eq_false, not_false_eq_true, if_true, if_false, ↓reduceIte]; try rfl)
          have hP9 : 0 = (gw_conflict σ (nI i_) (nI w_) b).1 := (by simp only [gw_conflict, gw_fail, (eq_true h2), h14, hxi_, hxw_, and_true, true_and, and_false, false_and, and_self, or_true, true_or, or_false, false_or, not_true_eq_false, not_false_eq_true, if_true, if_false, ↓reduceIte]; first | exact c31.symm | exact c31b.symm)
          have hC9 : gw_C (gw_up σ 0 0 0) γ ord := (gw_C_up rfl hC)
          have hZ9 : (gw_up σ 0 0 0) 0 0 = 0 := rfl
          rw [hE9] at hG hC9 hZ9
          refine vx_ret (W.widen (k := 1) (n := 6) (Nat.le_of_ble_eq_true rfl) (Nat.le_of_ble_eq_true rfl) ?_)
          exact W.zret (v := 0) hx hb hr rfl (fun t ht hW => ⟨⟨_, (hd, γ, ord), rfl, ⟨hP9, hZ9, hC9⟩, by show gw_gW D ca es A ad _ _ _ _ _ t.heap; rw [ht]; exact hG⟩, hS.F ht⟩) hS.2.2 dX1_conflict_61
        · skip
          refine lv_aload_n hx hb dX1_conflict_47 rfl (lv_at hl 1 rfl) ?_
          refine gw_get hx hb hts in_X1 hown hK (gw_c0 hG) rfl 17 (by decide) (hts _ q117) (v := .ref (ad 6 9)) rfl dX1_conflict_48 ?_
          refine lv_iload_n hx hb dX1_conflict_51 rfl (lv_at hl 2 rfl) ?_
          refine lv_dup2_11 hx hb dX1_conflict_52 rfl rfl ?_
          refine gw_gald 9 (n := 10) (j := i_) hx hb hK hG (by decide) rfl rfl (by decide) (by have := hJ.b25; omega) dX1_conflict_53 (v := γ 2 i_) rfl ?_
          refine lv_iconst (v := 1) hx hb dX1_conflict_54 (by decide) ?_
          refine lv_iload_n hx hb dX1_conflict_55 rfl (lv_at hl 3 rfl) ?_
          refine lv_ishl hx hb dX1_conflict_56 ?_
          refine lv_ixor hx hb dX1_conflict_57 ?_
          have hG := gw_gW.nu (gw_gW.z (v := 0) hG) (gw_nu_up rfl).symm
          refine gw_gst9 (j := i_) hx hb hK hG hS (by have := hJ.b25; omega) dX1_conflict_58 (fun H locs hG hS => ?_)
          have hG := gw_gW.gh (k := 28) (j := (30 * i_) + w_) (v := b) rfl hG
          refine lv_iload hx hb dX1_conflict_59 (lv_at hl 0 rfl) ?_
          have hG := gw_gW.nu hG (show gw_nu (gw_up (gw_up σ 0 0 0) 28 ((30 * i_) + w_) b) = gw_nu σ from ((gw_nu_up rfl).trans (gw_nu_up rfl)))
          have hE9 : gw_up (gw_up σ 0 0 0) 28 ((30 * i_) + w_) b = (gw_conflict σ (nI i_) (nI w_) b).2 := (by simp only [gw_conflict, gw_fail, (eq_true h2), h14, hxi_, hxw_, c31, (eq_true c31b), c44, and_true, true_and, and_false, false_and, and_self, or_true, true_or, or_false, false_or, not_true_eq_false, not_false_eq_true, if_true, if_false, ↓reduceIte]; try rfl)
          have hP9 : 0 = (gw_conflict σ (nI i_) (nI w_) b).1 := (by simp only [gw_conflict, gw_fail, (eq_true h2), h14, hxi_, hxw_, and_true, true_and, and_false, false_and, and_self, or_true, true_or, or_false, false_or, not_true_eq_false, not_false_eq_true, if_true, if_false, ↓reduceIte]; first | exact c31.symm | exact c31b.symm)
          have hC9 : gw_C (gw_up (gw_up σ 0 0 0) 28 ((30 * i_) + w_) b) (gw_up γ 2 i_ ((γ 2 i_) ^^^ (1 <<< ((nI w_) &&& 31)))) ord := (gw_C_conf hC (by have := hJ.b25; omega) (by omega) hb1 (fun z => c44 (by rw [← z]; first | exact c31.symm | exact c31b.symm)))
          have hZ9 : (gw_up (gw_up σ 0 0 0) 28 ((30 * i_) + w_) b) 0 0 = 0 := rfl
          rw [hE9] at hG hC9 hZ9
          refine vx_ret (W.widen (k := 1) (n := 6) (Nat.le_of_ble_eq_true rfl) (Nat.le_of_ble_eq_true rfl) ?_)
          exact W.zret (v := 0) hx hb hr rfl (fun t ht hW => ⟨⟨_, (hd, gw_up γ 2 i_ ((γ 2 i_) ^^^ (1 <<< ((nI w_) &&& 31))), ord), rfl, ⟨hP9, hZ9, hC9⟩, by show gw_gW D ca es A ad _ _ _ _ _ t.heap; rw [ht]; exact hG⟩, hS.F ht⟩) hS.2.2 dX1_conflict_61
      · skip
        refine lv_iconst (v := 1) hx hb dX1_conflict_34 (by decide) ?_
        refine lv_goto (tgt := 39) hx hb dX1_conflict_35 (by decide) ?_
        refine lv_istore (lv' := [(4, .int 1), (0, .ref (ad 0 0)), (1, .int (nI i_)), (2, .int (nI w_)), (3, .int b)]) hx hb dX1_conflict_39 hl (by decide) rfl (fun ls hl => ?_)
        refine lv_iload hx hb dX1_conflict_41 (lv_at hl 0 rfl) ?_
        refine lv_iload_n hx hb dX1_conflict_43 rfl (lv_at hl 4 rfl) ?_
        refine lv_icmp_eq (tgt := 59) hx hb dX1_conflict_44 (by decide) (fun c44 => ?_) (fun c44 => ?_)
        · skip
          have c44b : σ 28 ((30 * i_) + w_) = b := c31.trans c44
          refine lv_iload hx hb dX1_conflict_59 (lv_at hl 0 rfl) ?_
          have hG := gw_gW.nu (gw_gW.z (v := 0) hG) (gw_nu_up rfl).symm
          have hG := gw_gW.nu hG (show gw_nu (gw_up σ 0 0 0) = gw_nu σ from (gw_nu_up rfl))
          have hE9 : gw_up σ 0 0 0 = (gw_conflict σ (nI i_) (nI w_) b).2 := (by have z := gw_up_id (σ := gw_up σ 0 0 0) (k := 28) (j := (30 * i_) + w_) (v := b) c44b; simp only [z, gw_conflict, gw_fail, (eq_true h2), h14, hxi_, hxw_, (eq_true c31), (eq_true c44), z, and_true, true_and, and_false, false_and, and_self, or_true, true_or, or_false, false_or, not_true_eq_false, not_false_eq_true, if_true, if_false, ↓reduceIte]; try rfl)
          have hP9 : 1 = (gw_conflict σ (nI i_) (nI w_) b).1 := (by simp only [gw_conflict, gw_fail, (eq_true h2), h14, hxi_, hxw_, and_true, true_and, and_false, false_and, and_self, or_true, true_or, or_false, false_or, not_true_eq_false, not_false_eq_true, if_true, if_false, ↓reduceIte]; first | exact c31.symm | exact c31b.symm)
          have hC9 : gw_C (gw_up σ 0 0 0) γ ord := (gw_C_up rfl hC)
          have hZ9 : (gw_up σ 0 0 0) 0 0 = 0 := rfl
          rw [hE9] at hG hC9 hZ9
          refine vx_ret (W.widen (k := 1) (n := 6) (Nat.le_of_ble_eq_true rfl) (Nat.le_of_ble_eq_true rfl) ?_)
          exact W.zret (v := 1) hx hb hr rfl (fun t ht hW => ⟨⟨_, (hd, γ, ord), rfl, ⟨hP9, hZ9, hC9⟩, by show gw_gW D ca es A ad _ _ _ _ _ t.heap; rw [ht]; exact hG⟩, hS.F ht⟩) hS.2.2 dX1_conflict_61
        · skip
          refine lv_aload_n hx hb dX1_conflict_47 rfl (lv_at hl 1 rfl) ?_
          refine gw_get hx hb hts in_X1 hown hK (gw_c0 hG) rfl 17 (by decide) (hts _ q117) (v := .ref (ad 6 9)) rfl dX1_conflict_48 ?_
          refine lv_iload_n hx hb dX1_conflict_51 rfl (lv_at hl 2 rfl) ?_
          refine lv_dup2_11 hx hb dX1_conflict_52 rfl rfl ?_
          refine gw_gald 9 (n := 10) (j := i_) hx hb hK hG (by decide) rfl rfl (by decide) (by have := hJ.b25; omega) dX1_conflict_53 (v := γ 2 i_) rfl ?_
          refine lv_iconst (v := 1) hx hb dX1_conflict_54 (by decide) ?_
          refine lv_iload_n hx hb dX1_conflict_55 rfl (lv_at hl 3 rfl) ?_
          refine lv_ishl hx hb dX1_conflict_56 ?_
          refine lv_ixor hx hb dX1_conflict_57 ?_
          have hG := gw_gW.nu (gw_gW.z (v := 0) hG) (gw_nu_up rfl).symm
          refine gw_gst9 (j := i_) hx hb hK hG hS (by have := hJ.b25; omega) dX1_conflict_58 (fun H locs hG hS => ?_)
          have hG := gw_gW.gh (k := 28) (j := (30 * i_) + w_) (v := b) rfl hG
          refine lv_iload hx hb dX1_conflict_59 (lv_at hl 0 rfl) ?_
          have hG := gw_gW.nu hG (show gw_nu (gw_up (gw_up σ 0 0 0) 28 ((30 * i_) + w_) b) = gw_nu σ from ((gw_nu_up rfl).trans (gw_nu_up rfl)))
          have hE9 : gw_up (gw_up σ 0 0 0) 28 ((30 * i_) + w_) b = (gw_conflict σ (nI i_) (nI w_) b).2 := (by simp only [gw_conflict, gw_fail, (eq_true h2), h14, hxi_, hxw_, (eq_true c31), c44, and_true, true_and, and_false, false_and, and_self, or_true, true_or, or_false, false_or, not_true_eq_false, not_false_eq_true, if_true, if_false, ↓reduceIte]; try rfl)
          have hP9 : 1 = (gw_conflict σ (nI i_) (nI w_) b).1 := (by simp only [gw_conflict, gw_fail, (eq_true h2), h14, hxi_, hxw_, and_true, true_and, and_false, false_and, and_self, or_true, true_or, or_false, false_or, not_true_eq_false, not_false_eq_true, if_true, if_false, ↓reduceIte]; first | exact c31.symm | exact c31b.symm)
          have hC9 : gw_C (gw_up (gw_up σ 0 0 0) 28 ((30 * i_) + w_) b) (gw_up γ 2 i_ ((γ 2 i_) ^^^ (1 <<< ((nI w_) &&& 31)))) ord := (gw_C_conf hC (by have := hJ.b25; omega) (by omega) hb1 (fun z => c44 (by rw [← z]; first | exact c31.symm | exact c31b.symm)))
          have hZ9 : (gw_up (gw_up σ 0 0 0) 28 ((30 * i_) + w_) b) 0 0 = 0 := rfl
          rw [hE9] at hG hC9 hZ9
          refine vx_ret (W.widen (k := 1) (n := 6) (Nat.le_of_ble_eq_true rfl) (Nat.le_of_ble_eq_true rfl) ?_)
          exact W.zret (v := 1) hx hb hr rfl (fun t ht hW => ⟨⟨_, (hd, gw_up γ 2 i_ ((γ 2 i_) ^^^ (1 <<< ((nI w_) &&& 31))), ord), rfl, ⟨hP9, hZ9, hC9⟩, by show gw_gW D ca es A ad _ _ _ _ _ t.heap; rw [ht]; exact hG⟩, hS.F ht⟩) hS.2.2 dX1_conflict_61
    · skip
      refine gw_scalli (va_Run.run (va_runS (As := [.long w.toInt64, .long 0, .long 29]) (rest := []) ⟨hx, hb, hml, hown, hts⟩ (gg_inRange l w.toInt64 0 29) (va_cwS 3 hts (lw_S q279 q280 q42 q281) rfl rfl rfl (by decide +kernel) ⟨Nat.le_of_ble_eq_true rfl, Nat.le_of_ble_eq_true rfl⟩) gw_spre rfl rfl hl.1 rfl (lv_room (Nat.le_of_ble_eq_true rfl)) dX1_conflict_14 ⟨Nat.le_of_ble_eq_true rfl, Nat.le_of_ble_eq_true rfl⟩)) ?_
      refine gw_topi (y := 0) (if_neg (gw_rgn (x := w) (by decide) (by decide) h14)) ?_
      have hF9 : (gw_conflict σ i w b) = gw_fail σ 2 := (by simp only [gw_conflict, gw_fail, (eq_true h2), h14, and_true, true_and, and_false, false_and, and_self, or_true, true_or, or_false, false_or, not_true_eq_false, not_false_eq_true, if_true, if_false, ↓reduceIte]; try rfl)
      refine vx_callv (vx_runS (As := [.int 0]) (rest := []) ⟨hx, hb, hml, hown, hts⟩ (gg_checkArgument0 l A hlt) (va_cwS 1 hts (lw_S q284 q285 q42 q286) rfl rfl rfl (by decide +kernel) ⟨Nat.le_of_ble_eq_true rfl, Nat.le_of_ble_eq_true rfl⟩) (gw_gspre [.int 0] gw_Thb (fun U hU hW => gw_That hU hW hE hN hS)) rfl rfl hl.1 rfl (lv_room (Nat.le_of_ble_eq_true rfl)) dX1_conflict_17 ⟨Nat.le_of_ble_eq_true rfl, Nat.le_of_ble_eq_true rfl⟩) hS (fun _ _ h => h.elim) (fun _ h => h.elim) (fun _ _ h => h.elim) (fun E ce q9 u9 t9 H1 locs1 ht9 hA9 _ hBX hz9 hq9 hS1 hce hcv hcl => ?_) (fun u9 t9 H1 locs1 ht9 hA9 hp9 => hp9.elim)
      exact gw_out htab hlocks hce hcv hcl hF9 (by decide) hBX hG hC hq9 hS1 (Nat.le_of_ble_eq_true rfl) (Nat.le_of_ble_eq_true rfl)
  · skip
    refine gw_scalli (va_Run.run (va_runV (As := [.int i]) (rest := []) ⟨hx, hb, hml, hown, hts⟩ (gg_isReviewer l D ca es A ad hd σ γ ord i) (cwV 1 hts (lw_V q634 q636 qs16 q42 q637) rfl rfl rfl (by decide +kernel) ⟨Nat.le_of_ble_eq_true rfl, Nat.le_of_ble_eq_true rfl⟩) (gw_grecv [.int i] gw_gPb (gw_c0 hG) rfl hK (fun U hU hW => gw_gat hU hW hG hK hE hN hA hS)) rfl rfl hl.1 rfl (lv_room (Nat.le_of_ble_eq_true rfl)) dX1_conflict_2 ⟨Nat.le_of_ble_eq_true rfl, Nat.le_of_ble_eq_true rfl⟩)) ?_
    refine gw_topi (y := 0) (if_neg h2) ?_
    have hF9 : (gw_conflict σ i w b) = gw_fail σ 1 := (by simp only [gw_conflict, gw_fail, (eq_false h2), and_true, true_and, and_false, false_and, and_self, or_true, true_or, or_false, false_or, not_true_eq_false, not_false_eq_true, if_true, if_false, ↓reduceIte]; try rfl)
    refine vx_callv (vx_runS (As := [.int 0]) (rest := []) ⟨hx, hb, hml, hown, hts⟩ (gg_checkIndex0 l A hlt) (va_cwS 1 hts (lw_S q525 q526 q42 q527) rfl rfl rfl (by decide +kernel) ⟨Nat.le_of_ble_eq_true rfl, Nat.le_of_ble_eq_true rfl⟩) (gw_gspre [.int 0] gw_Thb (fun U hU hW => gw_That hU hW hE hN hS)) rfl rfl hl.1 rfl (lv_room (Nat.le_of_ble_eq_true rfl)) dX1_conflict_5 ⟨Nat.le_of_ble_eq_true rfl, Nat.le_of_ble_eq_true rfl⟩) hS (fun _ _ h => h.elim) (fun _ h => h.elim) (fun _ _ h => h.elim) (fun E ce q9 u9 t9 H1 locs1 ht9 hA9 _ hBX hz9 hq9 hS1 hce hcv hcl => ?_) (fun u9 t9 H1 locs1 ht9 hA9 hp9 => hp9.elim)
    exact gw_out htab hlocks hce hcv hcl hF9 (by decide) hBX hG hC hq9 hS1 (Nat.le_of_ble_eq_true rfl) (Nat.le_of_ble_eq_true rfl)

set_option maxHeartbeats 4000000 in
set_option maxRecDepth 100000 in
theorem gx_seat (l : Launch) (D : va_G) (ca : Nat → ClassId) (es : Nat → Nat) (A : Nat → Prop) (ad hd : Nat → Nat → Nat) (σ γ : gw_S) (ord : List Nat) (i r b : Int32) (hlt : l.stackTraces = false) (hC : gw_C σ γ ord) (hJ : gw_J σ) (hb1 : b = 0 ∨ b = 1) : vx_Met l yX1_seat (ws_ yX1_seat cX1_seat 5 (some .boolean)) ({ frames := 7, cells := 1, slots := 6, locals := 110 }) (va_Pc [.ref (ad 0 0), .int i, .int r, .int b] (gw_gP D ca es A ad hd σ γ ord (gw_nu σ))) (gw_Qi D ca es A ad (gw_seat σ i r b)) (gw_XC D ca es A ad (gw_T ["java/lang/IndexOutOfBoundsException"]) (gw_seat σ i r b)) 1 6 A := by
  refine vx_ofW (cc := cX1_seat) (maxL := 5) (ret := (some .boolean)) (by decide) rfl ?_
  intro p e s m args below meth c s₁ B hml htab hv
  obtain ⟨rfl, hG, hK, hE, hN, hA⟩ := hv
  have hx := B.exec
  have hb := B.bytes
  have hr := B.returns
  have hts := atoms_spec (ws := ws_ yX1_seat cX1_seat 5 (some .boolean)) B.pre
  have hts : ∀ w ∈ lw_all, w.before _ s = true := fun w h => hts w (List.mem_cons_of_mem _ h)
  have hown : s.vm.findClass RX1 = some m.cls := findClass_of_methodNamed B.named
  have hlocks := B.notSynchronized
  have hS : va_S A s.heap s.heap [] := va_S.rf
  have hl := lv_entry ([.ref (ad 0 0), .int i, .int r, .int b]) (n := 5) (Nat.le_of_ble_eq_true rfl)
  rw [lg_entry_eq]
  generalize (lg_sl ([.ref (ad 0 0), .int i, .int r, .int b]) ++ List.replicate (5 - (lg_sl ([.ref (ad 0 0), .int i, .int r, .int b])).length) Slot.unset).toArray = ls at hl ⊢
  have hl : lv_has ls 5 [(0, .ref (ad 0 0)), (1, .int i), (2, .int r), (3, .int b)] := hl
  refine lv_aload_n hx hb dX1_seat_0 rfl (lv_at hl 0 rfl) ?_
  refine lv_iload_n hx hb dX1_seat_1 rfl (lv_at hl 1 rfl) ?_
  rcases Classical.em (gw_isC σ i) with h2 | h2
  · skip
    refine gw_scalli (va_Run.run (va_runV (As := [.int i]) (rest := []) ⟨hx, hb, hml, hown, hts⟩ (gg_isCall l D ca es A ad hd σ γ ord i) (cwV 1 hts (lw_V q521 q523 qs13 q42 q524) rfl rfl rfl (by decide +kernel) ⟨Nat.le_of_ble_eq_true rfl, Nat.le_of_ble_eq_true rfl⟩) (gw_grecv [.int i] gw_gPb (gw_c0 hG) rfl hK (fun U hU hW => gw_gat hU hW hG hK hE hN hA hS)) rfl rfl hl.1 rfl (lv_room (Nat.le_of_ble_eq_true rfl)) dX1_seat_2 ⟨Nat.le_of_ble_eq_true rfl, Nat.le_of_ble_eq_true rfl⟩)) ?_
    refine gw_topi (y := 1) (if_pos h2) ?_
    refine lv_if_eq (tgt := 20) hx hb dX1_seat_5 (by decide) (fun c_ => absurd c_ (by decide)) (fun _ => ?_)
    refine lv_aload_n hx hb dX1_seat_8 rfl (lv_at hl 0 rfl) ?_
    refine lv_iload_n hx hb dX1_seat_9 rfl (lv_at hl 2 rfl) ?_
    rcases Classical.em (gw_isR σ r) with h10 | h10
    · skip
      refine gw_scalli (va_Run.run (va_runV (As := [.int r]) (rest := []) ⟨hx, hb, hml, hown, hts⟩ (gg_isReviewer l D ca es A ad hd σ γ ord r) (cwV 1 hts (lw_V q634 q636 qs16 q42 q637) rfl rfl rfl (by decide +kernel) ⟨Nat.le_of_ble_eq_true rfl, Nat.le_of_ble_eq_true rfl⟩) (gw_grecv [.int r] gw_gPb (gw_c0 hG) rfl hK (fun U hU hW => gw_gat hU hW hG hK hE hN hA hS)) rfl rfl hl.1 rfl (lv_room (Nat.le_of_ble_eq_true rfl)) dX1_seat_10 ⟨Nat.le_of_ble_eq_true rfl, Nat.le_of_ble_eq_true rfl⟩)) ?_
      refine gw_topi (y := 1) (if_pos h10) ?_
      refine lv_if_eq (tgt := 20) hx hb dX1_seat_13 (by decide) (fun c_ => absurd c_ (by decide)) (fun _ => ?_)
      refine lv_iconst (v := 1) hx hb dX1_seat_16 (by decide) ?_
      refine lv_goto (tgt := 21) hx hb dX1_seat_17 (by decide) ?_
      refine va_csv (va_Run.run (va_runS (As := [.int 1]) (rest := []) ⟨hx, hb, hml, hown, hts⟩ (gg_checkIndex1 l) (va_cwS 1 hts (lw_S q525 q526 q42 q527) rfl rfl rfl (by decide +kernel) ⟨Nat.le_of_ble_eq_true rfl, Nat.le_of_ble_eq_true rfl⟩) gw_spre rfl rfl hl.1 rfl (lv_room (Nat.le_of_ble_eq_true rfl)) dX1_seat_21 ⟨Nat.le_of_ble_eq_true rfl, Nat.le_of_ble_eq_true rfl⟩)) (fun _ => ?_)
      obtain ⟨i_, hi_, rfl⟩ := gw_idx h2 hJ.n7 (by have := hJ.b7; omega)
      have hxi_ : gw_ix (nI i_) = i_ := gw_ix_nI (by have := hJ.b7; omega)
      obtain ⟨r_, hr_, rfl⟩ := gw_idx h10 hJ.n25 (by have := hJ.b25; omega)
      have hxr_ : gw_ix (nI r_) = r_ := gw_ix_nI (by have := hJ.b25; omega)
      refine lv_aload_n hx hb dX1_seat_24 rfl (lv_at hl 0 rfl) ?_
      refine gw_get hx hb hts in_X1 hown hK (gw_c0 hG) rfl 18 (by decide) (hts _ q118) (v := .ref (ad 6 10)) rfl dX1_seat_25 ?_
      refine lv_iload_n hx hb dX1_seat_28 rfl (lv_at hl 1 rfl) ?_
      refine gw_gald 10 (n := 6) (j := i_) hx hb hK hG (by decide) rfl rfl (by decide) (by have := hJ.b7; omega) dX1_seat_29 (v := γ 3 i_) rfl ?_
      refine lv_iload_n hx hb dX1_seat_30 rfl (lv_at hl 2 rfl) ?_
      refine lv_ishr hx hb dX1_seat_31 ?_
      refine lv_iconst (v := 1) hx hb dX1_seat_32 (by decide) ?_
      refine lv_iand hx hb dX1_seat_33 ?_
      refine gw_topi (y := σ 29 ((10 * i_) + r_)) (hC.2.2.1 _ (by have := hJ.b7; omega) _ (by have := hJ.b25; omega)) ?_
      refine lv_iconst (v := 1) hx hb dX1_seat_34 (by decide) ?_
      refine lv_icmp_ne (tgt := 42) hx hb dX1_seat_35 (by decide) (fun c35 => ?_) (fun c35 => ?_)
      · skip
        have c35b : σ 29 ((10 * i_) + r_) = 0 := (gw_bit_01 _ _).elim (fun z => by rw [← (hC.2.2.1 _ (by have := hJ.b7; omega) _ (by have := hJ.b25; omega))]; exact z) (fun z => absurd (by rw [← (hC.2.2.1 _ (by have := hJ.b7; omega) _ (by have := hJ.b25; omega))]; exact z) c35)
        refine lv_iconst (v := 0) hx hb dX1_seat_42 (by decide) ?_
        refine lv_istore (lv' := [(4, .int 0), (0, .ref (ad 0 0)), (1, .int (nI i_)), (2, .int (nI r_)), (3, .int b)]) hx hb dX1_seat_43 hl (by decide) rfl (fun ls hl => ?_)
        refine lv_iload hx hb dX1_seat_45 (lv_at hl 0 rfl) ?_
        refine lv_iload_n hx hb dX1_seat_47 rfl (lv_at hl 4 rfl) ?_
        refine lv_icmp_eq (tgt := 63) hx hb dX1_seat_48 (by decide) (fun c48 => ?_) (fun c48 => ?_)
        · skip
          have c48b : σ 29 ((10 * i_) + r_) = b := c35b.trans c48
          refine lv_iload hx hb dX1_seat_63 (lv_at hl 0 rfl) ?_
          have hG := gw_gW.nu (gw_gW.z (v := 0) hG) (gw_nu_up rfl).symm
          have hG := gw_gW.nu hG (show gw_nu (gw_up σ 0 0 0) = gw_nu σ from (gw_nu_up rfl))
          have hE9 : gw_up σ 0 0 0 = (gw_seat σ (nI i_) (nI r_) b).2 := (by have z := gw_up_id (σ := gw_up σ 0 0 0) (k := 29) (j := (10 * i_) + r_) (v := b) c48b; simp only [z, gw_seat, gw_fail, (eq_true h2), (eq_true h10), hxi_, hxr_, c35, (eq_true c35b), (eq_true c48), z, and_true, true_and, and_false, false_and, and_self, or_true, true_or, or_false, false_or, not_true_eq_false, not_false_eq_true, if_true, if_false, ↓reduceIte]; try rfl)
          have hP9 : 0 = (gw_seat σ (nI i_) (nI r_) b).1 := (by simp only [gw_seat, gw_fail, (eq_true h2), (eq_true h10), hxi_, hxr_, and_true, true_and, and_false, false_and, and_self, or_true, true_or, or_false, false_or, not_true_eq_false, not_false_eq_true, if_true, if_false, ↓reduceIte]; first | exact c35.symm | exact c35b.symm)
          have hC9 : gw_C (gw_up σ 0 0 0) γ ord := (gw_C_up rfl hC)
          have hZ9 : (gw_up σ 0 0 0) 0 0 = 0 := rfl
          rw [hE9] at hG hC9 hZ9
          refine vx_ret (W.widen (k := 1) (n := 6) (Nat.le_of_ble_eq_true rfl) (Nat.le_of_ble_eq_true rfl) ?_)
          exact W.zret (v := 0) hx hb hr rfl (fun t ht hW => ⟨⟨_, (hd, γ, ord), rfl, ⟨hP9, hZ9, hC9⟩, by show gw_gW D ca es A ad _ _ _ _ _ t.heap; rw [ht]; exact hG⟩, hS.F ht⟩) hS.2.2 dX1_seat_65
        · skip
          refine lv_aload_n hx hb dX1_seat_51 rfl (lv_at hl 1 rfl) ?_
          refine gw_get hx hb hts in_X1 hown hK (gw_c0 hG) rfl 18 (by decide) (hts _ q118) (v := .ref (ad 6 10)) rfl dX1_seat_52 ?_
          refine lv_iload_n hx hb dX1_seat_55 rfl (lv_at hl 2 rfl) ?_
          refine lv_dup2_11 hx hb dX1_seat_56 rfl rfl ?_
          refine gw_gald 10 (n := 6) (j := i_) hx hb hK hG (by decide) rfl rfl (by decide) (by have := hJ.b7; omega) dX1_seat_57 (v := γ 3 i_) rfl ?_
          refine lv_iconst (v := 1) hx hb dX1_seat_58 (by decide) ?_
          refine lv_iload_n hx hb dX1_seat_59 rfl (lv_at hl 3 rfl) ?_
          refine lv_ishl hx hb dX1_seat_60 ?_
          refine lv_ixor hx hb dX1_seat_61 ?_
          have hG := gw_gW.nu (gw_gW.z (v := 0) hG) (gw_nu_up rfl).symm
          refine gw_gst10 (j := i_) hx hb hK hG hS (by have := hJ.b7; omega) dX1_seat_62 (fun H locs hG hS => ?_)
          have hG := gw_gW.gh (k := 29) (j := (10 * i_) + r_) (v := b) rfl hG
          refine lv_iload hx hb dX1_seat_63 (lv_at hl 0 rfl) ?_
          have hG := gw_gW.nu hG (show gw_nu (gw_up (gw_up σ 0 0 0) 29 ((10 * i_) + r_) b) = gw_nu σ from ((gw_nu_up rfl).trans (gw_nu_up rfl)))
          have hE9 : gw_up (gw_up σ 0 0 0) 29 ((10 * i_) + r_) b = (gw_seat σ (nI i_) (nI r_) b).2 := (by simp only [gw_seat, gw_fail, (eq_true h2), (eq_true h10), hxi_, hxr_, c35, (eq_true c35b), c48, and_true, true_and, and_false, false_and, and_self, or_true, true_or, or_false, false_or, not_true_eq_false, not_false_eq_true, if_true, if_false, ↓reduceIte]; try rfl)
          have hP9 : 0 = (gw_seat σ (nI i_) (nI r_) b).1 := (by simp only [gw_seat, gw_fail, (eq_true h2), (eq_true h10), hxi_, hxr_, and_true, true_and, and_false, false_and, and_self, or_true, true_or, or_false, false_or, not_true_eq_false, not_false_eq_true, if_true, if_false, ↓reduceIte]; first | exact c35.symm | exact c35b.symm)
          have hC9 : gw_C (gw_up (gw_up σ 0 0 0) 29 ((10 * i_) + r_) b) (gw_up γ 3 i_ ((γ 3 i_) ^^^ (1 <<< ((nI r_) &&& 31)))) ord := (gw_C_seat hC (by have := hJ.b7; omega) (by have := hJ.b25; omega) hb1 (fun z => c48 (by rw [← z]; first | exact c35.symm | exact c35b.symm)))
          have hZ9 : (gw_up (gw_up σ 0 0 0) 29 ((10 * i_) + r_) b) 0 0 = 0 := rfl
          rw [hE9] at hG hC9 hZ9
          refine vx_ret (W.widen (k := 1) (n := 6) (Nat.le_of_ble_eq_true rfl) (Nat.le_of_ble_eq_true rfl) ?_)
          exact W.zret (v := 0) hx hb hr rfl (fun t ht hW => ⟨⟨_, (hd, gw_up γ 3 i_ ((γ 3 i_) ^^^ (1 <<< ((nI r_) &&& 31))), ord), rfl, ⟨hP9, hZ9, hC9⟩, by show gw_gW D ca es A ad _ _ _ _ _ t.heap; rw [ht]; exact hG⟩, hS.F ht⟩) hS.2.2 dX1_seat_65
      · skip
        refine lv_iconst (v := 1) hx hb dX1_seat_38 (by decide) ?_
        refine lv_goto (tgt := 43) hx hb dX1_seat_39 (by decide) ?_
        refine lv_istore (lv' := [(4, .int 1), (0, .ref (ad 0 0)), (1, .int (nI i_)), (2, .int (nI r_)), (3, .int b)]) hx hb dX1_seat_43 hl (by decide) rfl (fun ls hl => ?_)
        refine lv_iload hx hb dX1_seat_45 (lv_at hl 0 rfl) ?_
        refine lv_iload_n hx hb dX1_seat_47 rfl (lv_at hl 4 rfl) ?_
        refine lv_icmp_eq (tgt := 63) hx hb dX1_seat_48 (by decide) (fun c48 => ?_) (fun c48 => ?_)
        · skip
          have c48b : σ 29 ((10 * i_) + r_) = b := c35.trans c48
          refine lv_iload hx hb dX1_seat_63 (lv_at hl 0 rfl) ?_
          have hG := gw_gW.nu (gw_gW.z (v := 0) hG) (gw_nu_up rfl).symm
          have hG := gw_gW.nu hG (show gw_nu (gw_up σ 0 0 0) = gw_nu σ from (gw_nu_up rfl))
          have hE9 : gw_up σ 0 0 0 = (gw_seat σ (nI i_) (nI r_) b).2 := (by have z := gw_up_id (σ := gw_up σ 0 0 0) (k := 29) (j := (10 * i_) + r_) (v := b) c48b; simp only [z, gw_seat, gw_fail, (eq_true h2), (eq_true h10), hxi_, hxr_, (eq_true c35), (eq_true c48), z, and_true, true_and, and_false, false_and, and_self, or_true, true_or, or_false, false_or, not_true_eq_false, not_false_eq_true, if_true, if_false, ↓reduceIte]; try rfl)
          have hP9 : 1 = (gw_seat σ (nI i_) (nI r_) b).1 := (by simp only [gw_seat, gw_fail, (eq_true h2), (eq_true h10), hxi_, hxr_, and_true, true_and, and_false, false_and, and_self, or_true, true_or, or_false, false_or, not_true_eq_false, not_false_eq_true, if_true, if_false, ↓reduceIte]; first | exact c35.symm | exact c35b.symm)
          have hC9 : gw_C (gw_up σ 0 0 0) γ ord := (gw_C_up rfl hC)
          have hZ9 : (gw_up σ 0 0 0) 0 0 = 0 := rfl
          rw [hE9] at hG hC9 hZ9
          refine vx_ret (W.widen (k := 1) (n := 6) (Nat.le_of_ble_eq_true rfl) (Nat.le_of_ble_eq_true rfl) ?_)
          exact W.zret (v := 1) hx hb hr rfl (fun t ht hW => ⟨⟨_, (hd, γ, ord), rfl, ⟨hP9, hZ9, hC9⟩, by show gw_gW D ca es A ad _ _ _ _ _ t.heap; rw [ht]; exact hG⟩, hS.F ht⟩) hS.2.2 dX1_seat_65
        · skip
          refine lv_aload_n hx hb dX1_seat_51 rfl (lv_at hl 1 rfl) ?_
          refine gw_get hx hb hts in_X1 hown hK (gw_c0 hG) rfl 18 (by decide) (hts _ q118) (v := .ref (ad 6 10)) rfl dX1_seat_52 ?_
          refine lv_iload_n hx hb dX1_seat_55 rfl (lv_at hl 2 rfl) ?_
          refine lv_dup2_11 hx hb dX1_seat_56 rfl rfl ?_
          refine gw_gald 10 (n := 6) (j := i_) hx hb hK hG (by decide) rfl rfl (by decide) (by have := hJ.b7; omega) dX1_seat_57 (v := γ 3 i_) rfl ?_
          refine lv_iconst (v := 1) hx hb dX1_seat_58 (by decide) ?_
          refine lv_iload_n hx hb dX1_seat_59 rfl (lv_at hl 3 rfl) ?_
          refine lv_ishl hx hb dX1_seat_60 ?_
          refine lv_ixor hx hb dX1_seat_61 ?_
          have hG := gw_gW.nu (gw_gW.z (v := 0) hG) (gw_nu_up rfl).symm
          refine gw_gst10 (j := i_) hx hb hK hG hS (by have := hJ.b7; omega) dX1_seat_62 (fun H locs hG hS => ?_)
          have hG := gw_gW.gh (k := 29) (j := (10 * i_) + r_) (v := b) rfl hG
          refine lv_iload hx hb dX1_seat_63 (lv_at hl 0 rfl) ?_
          have hG := gw_gW.nu hG (show gw_nu (gw_up (gw_up σ 0 0 0) 29 ((10 * i_) + r_) b) = gw_nu σ from ((gw_nu_up rfl).trans (gw_nu_up rfl)))
          have hE9 : gw_up (gw_up σ 0 0 0) 29 ((10 * i_) + r_) b = (gw_seat σ (nI i_) (nI r_) b).2 := (by simp only [gw_seat, gw_fail, (eq_true h2), (eq_true h10), hxi_, hxr_, (eq_true c35), c48, and_true, true_and, and_false, false_and, and_self, or_true, true_or, or_false, false_or, not_true_eq_false, not_false_eq_true, if_true, if_false, ↓reduceIte]; try rfl)
          have hP9 : 1 = (gw_seat σ (nI i_) (nI r_) b).1 := (by simp only [gw_seat, gw_fail, (eq_true h2), (eq_true h10), hxi_, hxr_, and_true, true_and, and_false, false_and, and_self, or_true, true_or, or_false, false_or, not_true_eq_false, not_false_eq_true, if_true, if_false, ↓reduceIte]; first | exact c35.symm | exact c35b.symm)
          have hC9 : gw_C (gw_up (gw_up σ 0 0 0) 29 ((10 * i_) + r_) b) (gw_up γ 3 i_ ((γ 3 i_) ^^^ (1 <<< ((nI r_) &&& 31)))) ord := (gw_C_seat hC (by have := hJ.b7; omega) (by have := hJ.b25; omega) hb1 (fun z => c48 (by rw [← z]; first | exact c35.symm | exact c35b.symm)))
          have hZ9 : (gw_up (gw_up σ 0 0 0) 29 ((10 * i_) + r_) b) 0 0 = 0 := rfl
          rw [hE9] at hG hC9 hZ9
          refine vx_ret (W.widen (k := 1) (n := 6) (Nat.le_of_ble_eq_true rfl) (Nat.le_of_ble_eq_true rfl) ?_)
          exact W.zret (v := 1) hx hb hr rfl (fun t ht hW => ⟨⟨_, (hd, gw_up γ 3 i_ ((γ 3 i_) ^^^ (1 <<< ((nI r_) &&& 31))), ord), rfl, ⟨hP9, hZ9, hC9⟩, by show gw_gW D ca es A ad _ _ _ _ _ t.heap; rw [ht]; exact hG⟩, hS.F ht⟩) hS.2.2 dX1_seat_65
    · skip
      refine gw_scalli (va_Run.run (va_runV (As := [.int r]) (rest := []) ⟨hx, hb, hml, hown, hts⟩ (gg_isReviewer l D ca es A ad hd σ γ ord r) (cwV 1 hts (lw_V q634 q636 qs16 q42 q637) rfl rfl rfl (by decide +kernel) ⟨Nat.le_of_ble_eq_true rfl, Nat.le_of_ble_eq_true rfl⟩) (gw_grecv [.int r] gw_gPb (gw_c0 hG) rfl hK (fun U hU hW => gw_gat hU hW hG hK hE hN hA hS)) rfl rfl hl.1 rfl (lv_room (Nat.le_of_ble_eq_true rfl)) dX1_seat_10 ⟨Nat.le_of_ble_eq_true rfl, Nat.le_of_ble_eq_true rfl⟩)) ?_
      refine gw_topi (y := 0) (if_neg h10) ?_
      refine lv_if_eq (tgt := 20) hx hb dX1_seat_13 (by decide) (fun _ => ?_) (fun c_ => absurd c_ (by decide))
      refine lv_iconst (v := 0) hx hb dX1_seat_20 (by decide) ?_
      have hF9 : (gw_seat σ i r b) = gw_fail σ 1 := (by simp only [gw_seat, gw_fail, (eq_true h2), (eq_false h10), and_true, true_and, and_false, false_and, and_self, or_true, true_or, or_false, false_or, not_true_eq_false, not_false_eq_true, if_true, if_false, ↓reduceIte]; try rfl)
      refine vx_callv (vx_runS (As := [.int 0]) (rest := []) ⟨hx, hb, hml, hown, hts⟩ (gg_checkIndex0 l A hlt) (va_cwS 1 hts (lw_S q525 q526 q42 q527) rfl rfl rfl (by decide +kernel) ⟨Nat.le_of_ble_eq_true rfl, Nat.le_of_ble_eq_true rfl⟩) (gw_gspre [.int 0] gw_Thb (fun U hU hW => gw_That hU hW hE hN hS)) rfl rfl hl.1 rfl (lv_room (Nat.le_of_ble_eq_true rfl)) dX1_seat_21 ⟨Nat.le_of_ble_eq_true rfl, Nat.le_of_ble_eq_true rfl⟩) hS (fun _ _ h => h.elim) (fun _ h => h.elim) (fun _ _ h => h.elim) (fun E ce q9 u9 t9 H1 locs1 ht9 hA9 _ hBX hz9 hq9 hS1 hce hcv hcl => ?_) (fun u9 t9 H1 locs1 ht9 hA9 hp9 => hp9.elim)
      exact gw_out htab hlocks hce hcv hcl hF9 (by decide) hBX hG hC hq9 hS1 (Nat.le_of_ble_eq_true rfl) (Nat.le_of_ble_eq_true rfl)
  · skip
    refine gw_scalli (va_Run.run (va_runV (As := [.int i]) (rest := []) ⟨hx, hb, hml, hown, hts⟩ (gg_isCall l D ca es A ad hd σ γ ord i) (cwV 1 hts (lw_V q521 q523 qs13 q42 q524) rfl rfl rfl (by decide +kernel) ⟨Nat.le_of_ble_eq_true rfl, Nat.le_of_ble_eq_true rfl⟩) (gw_grecv [.int i] gw_gPb (gw_c0 hG) rfl hK (fun U hU hW => gw_gat hU hW hG hK hE hN hA hS)) rfl rfl hl.1 rfl (lv_room (Nat.le_of_ble_eq_true rfl)) dX1_seat_2 ⟨Nat.le_of_ble_eq_true rfl, Nat.le_of_ble_eq_true rfl⟩)) ?_
    refine gw_topi (y := 0) (if_neg h2) ?_
    refine lv_if_eq (tgt := 20) hx hb dX1_seat_5 (by decide) (fun _ => ?_) (fun c_ => absurd c_ (by decide))
    refine lv_iconst (v := 0) hx hb dX1_seat_20 (by decide) ?_
    have hF9 : (gw_seat σ i r b) = gw_fail σ 1 := (by simp only [gw_seat, gw_fail, (eq_false h2), and_true, true_and, and_false, false_and, and_self, or_true, true_or, or_false, false_or, not_true_eq_false, not_false_eq_true, if_true, if_false, ↓reduceIte]; try rfl)
    refine vx_callv (vx_runS (As := [.int 0]) (rest := []) ⟨hx, hb, hml, hown, hts⟩ (gg_checkIndex0 l A hlt) (va_cwS 1 hts (lw_S q525 q526 q42 q527) rfl rfl rfl (by decide +kernel) ⟨Nat.le_of_ble_eq_true rfl, Nat.le_of_ble_eq_true rfl⟩) (gw_gspre [.int 0] gw_Thb (fun U hU hW => gw_That hU hW hE hN hS)) rfl rfl hl.1 rfl (lv_room (Nat.le_of_ble_eq_true rfl)) dX1_seat_21 ⟨Nat.le_of_ble_eq_true rfl, Nat.le_of_ble_eq_true rfl⟩) hS (fun _ _ h => h.elim) (fun _ h => h.elim) (fun _ _ h => h.elim) (fun E ce q9 u9 t9 H1 locs1 ht9 hA9 _ hBX hz9 hq9 hS1 hce hcv hcl => ?_) (fun u9 t9 H1 locs1 ht9 hA9 hp9 => hp9.elim)
    exact gw_out htab hlocks hce hcv hcl hF9 (by decide) hBX hG hC hq9 hS1 (Nat.le_of_ble_eq_true rfl) (Nat.le_of_ble_eq_true rfl)

set_option maxHeartbeats 4000000 in
set_option maxRecDepth 100000 in
theorem gx_review (l : Launch) (D : va_G) (ca : Nat → ClassId) (es : Nat → Nat) (A : Nat → Prop) (ad hd : Nat → Nat → Nat) (σ γ : gw_S) (ord : List Nat) (r i v : Int32) (hlt : l.stackTraces = false) (hC : gw_C σ γ ord) (hJ : gw_J σ) (h22 : ∀ j, j < gw_n σ 15 → gw_s6 (σ 22 j)) : vx_Met l yX1_review (ws_ yX1_review cX1_review 5 (some .int)) ({ frames := 7, cells := 1, slots := 6, locals := 110 }) (va_Pc [.ref (ad 0 0), .int r, .int i, .int v] (gw_gP D ca es A ad hd σ γ ord (gw_nu σ))) (gw_Qi D ca es A ad (gw_review σ r i v)) (gw_XC D ca es A ad (gw_T ["java/lang/IndexOutOfBoundsException", "java/lang/IllegalArgumentException", "java/lang/IllegalStateException"]) (gw_review σ r i v)) 1 6 A := by
  refine vx_ofW (cc := cX1_review) (maxL := 5) (ret := (some .int)) (by decide) rfl ?_
  intro p e s m args below meth c s₁ B hml htab hv
  obtain ⟨rfl, hG, hK, hE, hN, hA⟩ := hv
  have hx := B.exec
  have hb := B.bytes
  have hr := B.returns
  have hts := atoms_spec (ws := ws_ yX1_review cX1_review 5 (some .int)) B.pre
  have hts : ∀ w ∈ lw_all, w.before _ s = true := fun w h => hts w (List.mem_cons_of_mem _ h)
  have hown : s.vm.findClass RX1 = some m.cls := findClass_of_methodNamed B.named
  have hlocks := B.notSynchronized
  have hS : va_S A s.heap s.heap [] := va_S.rf
  have hl := lv_entry ([.ref (ad 0 0), .int r, .int i, .int v]) (n := 5) (Nat.le_of_ble_eq_true rfl)
  rw [lg_entry_eq]
  generalize (lg_sl ([.ref (ad 0 0), .int r, .int i, .int v]) ++ List.replicate (5 - (lg_sl ([.ref (ad 0 0), .int r, .int i, .int v])).length) Slot.unset).toArray = ls at hl ⊢
  have hl : lv_has ls 5 [(0, .ref (ad 0 0)), (1, .int r), (2, .int i), (3, .int v)] := hl
  refine lv_aload_n hx hb dX1_review_0 rfl (lv_at hl 0 rfl) ?_
  refine lv_iload_n hx hb dX1_review_1 rfl (lv_at hl 1 rfl) ?_
  rcases Classical.em (gw_isR σ r) with h2 | h2
  · skip
    refine gw_scalli (va_Run.run (va_runV (As := [.int r]) (rest := []) ⟨hx, hb, hml, hown, hts⟩ (gg_isReviewer l D ca es A ad hd σ γ ord r) (cwV 1 hts (lw_V q634 q636 qs16 q42 q637) rfl rfl rfl (by decide +kernel) ⟨Nat.le_of_ble_eq_true rfl, Nat.le_of_ble_eq_true rfl⟩) (gw_grecv [.int r] gw_gPb (gw_c0 hG) rfl hK (fun U hU hW => gw_gat hU hW hG hK hE hN hA hS)) rfl rfl hl.1 rfl (lv_room (Nat.le_of_ble_eq_true rfl)) dX1_review_2 ⟨Nat.le_of_ble_eq_true rfl, Nat.le_of_ble_eq_true rfl⟩)) ?_
    refine gw_topi (y := 1) (if_pos h2) ?_
    refine lv_if_eq (tgt := 20) hx hb dX1_review_5 (by decide) (fun c_ => absurd c_ (by decide)) (fun _ => ?_)
    refine lv_aload_n hx hb dX1_review_8 rfl (lv_at hl 0 rfl) ?_
    refine lv_iload_n hx hb dX1_review_9 rfl (lv_at hl 2 rfl) ?_
    rcases Classical.em (gw_isA σ i) with h10 | h10
    · skip
      refine gw_scalli (va_Run.run (va_runV (As := [.int i]) (rest := []) ⟨hx, hb, hml, hown, hts⟩ (gg_isApplication l D ca es A ad hd σ γ ord i) (cwV 1 hts (lw_V q614 q616 qs15 q42 q617) rfl rfl rfl (by decide +kernel) ⟨Nat.le_of_ble_eq_true rfl, Nat.le_of_ble_eq_true rfl⟩) (gw_grecv [.int i] gw_gPb (gw_c0 hG) rfl hK (fun U hU hW => gw_gat hU hW hG hK hE hN hA hS)) rfl rfl hl.1 rfl (lv_room (Nat.le_of_ble_eq_true rfl)) dX1_review_10 ⟨Nat.le_of_ble_eq_true rfl, Nat.le_of_ble_eq_true rfl⟩)) ?_
      refine gw_topi (y := 1) (if_pos h10) ?_
      refine lv_if_eq (tgt := 20) hx hb dX1_review_13 (by decide) (fun c_ => absurd c_ (by decide)) (fun _ => ?_)
      refine lv_iconst (v := 1) hx hb dX1_review_16 (by decide) ?_
      refine lv_goto (tgt := 21) hx hb dX1_review_17 (by decide) ?_
      refine va_csv (va_Run.run (va_runS (As := [.int 1]) (rest := []) ⟨hx, hb, hml, hown, hts⟩ (gg_checkIndex1 l) (va_cwS 1 hts (lw_S q525 q526 q42 q527) rfl rfl rfl (by decide +kernel) ⟨Nat.le_of_ble_eq_true rfl, Nat.le_of_ble_eq_true rfl⟩) gw_spre rfl rfl hl.1 rfl (lv_room (Nat.le_of_ble_eq_true rfl)) dX1_review_21 ⟨Nat.le_of_ble_eq_true rfl, Nat.le_of_ble_eq_true rfl⟩)) (fun _ => ?_)
      refine lv_iload_n hx hb dX1_review_24 rfl (lv_at hl 3 rfl) ?_
      refine lv_i2l (v := v.toInt64) hx hb dX1_review_25 rfl ?_
      refine lv_lconst (v := 0) hx hb dX1_review_26 (by decide) ?_
      refine lv_ldc2 (v := 100) hx hb hown (hts _ q652) dX1_review_27 ?_
      rcases Classical.em (0 ≤ v ∧ v ≤ 100) with h30 | h30
      · skip
        refine gw_scalli (va_Run.run (va_runS (As := [.long v.toInt64, .long 0, .long 100]) (rest := []) ⟨hx, hb, hml, hown, hts⟩ (gg_inRange l v.toInt64 0 100) (va_cwS 3 hts (lw_S q279 q280 q42 q281) rfl rfl rfl (by decide +kernel) ⟨Nat.le_of_ble_eq_true rfl, Nat.le_of_ble_eq_true rfl⟩) gw_spre rfl rfl hl.1 rfl (lv_room (Nat.le_of_ble_eq_true rfl)) dX1_review_30 ⟨Nat.le_of_ble_eq_true rfl, Nat.le_of_ble_eq_true rfl⟩)) ?_
        refine gw_topi (y := 1) (if_pos (gw_rgp (x := v) (by decide) (by decide) h30)) ?_
        refine va_csv (va_Run.run (va_runS (As := [.int 1]) (rest := []) ⟨hx, hb, hml, hown, hts⟩ (gg_checkArgument1 l) (va_cwS 1 hts (lw_S q284 q285 q42 q286) rfl rfl rfl (by decide +kernel) ⟨Nat.le_of_ble_eq_true rfl, Nat.le_of_ble_eq_true rfl⟩) gw_spre rfl rfl hl.1 rfl (lv_room (Nat.le_of_ble_eq_true rfl)) dX1_review_33 ⟨Nat.le_of_ble_eq_true rfl, Nat.le_of_ble_eq_true rfl⟩)) (fun _ => ?_)
        obtain ⟨r_, hr_, rfl⟩ := gw_idx h2 hJ.n25 (by have := hJ.b25; omega)
        have hxr_ : gw_ix (nI r_) = r_ := gw_ix_nI (by have := hJ.b25; omega)
        obtain ⟨i_, hi_, rfl⟩ := gw_idx h10 hJ.n15 (by have := hJ.b15; omega)
        have hxi_ : gw_ix (nI i_) = i_ := gw_ix_nI (by have := hJ.b15; omega)
        refine lv_aload_n hx hb dX1_review_36 rfl (lv_at hl 0 rfl) ?_
        refine gw_get hx hb hts in_X1 hown hK (gw_c0 hG) rfl 11 (by decide) (hts _ q111) (v := .ref (ad 5 0)) rfl dX1_review_37 ?_
        refine lv_iload_n hx hb dX1_review_40 rfl (lv_at hl 2 rfl) ?_
        refine gw_qld (i := i_) hx hb hK rfl (gw_c5 hG) (by decide) (by have := hJ.b15; omega) dX1_review_41 (v := .ref (ad 12 i_)) (gw_ifs hi_) ?_
        refine lv_astore (lv' := [(4, .ref (ad 12 i_)), (0, .ref (ad 0 0)), (1, .int (nI r_)), (2, .int (nI i_)), (3, .int v)]) hx hb dX1_review_42 hl (by decide) rfl (fun ls hl => ?_)
        refine lv_aload hx hb dX1_review_44 (lv_at hl 0 rfl) ?_
        refine gw_getN hx hb hts in_X8 hown hK (gw_c12 hG (j := i_) hi_) rfl 6 (by decide) (hN.1 _ q572 rfl) (v := .ref (es (gw_ix (σ 22 i_)))) rfl dX1_review_46 ?_
        refine va_gets (v := .ref (es (gw_ix 5))) hx hb (hE.1 5 (by decide)).1 hS hown (hts _ q618) (fun _ h => h) dX1_review_49 ?_
        refine gw_acs_eq hE (h22 _ hi_) (by decide) (tgt := 59) hx hb dX1_review_52 (by decide) (fun c52 => ?_) (fun c52 => ?_)
        · skip
          refine lv_iconst (v := 0) hx hb dX1_review_59 (by decide) ?_
          have hF9 : (gw_review σ (nI r_) (nI i_) v) = gw_fail σ 3 := (by simp only [gw_review, gw_rev1, gw_fail, (eq_true h2), (eq_true h10), h30, hxr_, hxi_, (eq_true c52), and_true, true_and, and_false, false_and, and_self, or_true, true_or, or_false, false_or, not_true_eq_false, not_false_eq_true, if_true, if_false, ↓reduceIte]; try rfl)
          refine vx_callv (vx_runS (As := [.int 0]) (rest := []) ⟨hx, hb, hml, hown, hts⟩ (gg_checkState0 l A hlt) (va_cwS 1 hts (lw_S q358 q359 q42 q360) rfl rfl rfl (by decide +kernel) ⟨Nat.le_of_ble_eq_true rfl, Nat.le_of_ble_eq_true rfl⟩) (gw_gspre [.int 0] gw_Thb (fun U hU hW => gw_That hU hW hE hN hS)) rfl rfl hl.1 rfl (lv_room (Nat.le_of_ble_eq_true rfl)) dX1_review_60 ⟨Nat.le_of_ble_eq_true rfl, Nat.le_of_ble_eq_true rfl⟩) hS (fun _ _ h => h.elim) (fun _ h => h.elim) (fun _ _ h => h.elim) (fun E ce q9 u9 t9 H1 locs1 ht9 hA9 _ hBX hz9 hq9 hS1 hce hcv hcl => ?_) (fun u9 t9 H1 locs1 ht9 hA9 hp9 => hp9.elim)
          exact gw_out htab hlocks hce hcv hcl hF9 (by decide) hBX hG hC hq9 hS1 (Nat.le_of_ble_eq_true rfl) (Nat.le_of_ble_eq_true rfl)
        · skip
          refine lv_iconst (v := 1) hx hb dX1_review_55 (by decide) ?_
          refine lv_goto (tgt := 60) hx hb dX1_review_56 (by decide) ?_
          refine va_csv (va_Run.run (va_runS (As := [.int 1]) (rest := []) ⟨hx, hb, hml, hown, hts⟩ (gg_checkState1 l) (va_cwS 1 hts (lw_S q358 q359 q42 q360) rfl rfl rfl (by decide +kernel) ⟨Nat.le_of_ble_eq_true rfl, Nat.le_of_ble_eq_true rfl⟩) gw_spre rfl rfl hl.1 rfl (lv_room (Nat.le_of_ble_eq_true rfl)) dX1_review_60 ⟨Nat.le_of_ble_eq_true rfl, Nat.le_of_ble_eq_true rfl⟩)) (fun _ => ?_)
          refine lv_aload_n hx hb dX1_review_63 rfl (lv_at hl 1 rfl) ?_
          refine gw_get hx hb hts in_X1 hown hK (gw_c0 hG) rfl 14 (by decide) (hts _ q114) (v := .int (σ 1 0)) rfl dX1_review_64 ?_
          refine lv_aload_n hx hb dX1_review_67 rfl (lv_at hl 1 rfl) ?_
          refine gw_get hx hb hts in_X1 hown hK (gw_c0 hG) rfl 6 (by decide) (hts _ q106) (v := .ref (ad 6 2)) rfl dX1_review_68 ?_
          refine lv_aload hx hb dX1_review_71 (lv_at hl 0 rfl) ?_
          refine gw_getN hx hb hts in_X8 hown hK (gw_c12 hG (j := i_) hi_) rfl 1 (by decide) (hN.1 _ q562 rfl) (v := .int (σ 16 i_)) rfl dX1_review_73 ?_
          refine gw_topi (y := nI (gw_co σ i_)) (hJ.a16 hi_) ?_
          refine gw_gald 2 (n := 6) (j := gw_co σ i_) hx hb hK hG (by decide) rfl rfl (by decide) (by have := hJ.a16b hi_; have := hJ.b7; omega) dX1_review_76 (v := σ 10 (gw_co σ i_)) rfl ?_
          refine lv_icmp_gt (tgt := 82) hx hb dX1_review_77 (by decide) (fun c77 => ?_) (fun c77 => ?_)
          · skip
            refine lv_aload_n hx hb dX1_review_82 rfl (lv_at hl 1 rfl) ?_
            refine gw_get hx hb hts in_X1 hown hK (gw_c0 hG) rfl 10 (by decide) (hts _ q110) (v := .ref (ad 6 6)) rfl dX1_review_83 ?_
            refine lv_aload hx hb dX1_review_86 (lv_at hl 0 rfl) ?_
            refine gw_getN hx hb hts in_X8 hown hK (gw_c12 hG (j := i_) hi_) rfl 1 (by decide) (hN.1 _ q562 rfl) (v := .int (σ 16 i_)) rfl dX1_review_88 ?_
            refine gw_topi (y := nI (gw_co σ i_)) (hJ.a16 hi_) ?_
            refine gw_gzld 6 (n := 6) (j := gw_co σ i_) hx hb hK hG (by decide) rfl rfl (by decide) (by have := hJ.a16b hi_; have := hJ.b7; omega) dX1_review_91 (v := σ 12 (gw_co σ i_)) rfl ?_
            refine lv_if_eq (tgt := 97) hx hb dX1_review_92 (by decide) (fun c92 => ?_) (fun c92 => ?_)
            · skip
              refine lv_aload_n hx hb dX1_review_97 rfl (lv_at hl 1 rfl) ?_
              refine gw_get hx hb hts in_X1 hown hK (gw_c0 hG) rfl 18 (by decide) (hts _ q118) (v := .ref (ad 6 10)) rfl dX1_review_98 ?_
              refine lv_aload hx hb dX1_review_101 (lv_at hl 0 rfl) ?_
              refine gw_getN hx hb hts in_X8 hown hK (gw_c12 hG (j := i_) hi_) rfl 1 (by decide) (hN.1 _ q562 rfl) (v := .int (σ 16 i_)) rfl dX1_review_103 ?_
              refine gw_topi (y := nI (gw_co σ i_)) (hJ.a16 hi_) ?_
              refine gw_gald 10 (n := 6) (j := gw_co σ i_) hx hb hK hG (by decide) rfl rfl (by decide) (by have := hJ.a16b hi_; have := hJ.b7; omega) dX1_review_106 (v := γ 3 (gw_co σ i_)) rfl ?_
              refine lv_iload_n hx hb dX1_review_107 rfl (lv_at hl 2 rfl) ?_
              refine lv_ishr hx hb dX1_review_108 ?_
              refine lv_iconst (v := 1) hx hb dX1_review_109 (by decide) ?_
              refine lv_iand hx hb dX1_review_110 ?_
              refine gw_topi (y := σ 29 ((10 * (gw_co σ i_)) + r_)) (hC.2.2.1 _ (by have := hJ.a16b hi_; have := hJ.b7; omega) _ (by have := hJ.b25; omega)) ?_
              refine lv_if_ne (tgt := 116) hx hb dX1_review_111 (by decide) (fun c111 => ?_) (fun c111 => ?_)
              · skip
                refine lv_aload_n hx hb dX1_review_116 rfl (lv_at hl 1 rfl) ?_
                refine lv_iload_n hx hb dX1_review_117 rfl (lv_at hl 2 rfl) ?_
                refine lv_aload hx hb dX1_review_118 (lv_at hl 0 rfl) ?_
                rcases Classical.em (gw_confl σ r_ i_) with h120 | h120
                · skip
                  refine gw_scalli (va_Run.run (va_runV (As := [.int (nI r_), .ref (ad 12 i_)]) (rest := []) ⟨hx, hb, hml, hown, hts⟩ (gg_hasConflict l D ca es A ad hd σ γ ord r_ i_ (by have := hJ.b25; omega) hi_ (fun j hj => hC.2.1 _ (by have := hJ.b25; omega) j hj) ⟨hJ.a17 hi_, Nat.lt_succ_of_le (hJ.a17b hi_)⟩) (cwV 2 hts (lw_V q653 q655 qs17 q42 q656) rfl rfl rfl (by decide +kernel) ⟨Nat.le_of_ble_eq_true rfl, Nat.le_of_ble_eq_true rfl⟩) (gw_grecv [.int (nI r_), .ref (ad 12 i_)] gw_gPb (gw_c0 hG) rfl hK (fun U hU hW => gw_gat hU hW hG hK hE hN hA hS)) rfl rfl hl.1 rfl (lv_room (Nat.le_of_ble_eq_true rfl)) dX1_review_120 ⟨Nat.le_of_ble_eq_true rfl, Nat.le_of_ble_eq_true rfl⟩)) ?_
                  refine gw_topi (y := 1) (if_pos h120) ?_
                  refine lv_if_eq (tgt := 128) hx hb dX1_review_123 (by decide) (fun c_ => absurd c_ (by decide)) (fun _ => ?_)
                  refine lv_iconst (v := 4) hx hb dX1_review_126 (by decide) ?_
                  have hG := gw_gW.nu (gw_gW.z (v := 0) hG) (gw_nu_up rfl).symm
                  have hG := gw_gW.nu hG (show gw_nu (gw_up σ 0 0 0) = gw_nu σ from (gw_nu_up rfl))
                  have hE9 : gw_up σ 0 0 0 = (gw_review σ (nI r_) (nI i_) v).2 := (by simp only [gw_review, gw_rev1, gw_fail, (eq_true h2), (eq_true h10), h30, hxr_, hxi_, c52, c77, (Int32.not_le.mpr c77), (eq_true c92), c111, (eq_true h120), and_true, true_and, and_false, false_and, and_self, or_true, true_or, or_false, false_or, not_true_eq_false, not_false_eq_true, if_true, if_false, ↓reduceIte]; try rfl)
                  have hP9 : 4 = (gw_review σ (nI r_) (nI i_) v).1 := (by simp only [gw_review, gw_rev1, gw_fail, (eq_true h2), (eq_true h10), h30, hxr_, hxi_, c52, c77, (Int32.not_le.mpr c77), (eq_true c92), c111, (eq_true h120), and_true, true_and, and_false, false_and, and_self, or_true, true_or, or_false, false_or, not_true_eq_false, not_false_eq_true, if_true, if_false, ↓reduceIte]; try rfl)
                  have hC9 : gw_C (gw_up σ 0 0 0) γ ord := (gw_C_up rfl hC)
                  have hZ9 : (gw_up σ 0 0 0) 0 0 = 0 := rfl
                  rw [hE9] at hG hC9 hZ9
                  refine vx_ret (W.widen (k := 1) (n := 6) (Nat.le_of_ble_eq_true rfl) (Nat.le_of_ble_eq_true rfl) ?_)
                  exact W.iret (v := 4) hx hb hr (fun t ht hW => ⟨⟨_, (hd, γ, ord), rfl, ⟨hP9, hZ9, hC9⟩, by show gw_gW D ca es A ad _ _ _ _ _ t.heap; rw [ht]; exact hG⟩, hS.F ht⟩) hS.2.2 dX1_review_127
                · skip
                  refine gw_scalli (va_Run.run (va_runV (As := [.int (nI r_), .ref (ad 12 i_)]) (rest := []) ⟨hx, hb, hml, hown, hts⟩ (gg_hasConflict l D ca es A ad hd σ γ ord r_ i_ (by have := hJ.b25; omega) hi_ (fun j hj => hC.2.1 _ (by have := hJ.b25; omega) j hj) ⟨hJ.a17 hi_, Nat.lt_succ_of_le (hJ.a17b hi_)⟩) (cwV 2 hts (lw_V q653 q655 qs17 q42 q656) rfl rfl rfl (by decide +kernel) ⟨Nat.le_of_ble_eq_true rfl, Nat.le_of_ble_eq_true rfl⟩) (gw_grecv [.int (nI r_), .ref (ad 12 i_)] gw_gPb (gw_c0 hG) rfl hK (fun U hU hW => gw_gat hU hW hG hK hE hN hA hS)) rfl rfl hl.1 rfl (lv_room (Nat.le_of_ble_eq_true rfl)) dX1_review_120 ⟨Nat.le_of_ble_eq_true rfl, Nat.le_of_ble_eq_true rfl⟩)) ?_
                  refine gw_topi (y := 0) (if_neg h120) ?_
                  refine lv_if_eq (tgt := 128) hx hb dX1_review_123 (by decide) (fun _ => ?_) (fun c_ => absurd c_ (by decide))
                  refine lv_aload hx hb dX1_review_128 (lv_at hl 0 rfl) ?_
                  refine gw_getN hx hb hts in_X8 hown hK (gw_c12 hG (j := i_) hi_) rfl 5 (by decide) (hN.1 _ q570 rfl) (v := .ref (ad 14 i_)) rfl dX1_review_130 ?_
                  refine lv_iload_n hx hb dX1_review_133 rfl (lv_at hl 2 rfl) ?_
                  refine lv_iload_n hx hb dX1_review_134 rfl (lv_at hl 4 rfl) ?_
                  have hG := gw_gW.nu (gw_gW.z (v := 0) hG) (gw_nu_up rfl).symm
                  refine gw_grevst (i := r_) (j := i_) hx hb hK hG hS hi_ (by have := hJ.b15; omega) (by have := hJ.b25; omega) dX1_review_135 (fun H locs hG hS => ?_)
                  refine lv_iconst (v := 0) hx hb dX1_review_136 (by decide) ?_
                  have hG := gw_gW.nu hG (show gw_nu (gw_up (gw_up σ 0 0 0) 30 ((24 * r_) + i_) v) = gw_nu σ from ((gw_nu_up rfl).trans (gw_nu_up rfl)))
                  have hE9 : gw_up (gw_up σ 0 0 0) 30 ((24 * r_) + i_) v = (gw_review σ (nI r_) (nI i_) v).2 := (by simp only [gw_review, gw_rev1, gw_fail, (eq_true h2), (eq_true h10), h30, hxr_, hxi_, c52, c77, (Int32.not_le.mpr c77), (eq_true c92), c111, (eq_false h120), and_true, true_and, and_false, false_and, and_self, or_true, true_or, or_false, false_or, not_true_eq_false, not_false_eq_true, if_true, if_false, ↓reduceIte]; try rfl)
                  have hP9 : 0 = (gw_review σ (nI r_) (nI i_) v).1 := (by simp only [gw_review, gw_rev1, gw_fail, (eq_true h2), (eq_true h10), h30, hxr_, hxi_, c52, c77, (Int32.not_le.mpr c77), (eq_true c92), c111, (eq_false h120), and_true, true_and, and_false, false_and, and_self, or_true, true_or, or_false, false_or, not_true_eq_false, not_false_eq_true, if_true, if_false, ↓reduceIte]; try rfl)
                  have hC9 : gw_C (gw_up (gw_up σ 0 0 0) 30 ((24 * r_) + i_) v) γ ord := (gw_C_up rfl (gw_C_up rfl hC))
                  have hZ9 : (gw_up (gw_up σ 0 0 0) 30 ((24 * r_) + i_) v) 0 0 = 0 := rfl
                  rw [hE9] at hG hC9 hZ9
                  refine vx_ret (W.widen (k := 1) (n := 6) (Nat.le_of_ble_eq_true rfl) (Nat.le_of_ble_eq_true rfl) ?_)
                  exact W.iret (v := 0) hx hb hr (fun t ht hW => ⟨⟨_, (hd, γ, ord), rfl, ⟨hP9, hZ9, hC9⟩, by show gw_gW D ca es A ad _ _ _ _ _ t.heap; rw [ht]; exact hG⟩, hS.F ht⟩) hS.2.2 dX1_review_137
              · skip
                refine lv_iconst (v := 3) hx hb dX1_review_114 (by decide) ?_
                have hG := gw_gW.nu (gw_gW.z (v := 0) hG) (gw_nu_up rfl).symm
                have hG := gw_gW.nu hG (show gw_nu (gw_up σ 0 0 0) = gw_nu σ from (gw_nu_up rfl))
                have hE9 : gw_up σ 0 0 0 = (gw_review σ (nI r_) (nI i_) v).2 := (by simp only [gw_review, gw_rev1, gw_fail, (eq_true h2), (eq_true h10), h30, hxr_, hxi_, c52, c77, (Int32.not_le.mpr c77), (eq_true c92), (eq_true c111), and_true, true_and, and_false, false_and, and_self, or_true, true_or, or_false, false_or, not_true_eq_false, not_false_eq_true, if_true, if_false, ↓reduceIte]; try rfl)
                have hP9 : 3 = (gw_review σ (nI r_) (nI i_) v).1 := (by simp only [gw_review, gw_rev1, gw_fail, (eq_true h2), (eq_true h10), h30, hxr_, hxi_, c52, c77, (Int32.not_le.mpr c77), (eq_true c92), (eq_true c111), and_true, true_and, and_false, false_and, and_self, or_true, true_or, or_false, false_or, not_true_eq_false, not_false_eq_true, if_true, if_false, ↓reduceIte]; try rfl)
                have hC9 : gw_C (gw_up σ 0 0 0) γ ord := (gw_C_up rfl hC)
                have hZ9 : (gw_up σ 0 0 0) 0 0 = 0 := rfl
                rw [hE9] at hG hC9 hZ9
                refine vx_ret (W.widen (k := 1) (n := 6) (Nat.le_of_ble_eq_true rfl) (Nat.le_of_ble_eq_true rfl) ?_)
                exact W.iret (v := 3) hx hb hr (fun t ht hW => ⟨⟨_, (hd, γ, ord), rfl, ⟨hP9, hZ9, hC9⟩, by show gw_gW D ca es A ad _ _ _ _ _ t.heap; rw [ht]; exact hG⟩, hS.F ht⟩) hS.2.2 dX1_review_115
            · skip
              refine lv_iconst (v := 2) hx hb dX1_review_95 (by decide) ?_
              have hG := gw_gW.nu (gw_gW.z (v := 0) hG) (gw_nu_up rfl).symm
              have hG := gw_gW.nu hG (show gw_nu (gw_up σ 0 0 0) = gw_nu σ from (gw_nu_up rfl))
              have hE9 : gw_up σ 0 0 0 = (gw_review σ (nI r_) (nI i_) v).2 := (by simp only [gw_review, gw_rev1, gw_fail, (eq_true h2), (eq_true h10), h30, hxr_, hxi_, c52, c77, (Int32.not_le.mpr c77), c92, and_true, true_and, and_false, false_and, and_self, or_true, true_or, or_false, false_or, not_true_eq_false, not_false_eq_true, if_true, if_false, ↓reduceIte]; try rfl)
              have hP9 : 2 = (gw_review σ (nI r_) (nI i_) v).1 := (by simp only [gw_review, gw_rev1, gw_fail, (eq_true h2), (eq_true h10), h30, hxr_, hxi_, c52, c77, (Int32.not_le.mpr c77), c92, and_true, true_and, and_false, false_and, and_self, or_true, true_or, or_false, false_or, not_true_eq_false, not_false_eq_true, if_true, if_false, ↓reduceIte]; try rfl)
              have hC9 : gw_C (gw_up σ 0 0 0) γ ord := (gw_C_up rfl hC)
              have hZ9 : (gw_up σ 0 0 0) 0 0 = 0 := rfl
              rw [hE9] at hG hC9 hZ9
              refine vx_ret (W.widen (k := 1) (n := 6) (Nat.le_of_ble_eq_true rfl) (Nat.le_of_ble_eq_true rfl) ?_)
              exact W.iret (v := 2) hx hb hr (fun t ht hW => ⟨⟨_, (hd, γ, ord), rfl, ⟨hP9, hZ9, hC9⟩, by show gw_gW D ca es A ad _ _ _ _ _ t.heap; rw [ht]; exact hG⟩, hS.F ht⟩) hS.2.2 dX1_review_96
          · skip
            refine lv_iconst (v := 1) hx hb dX1_review_80 (by decide) ?_
            have hG := gw_gW.nu (gw_gW.z (v := 0) hG) (gw_nu_up rfl).symm
            have hG := gw_gW.nu hG (show gw_nu (gw_up σ 0 0 0) = gw_nu σ from (gw_nu_up rfl))
            have hE9 : gw_up σ 0 0 0 = (gw_review σ (nI r_) (nI i_) v).2 := (by simp only [gw_review, gw_rev1, gw_fail, (eq_true h2), (eq_true h10), h30, hxr_, hxi_, c52, c77, (Int32.not_lt.mp c77), and_true, true_and, and_false, false_and, and_self, or_true, true_or, or_false, false_or, not_true_eq_false, not_false_eq_true, if_true, if_false, ↓reduceIte]; try rfl)
            have hP9 : 1 = (gw_review σ (nI r_) (nI i_) v).1 := (by simp only [gw_review, gw_rev1, gw_fail, (eq_true h2), (eq_true h10), h30, hxr_, hxi_, c52, c77, (Int32.not_lt.mp c77), and_true, true_and, and_false, false_and, and_self, or_true, true_or, or_false, false_or, not_true_eq_false, not_false_eq_true, if_true, if_false, ↓reduceIte]; try rfl)
            have hC9 : gw_C (gw_up σ 0 0 0) γ ord := (gw_C_up rfl hC)
            have hZ9 : (gw_up σ 0 0 0) 0 0 = 0 := rfl
            rw [hE9] at hG hC9 hZ9
            refine vx_ret (W.widen (k := 1) (n := 6) (Nat.le_of_ble_eq_true rfl) (Nat.le_of_ble_eq_true rfl) ?_)
            exact W.iret (v := 1) hx hb hr (fun t ht hW => ⟨⟨_, (hd, γ, ord), rfl, ⟨hP9, hZ9, hC9⟩, by show gw_gW D ca es A ad _ _ _ _ _ t.heap; rw [ht]; exact hG⟩, hS.F ht⟩) hS.2.2 dX1_review_81
      · skip
        refine gw_scalli (va_Run.run (va_runS (As := [.long v.toInt64, .long 0, .long 100]) (rest := []) ⟨hx, hb, hml, hown, hts⟩ (gg_inRange l v.toInt64 0 100) (va_cwS 3 hts (lw_S q279 q280 q42 q281) rfl rfl rfl (by decide +kernel) ⟨Nat.le_of_ble_eq_true rfl, Nat.le_of_ble_eq_true rfl⟩) gw_spre rfl rfl hl.1 rfl (lv_room (Nat.le_of_ble_eq_true rfl)) dX1_review_30 ⟨Nat.le_of_ble_eq_true rfl, Nat.le_of_ble_eq_true rfl⟩)) ?_
        refine gw_topi (y := 0) (if_neg (gw_rgn (x := v) (by decide) (by decide) h30)) ?_
        have hF9 : (gw_review σ r i v) = gw_fail σ 2 := (by simp only [gw_review, gw_rev1, gw_fail, (eq_true h2), (eq_true h10), h30, and_true, true_and, and_false, false_and, and_self, or_true, true_or, or_false, false_or, not_true_eq_false, not_false_eq_true, if_true, if_false, ↓reduceIte]; try rfl)
        refine vx_callv (vx_runS (As := [.int 0]) (rest := []) ⟨hx, hb, hml, hown, hts⟩ (gg_checkArgument0 l A hlt) (va_cwS 1 hts (lw_S q284 q285 q42 q286) rfl rfl rfl (by decide +kernel) ⟨Nat.le_of_ble_eq_true rfl, Nat.le_of_ble_eq_true rfl⟩) (gw_gspre [.int 0] gw_Thb (fun U hU hW => gw_That hU hW hE hN hS)) rfl rfl hl.1 rfl (lv_room (Nat.le_of_ble_eq_true rfl)) dX1_review_33 ⟨Nat.le_of_ble_eq_true rfl, Nat.le_of_ble_eq_true rfl⟩) hS (fun _ _ h => h.elim) (fun _ h => h.elim) (fun _ _ h => h.elim) (fun E ce q9 u9 t9 H1 locs1 ht9 hA9 _ hBX hz9 hq9 hS1 hce hcv hcl => ?_) (fun u9 t9 H1 locs1 ht9 hA9 hp9 => hp9.elim)
        exact gw_out htab hlocks hce hcv hcl hF9 (by decide) hBX hG hC hq9 hS1 (Nat.le_of_ble_eq_true rfl) (Nat.le_of_ble_eq_true rfl)
    · skip
      refine gw_scalli (va_Run.run (va_runV (As := [.int i]) (rest := []) ⟨hx, hb, hml, hown, hts⟩ (gg_isApplication l D ca es A ad hd σ γ ord i) (cwV 1 hts (lw_V q614 q616 qs15 q42 q617) rfl rfl rfl (by decide +kernel) ⟨Nat.le_of_ble_eq_true rfl, Nat.le_of_ble_eq_true rfl⟩) (gw_grecv [.int i] gw_gPb (gw_c0 hG) rfl hK (fun U hU hW => gw_gat hU hW hG hK hE hN hA hS)) rfl rfl hl.1 rfl (lv_room (Nat.le_of_ble_eq_true rfl)) dX1_review_10 ⟨Nat.le_of_ble_eq_true rfl, Nat.le_of_ble_eq_true rfl⟩)) ?_
      refine gw_topi (y := 0) (if_neg h10) ?_
      refine lv_if_eq (tgt := 20) hx hb dX1_review_13 (by decide) (fun _ => ?_) (fun c_ => absurd c_ (by decide))
      refine lv_iconst (v := 0) hx hb dX1_review_20 (by decide) ?_
      have hF9 : (gw_review σ r i v) = gw_fail σ 1 := (by simp only [gw_review, gw_rev1, gw_fail, (eq_true h2), (eq_false h10), and_true, true_and, and_false, false_and, and_self, or_true, true_or, or_false, false_or, not_true_eq_false, not_false_eq_true, if_true, if_false, ↓reduceIte]; try rfl)
      refine vx_callv (vx_runS (As := [.int 0]) (rest := []) ⟨hx, hb, hml, hown, hts⟩ (gg_checkIndex0 l A hlt) (va_cwS 1 hts (lw_S q525 q526 q42 q527) rfl rfl rfl (by decide +kernel) ⟨Nat.le_of_ble_eq_true rfl, Nat.le_of_ble_eq_true rfl⟩) (gw_gspre [.int 0] gw_Thb (fun U hU hW => gw_That hU hW hE hN hS)) rfl rfl hl.1 rfl (lv_room (Nat.le_of_ble_eq_true rfl)) dX1_review_21 ⟨Nat.le_of_ble_eq_true rfl, Nat.le_of_ble_eq_true rfl⟩) hS (fun _ _ h => h.elim) (fun _ h => h.elim) (fun _ _ h => h.elim) (fun E ce q9 u9 t9 H1 locs1 ht9 hA9 _ hBX hz9 hq9 hS1 hce hcv hcl => ?_) (fun u9 t9 H1 locs1 ht9 hA9 hp9 => hp9.elim)
      exact gw_out htab hlocks hce hcv hcl hF9 (by decide) hBX hG hC hq9 hS1 (Nat.le_of_ble_eq_true rfl) (Nat.le_of_ble_eq_true rfl)
  · skip
    refine gw_scalli (va_Run.run (va_runV (As := [.int r]) (rest := []) ⟨hx, hb, hml, hown, hts⟩ (gg_isReviewer l D ca es A ad hd σ γ ord r) (cwV 1 hts (lw_V q634 q636 qs16 q42 q637) rfl rfl rfl (by decide +kernel) ⟨Nat.le_of_ble_eq_true rfl, Nat.le_of_ble_eq_true rfl⟩) (gw_grecv [.int r] gw_gPb (gw_c0 hG) rfl hK (fun U hU hW => gw_gat hU hW hG hK hE hN hA hS)) rfl rfl hl.1 rfl (lv_room (Nat.le_of_ble_eq_true rfl)) dX1_review_2 ⟨Nat.le_of_ble_eq_true rfl, Nat.le_of_ble_eq_true rfl⟩)) ?_
    refine gw_topi (y := 0) (if_neg h2) ?_
    refine lv_if_eq (tgt := 20) hx hb dX1_review_5 (by decide) (fun _ => ?_) (fun c_ => absurd c_ (by decide))
    refine lv_iconst (v := 0) hx hb dX1_review_20 (by decide) ?_
    have hF9 : (gw_review σ r i v) = gw_fail σ 1 := (by simp only [gw_review, gw_rev1, gw_fail, (eq_false h2), and_true, true_and, and_false, false_and, and_self, or_true, true_or, or_false, false_or, not_true_eq_false, not_false_eq_true, if_true, if_false, ↓reduceIte]; try rfl)
    refine vx_callv (vx_runS (As := [.int 0]) (rest := []) ⟨hx, hb, hml, hown, hts⟩ (gg_checkIndex0 l A hlt) (va_cwS 1 hts (lw_S q525 q526 q42 q527) rfl rfl rfl (by decide +kernel) ⟨Nat.le_of_ble_eq_true rfl, Nat.le_of_ble_eq_true rfl⟩) (gw_gspre [.int 0] gw_Thb (fun U hU hW => gw_That hU hW hE hN hS)) rfl rfl hl.1 rfl (lv_room (Nat.le_of_ble_eq_true rfl)) dX1_review_21 ⟨Nat.le_of_ble_eq_true rfl, Nat.le_of_ble_eq_true rfl⟩) hS (fun _ _ h => h.elim) (fun _ h => h.elim) (fun _ _ h => h.elim) (fun E ce q9 u9 t9 H1 locs1 ht9 hA9 _ hBX hz9 hq9 hS1 hce hcv hcl => ?_) (fun u9 t9 H1 locs1 ht9 hA9 hp9 => hp9.elim)
    exact gw_out htab hlocks hce hcv hcl hF9 (by decide) hBX hG hC hq9 hS1 (Nat.le_of_ble_eq_true rfl) (Nat.le_of_ble_eq_true rfl)

set_option maxHeartbeats 4000000 in
set_option maxRecDepth 100000 in
theorem gx_alike (l : Launch) (D : va_G) (ca : Nat → ClassId) (es : Nat → Nat) (A : Nat → Prop) (ad hd : Nat → Nat → Nat) (σ γ : gw_S) (ord : List Nat) (r i : Int32) (hlt : l.stackTraces = false) (hC : gw_C σ γ ord) (hJ : gw_J σ) : vx_Met l yX1_alike (ws_ yX1_alike cX1_alike 4 (some .int)) ({ frames := 7, cells := 1, slots := 6, locals := 110 }) (va_Pc [.ref (ad 0 0), .int r, .int i] (gw_gP D ca es A ad hd σ γ ord (gw_nu σ))) (gw_Qi D ca es A ad (gw_alike σ r i)) (gw_XC D ca es A ad (gw_T ["java/lang/IndexOutOfBoundsException"]) (gw_alike σ r i)) 1 6 A := by
  refine vx_ofW (cc := cX1_alike) (maxL := 4) (ret := (some .int)) (by decide) rfl ?_
  intro p e s m args below meth c s₁ B hml htab hv
  obtain ⟨rfl, hG, hK, hE, hN, hA⟩ := hv
  have hx := B.exec
  have hb := B.bytes
  have hr := B.returns
  have hts := atoms_spec (ws := ws_ yX1_alike cX1_alike 4 (some .int)) B.pre
  have hts : ∀ w ∈ lw_all, w.before _ s = true := fun w h => hts w (List.mem_cons_of_mem _ h)
  have hown : s.vm.findClass RX1 = some m.cls := findClass_of_methodNamed B.named
  have hlocks := B.notSynchronized
  have hS : va_S A s.heap s.heap [] := va_S.rf
  have hl := lv_entry ([.ref (ad 0 0), .int r, .int i]) (n := 4) (Nat.le_of_ble_eq_true rfl)
  rw [lg_entry_eq]
  generalize (lg_sl ([.ref (ad 0 0), .int r, .int i]) ++ List.replicate (4 - (lg_sl ([.ref (ad 0 0), .int r, .int i])).length) Slot.unset).toArray = ls at hl ⊢
  have hl : lv_has ls 4 [(0, .ref (ad 0 0)), (1, .int r), (2, .int i)] := hl
  refine lv_aload_n hx hb dX1_alike_0 rfl (lv_at hl 0 rfl) ?_
  refine lv_iload_n hx hb dX1_alike_1 rfl (lv_at hl 1 rfl) ?_
  rcases Classical.em (gw_isR σ r) with h2 | h2
  · skip
    refine gw_scalli (va_Run.run (va_runV (As := [.int r]) (rest := []) ⟨hx, hb, hml, hown, hts⟩ (gg_isReviewer l D ca es A ad hd σ γ ord r) (cwV 1 hts (lw_V q634 q636 qs16 q42 q637) rfl rfl rfl (by decide +kernel) ⟨Nat.le_of_ble_eq_true rfl, Nat.le_of_ble_eq_true rfl⟩) (gw_grecv [.int r] gw_gPb (gw_c0 hG) rfl hK (fun U hU hW => gw_gat hU hW hG hK hE hN hA hS)) rfl rfl hl.1 rfl (lv_room (Nat.le_of_ble_eq_true rfl)) dX1_alike_2 ⟨Nat.le_of_ble_eq_true rfl, Nat.le_of_ble_eq_true rfl⟩)) ?_
    refine gw_topi (y := 1) (if_pos h2) ?_
    refine lv_if_eq (tgt := 20) hx hb dX1_alike_5 (by decide) (fun c_ => absurd c_ (by decide)) (fun _ => ?_)
    refine lv_aload_n hx hb dX1_alike_8 rfl (lv_at hl 0 rfl) ?_
    refine lv_iload_n hx hb dX1_alike_9 rfl (lv_at hl 2 rfl) ?_
    rcases Classical.em (gw_isA σ i) with h10 | h10
    · skip
      refine gw_scalli (va_Run.run (va_runV (As := [.int i]) (rest := []) ⟨hx, hb, hml, hown, hts⟩ (gg_isApplication l D ca es A ad hd σ γ ord i) (cwV 1 hts (lw_V q614 q616 qs15 q42 q617) rfl rfl rfl (by decide +kernel) ⟨Nat.le_of_ble_eq_true rfl, Nat.le_of_ble_eq_true rfl⟩) (gw_grecv [.int i] gw_gPb (gw_c0 hG) rfl hK (fun U hU hW => gw_gat hU hW hG hK hE hN hA hS)) rfl rfl hl.1 rfl (lv_room (Nat.le_of_ble_eq_true rfl)) dX1_alike_10 ⟨Nat.le_of_ble_eq_true rfl, Nat.le_of_ble_eq_true rfl⟩)) ?_
      refine gw_topi (y := 1) (if_pos h10) ?_
      refine lv_if_eq (tgt := 20) hx hb dX1_alike_13 (by decide) (fun c_ => absurd c_ (by decide)) (fun _ => ?_)
      refine lv_iconst (v := 1) hx hb dX1_alike_16 (by decide) ?_
      refine lv_goto (tgt := 21) hx hb dX1_alike_17 (by decide) ?_
      refine va_csv (va_Run.run (va_runS (As := [.int 1]) (rest := []) ⟨hx, hb, hml, hown, hts⟩ (gg_checkIndex1 l) (va_cwS 1 hts (lw_S q525 q526 q42 q527) rfl rfl rfl (by decide +kernel) ⟨Nat.le_of_ble_eq_true rfl, Nat.le_of_ble_eq_true rfl⟩) gw_spre rfl rfl hl.1 rfl (lv_room (Nat.le_of_ble_eq_true rfl)) dX1_alike_21 ⟨Nat.le_of_ble_eq_true rfl, Nat.le_of_ble_eq_true rfl⟩)) (fun _ => ?_)
      obtain ⟨r_, hr_, rfl⟩ := gw_idx h2 hJ.n25 (by have := hJ.b25; omega)
      have hxr_ : gw_ix (nI r_) = r_ := gw_ix_nI (by have := hJ.b25; omega)
      obtain ⟨i_, hi_, rfl⟩ := gw_idx h10 hJ.n15 (by have := hJ.b15; omega)
      have hxi_ : gw_ix (nI i_) = i_ := gw_ix_nI (by have := hJ.b15; omega)
      refine lv_aload_n hx hb dX1_alike_24 rfl (lv_at hl 0 rfl) ?_
      refine gw_get hx hb hts in_X1 hown hK (gw_c0 hG) rfl 11 (by decide) (hts _ q111) (v := .ref (ad 5 0)) rfl dX1_alike_25 ?_
      refine lv_iload_n hx hb dX1_alike_28 rfl (lv_at hl 2 rfl) ?_
      refine gw_qld (i := i_) hx hb hK rfl (gw_c5 hG) (by decide) (by have := hJ.b15; omega) dX1_alike_29 (v := .ref (ad 12 i_)) (gw_ifs hi_) ?_
      refine lv_astore_n (lv' := [(3, .ref (ad 12 i_)), (0, .ref (ad 0 0)), (1, .int (nI r_)), (2, .int (nI i_))]) hx hb dX1_alike_30 rfl hl (by decide) rfl (fun ls hl => ?_)
      refine lv_aload_n hx hb dX1_alike_31 rfl (lv_at hl 0 rfl) ?_
      refine gw_getN hx hb hts in_X8 hown hK (gw_c12 hG (j := i_) hi_) rfl 5 (by decide) (hN.1 _ q570 rfl) (v := .ref (ad 14 i_)) rfl dX1_alike_32 ?_
      refine lv_iload_n hx hb dX1_alike_35 rfl (lv_at hl 2 rfl) ?_
      refine gw_revld (i := r_) (j := i_) hx hb hK hG hi_ (by have := hJ.b15; omega) (by have := hJ.b25; omega) dX1_alike_36 (v := σ 30 ((24 * r_) + i_)) rfl ?_
      refine lv_iconst (v := -1) hx hb dX1_alike_37 (by decide) ?_
      refine lv_icmp_ne (tgt := 47) hx hb dX1_alike_38 (by decide) (fun c38 => ?_) (fun c38 => ?_)
      · skip
        refine lv_aload_n hx hb dX1_alike_47 rfl (lv_at hl 1 rfl) ?_
        refine lv_iload_n hx hb dX1_alike_48 rfl (lv_at hl 2 rfl) ?_
        refine lv_aload_n hx hb dX1_alike_49 rfl (lv_at hl 0 rfl) ?_
        refine gw_scalli (va_Run.run (va_runV (As := [.int (nI r_), .ref (ad 12 i_)]) (rest := []) ⟨hx, hb, hml, hown, hts⟩ (gg_alikeOf l D ca es A ad hd σ γ ord r_ i_ hJ (by have := hJ.b25; omega) hi_ c38) (cwV 2 hts (lw_V q665 q667 qs18 q42 q668) rfl rfl rfl (by decide +kernel) ⟨Nat.le_of_ble_eq_true rfl, Nat.le_of_ble_eq_true rfl⟩) (gw_grecv [.int (nI r_), .ref (ad 12 i_)] gw_gPb (gw_c0 hG) rfl hK (fun U hU hW => gw_gat hU hW hG hK hE hN hA hS)) rfl rfl hl.1 rfl (lv_room (Nat.le_of_ble_eq_true rfl)) dX1_alike_50 ⟨Nat.le_of_ble_eq_true rfl, Nat.le_of_ble_eq_true rfl⟩)) ?_
        refine gw_topi (y := gw_alikeOf σ r_ i_) (if_neg c38).symm ?_
        have hG := gw_gW.nu (gw_gW.z (v := 0) hG) (gw_nu_up rfl).symm
        have hG := gw_gW.nu hG (show gw_nu (gw_up σ 0 0 0) = gw_nu σ from (gw_nu_up rfl))
        have hE9 : gw_up σ 0 0 0 = (gw_alike σ (nI r_) (nI i_)).2 := (by simp only [gw_alike, gw_fail, (eq_true h2), (eq_true h10), hxr_, hxi_, c38, and_true, true_and, and_false, false_and, and_self, or_true, true_or, or_false, false_or, not_true_eq_false, not_false_eq_true, if_true, if_false, ↓reduceIte]; try rfl)
        have hP9 : gw_alikeOf σ r_ i_ = (gw_alike σ (nI r_) (nI i_)).1 := (by simp only [gw_alike, gw_fail, (eq_true h2), (eq_true h10), hxr_, hxi_, c38, and_true, true_and, and_false, false_and, and_self, or_true, true_or, or_false, false_or, not_true_eq_false, not_false_eq_true, if_true, if_false, ↓reduceIte]; try rfl)
        have hC9 : gw_C (gw_up σ 0 0 0) γ ord := (gw_C_up rfl hC)
        have hZ9 : (gw_up σ 0 0 0) 0 0 = 0 := rfl
        rw [hE9] at hG hC9 hZ9
        refine vx_ret (W.widen (k := 1) (n := 6) (Nat.le_of_ble_eq_true rfl) (Nat.le_of_ble_eq_true rfl) ?_)
        exact W.iret (v := gw_alikeOf σ r_ i_) hx hb hr (fun t ht hW => ⟨⟨_, (hd, γ, ord), rfl, ⟨hP9, hZ9, hC9⟩, by show gw_gW D ca es A ad _ _ _ _ _ t.heap; rw [ht]; exact hG⟩, hS.F ht⟩) hS.2.2 dX1_alike_53
      · skip
        refine lv_ldcw (v := -1000000) hx hb hown (hts _ q664) dX1_alike_41 ?_
        refine lv_goto (tgt := 53) hx hb dX1_alike_44 (by decide) ?_
        have hG := gw_gW.nu (gw_gW.z (v := 0) hG) (gw_nu_up rfl).symm
        have hG := gw_gW.nu hG (show gw_nu (gw_up σ 0 0 0) = gw_nu σ from (gw_nu_up rfl))
        have hE9 : gw_up σ 0 0 0 = (gw_alike σ (nI r_) (nI i_)).2 := (by simp only [gw_alike, gw_fail, (eq_true h2), (eq_true h10), hxr_, hxi_, (eq_true c38), and_true, true_and, and_false, false_and, and_self, or_true, true_or, or_false, false_or, not_true_eq_false, not_false_eq_true, if_true, if_false, ↓reduceIte]; try rfl)
        have hP9 : -1000000 = (gw_alike σ (nI r_) (nI i_)).1 := (by simp only [gw_alike, gw_alikeOf, gw_fail, (eq_true h2), (eq_true h10), hxr_, hxi_, (eq_true c38), and_true, true_and, and_false, false_and, and_self, or_true, true_or, or_false, false_or, not_true_eq_false, not_false_eq_true, if_true, if_false, ↓reduceIte]; try rfl)
        have hC9 : gw_C (gw_up σ 0 0 0) γ ord := (gw_C_up rfl hC)
        have hZ9 : (gw_up σ 0 0 0) 0 0 = 0 := rfl
        rw [hE9] at hG hC9 hZ9
        refine vx_ret (W.widen (k := 1) (n := 6) (Nat.le_of_ble_eq_true rfl) (Nat.le_of_ble_eq_true rfl) ?_)
        exact W.iret (v := -1000000) hx hb hr (fun t ht hW => ⟨⟨_, (hd, γ, ord), rfl, ⟨hP9, hZ9, hC9⟩, by show gw_gW D ca es A ad _ _ _ _ _ t.heap; rw [ht]; exact hG⟩, hS.F ht⟩) hS.2.2 dX1_alike_53
    · skip
      refine gw_scalli (va_Run.run (va_runV (As := [.int i]) (rest := []) ⟨hx, hb, hml, hown, hts⟩ (gg_isApplication l D ca es A ad hd σ γ ord i) (cwV 1 hts (lw_V q614 q616 qs15 q42 q617) rfl rfl rfl (by decide +kernel) ⟨Nat.le_of_ble_eq_true rfl, Nat.le_of_ble_eq_true rfl⟩) (gw_grecv [.int i] gw_gPb (gw_c0 hG) rfl hK (fun U hU hW => gw_gat hU hW hG hK hE hN hA hS)) rfl rfl hl.1 rfl (lv_room (Nat.le_of_ble_eq_true rfl)) dX1_alike_10 ⟨Nat.le_of_ble_eq_true rfl, Nat.le_of_ble_eq_true rfl⟩)) ?_
      refine gw_topi (y := 0) (if_neg h10) ?_
      refine lv_if_eq (tgt := 20) hx hb dX1_alike_13 (by decide) (fun _ => ?_) (fun c_ => absurd c_ (by decide))
      refine lv_iconst (v := 0) hx hb dX1_alike_20 (by decide) ?_
      have hF9 : (gw_alike σ r i) = gw_fail σ 1 := (by simp only [gw_alike, gw_fail, (eq_true h2), (eq_false h10), and_true, true_and, and_false, false_and, and_self, or_true, true_or, or_false, false_or, not_true_eq_false, not_false_eq_true, if_true, if_false, ↓reduceIte]; try rfl)
      refine vx_callv (vx_runS (As := [.int 0]) (rest := []) ⟨hx, hb, hml, hown, hts⟩ (gg_checkIndex0 l A hlt) (va_cwS 1 hts (lw_S q525 q526 q42 q527) rfl rfl rfl (by decide +kernel) ⟨Nat.le_of_ble_eq_true rfl, Nat.le_of_ble_eq_true rfl⟩) (gw_gspre [.int 0] gw_Thb (fun U hU hW => gw_That hU hW hE hN hS)) rfl rfl hl.1 rfl (lv_room (Nat.le_of_ble_eq_true rfl)) dX1_alike_21 ⟨Nat.le_of_ble_eq_true rfl, Nat.le_of_ble_eq_true rfl⟩) hS (fun _ _ h => h.elim) (fun _ h => h.elim) (fun _ _ h => h.elim) (fun E ce q9 u9 t9 H1 locs1 ht9 hA9 _ hBX hz9 hq9 hS1 hce hcv hcl => ?_) (fun u9 t9 H1 locs1 ht9 hA9 hp9 => hp9.elim)
      exact gw_out htab hlocks hce hcv hcl hF9 (by decide) hBX hG hC hq9 hS1 (Nat.le_of_ble_eq_true rfl) (Nat.le_of_ble_eq_true rfl)
  · skip
    refine gw_scalli (va_Run.run (va_runV (As := [.int r]) (rest := []) ⟨hx, hb, hml, hown, hts⟩ (gg_isReviewer l D ca es A ad hd σ γ ord r) (cwV 1 hts (lw_V q634 q636 qs16 q42 q637) rfl rfl rfl (by decide +kernel) ⟨Nat.le_of_ble_eq_true rfl, Nat.le_of_ble_eq_true rfl⟩) (gw_grecv [.int r] gw_gPb (gw_c0 hG) rfl hK (fun U hU hW => gw_gat hU hW hG hK hE hN hA hS)) rfl rfl hl.1 rfl (lv_room (Nat.le_of_ble_eq_true rfl)) dX1_alike_2 ⟨Nat.le_of_ble_eq_true rfl, Nat.le_of_ble_eq_true rfl⟩)) ?_
    refine gw_topi (y := 0) (if_neg h2) ?_
    refine lv_if_eq (tgt := 20) hx hb dX1_alike_5 (by decide) (fun _ => ?_) (fun c_ => absurd c_ (by decide))
    refine lv_iconst (v := 0) hx hb dX1_alike_20 (by decide) ?_
    have hF9 : (gw_alike σ r i) = gw_fail σ 1 := (by simp only [gw_alike, gw_fail, (eq_false h2), and_true, true_and, and_false, false_and, and_self, or_true, true_or, or_false, false_or, not_true_eq_false, not_false_eq_true, if_true, if_false, ↓reduceIte]; try rfl)
    refine vx_callv (vx_runS (As := [.int 0]) (rest := []) ⟨hx, hb, hml, hown, hts⟩ (gg_checkIndex0 l A hlt) (va_cwS 1 hts (lw_S q525 q526 q42 q527) rfl rfl rfl (by decide +kernel) ⟨Nat.le_of_ble_eq_true rfl, Nat.le_of_ble_eq_true rfl⟩) (gw_gspre [.int 0] gw_Thb (fun U hU hW => gw_That hU hW hE hN hS)) rfl rfl hl.1 rfl (lv_room (Nat.le_of_ble_eq_true rfl)) dX1_alike_21 ⟨Nat.le_of_ble_eq_true rfl, Nat.le_of_ble_eq_true rfl⟩) hS (fun _ _ h => h.elim) (fun _ h => h.elim) (fun _ _ h => h.elim) (fun E ce q9 u9 t9 H1 locs1 ht9 hA9 _ hBX hz9 hq9 hS1 hce hcv hcl => ?_) (fun u9 t9 H1 locs1 ht9 hA9 hp9 => hp9.elim)
    exact gw_out htab hlocks hce hcv hcl hF9 (by decide) hBX hG hC hq9 hS1 (Nat.le_of_ble_eq_true rfl) (Nat.le_of_ble_eq_true rfl)

set_option maxHeartbeats 4000000 in
set_option maxRecDepth 100000 in
theorem gg_ask (l : Launch) (D : va_G) (ca : Nat → ClassId) (es : Nat → Nat) (A : Nat → Prop) (ad hd : Nat → Nat → Nat) (σ γ : gw_S) (ord : List Nat) (ν : Nat → Nat) (x y z d : Int32) (a : Nat) (ha : a < ν 3) : Met l yX8_ask (ws_ yX8_ask cX8_ask 5 none) ({ frames := 1, cells := 0, slots := 0, locals := 12 }) (va_Pc [.ref (ad 12 a), .int x, .int y, .int z, .int d] (gw_gP D ca es A ad hd σ γ ord ν)) (va_Qv (fun (_ : Unit) => True) (fun _ t => gw_gW D ca es A ad hd (gw_ask σ a x y z d) γ ord ν t.heap) A) 0 0 A := by
  refine Met.ofW (cc := cX8_ask) (maxL := 5) (ret := none) (by decide) rfl ?_
  intro p e s m args below meth c s₁ B hml hv
  obtain ⟨rfl, hG, hK, hE, hN, hA⟩ := hv
  have hx := B.exec
  have hb := B.bytes
  have hr := B.returns
  have hts := atoms_spec (ws := ws_ yX8_ask cX8_ask 5 none) B.pre
  have hts : ∀ w ∈ lw_all, w.before _ s = true := fun w h => hts w (List.mem_cons_of_mem _ h)
  have hown : s.vm.findClass RX8 = some m.cls := findClass_of_methodNamed B.named
  have hlocks := B.notSynchronized
  have hS : va_S A s.heap s.heap [] := va_S.rf
  have hl := lv_entry ([.ref (ad 12 a), .int x, .int y, .int z, .int d]) (n := 5) (Nat.le_of_ble_eq_true rfl)
  rw [lg_entry_eq]
  generalize (lg_sl ([.ref (ad 12 a), .int x, .int y, .int z, .int d]) ++ List.replicate (5 - (lg_sl ([.ref (ad 12 a), .int x, .int y, .int z, .int d])).length) Slot.unset).toArray = ls at hl ⊢
  have hl : lv_has ls 5 [(0, .ref (ad 12 a)), (1, .int x), (2, .int y), (3, .int z), (4, .int d)] := hl
  refine lv_aload_n hx hb dX8_ask_0 rfl (lv_at hl 0 rfl) ?_
  refine gw_get hx hb hts in_X8 hown hK (gw_c12 hG (j := a) ha) rfl 4 (by decide) (hts _ q567) (v := .ref (ad 13 a)) rfl dX8_ask_1 ?_
  refine lv_iconst (v := 0) hx hb dX8_ask_4 (by decide) ?_
  refine lv_iload_n hx hb dX8_ask_5 rfl (lv_at hl 1 rfl) ?_
  refine gw_gaskst (i := 0) (j := a) hx hb hK hG hS ha (by decide) dX8_ask_6 (fun H locs hG hS => ?_)
  refine lv_aload_n hx hb dX8_ask_7 rfl (lv_at hl 0 rfl) ?_
  refine gw_get hx hb hts in_X8 hown hK (gw_c12 hG (j := a) ha) rfl 4 (by decide) (hts _ q567) (v := .ref (ad 13 a)) rfl dX8_ask_8 ?_
  refine lv_iconst (v := 1) hx hb dX8_ask_11 (by decide) ?_
  refine lv_iload_n hx hb dX8_ask_12 rfl (lv_at hl 2 rfl) ?_
  refine gw_gaskst (i := 1) (j := a) hx hb hK hG hS ha (by decide) dX8_ask_13 (fun H locs hG hS => ?_)
  refine lv_aload_n hx hb dX8_ask_14 rfl (lv_at hl 0 rfl) ?_
  refine gw_get hx hb hts in_X8 hown hK (gw_c12 hG (j := a) ha) rfl 4 (by decide) (hts _ q567) (v := .ref (ad 13 a)) rfl dX8_ask_15 ?_
  refine lv_iconst (v := 2) hx hb dX8_ask_18 (by decide) ?_
  refine lv_iload_n hx hb dX8_ask_19 rfl (lv_at hl 3 rfl) ?_
  refine gw_gaskst (i := 2) (j := a) hx hb hK hG hS ha (by decide) dX8_ask_20 (fun H locs hG hS => ?_)
  refine lv_aload_n hx hb dX8_ask_21 rfl (lv_at hl 0 rfl) ?_
  refine lv_iload hx hb dX8_ask_22 (lv_at hl 4 rfl) ?_
  refine gw_gput12_21 (j := a) hx hb hts hown hK hG hS ha (hts _ q575) dX8_ask_24 (fun H locs hG hS => ?_)
  have hE9 : gw_up (gw_up (gw_up (gw_up σ 19 ((3 * a) + 0) x) 19 ((3 * a) + 1) y) 19 ((3 * a) + 2) z) 21 a d = gw_ask σ a x y z d := rfl
  rw [hE9] at hG
  exact W.vret hx hb hr (fun t ht hW => ⟨⟨(), rfl, trivial, by show gw_gW D ca es A ad _ _ _ _ _ t.heap; rw [ht]; exact hG⟩, hS.F ht⟩) hS.2.2 dX8_ask_27

set_option maxHeartbeats 4000000 in
set_option maxRecDepth 100000 in
theorem gx_revise (l : Launch) (D : va_G) (ca : Nat → ClassId) (es : Nat → Nat) (A : Nat → Prop) (ad hd : Nat → Nat → Nat) (σ γ : gw_S) (ord : List Nat) (i x y z : Int32) (hlt : l.stackTraces = false) (hC : gw_C σ γ ord) (hJ : gw_J σ) (h22 : ∀ j, j < gw_n σ 15 → gw_s6 (σ 22 j)) : vx_Met l yX1_revise (ws_ yX1_revise cX1_revise 6 (some .int)) ({ frames := 7, cells := 1, slots := 6, locals := 110 }) (va_Pc [.ref (ad 0 0), .int i, .int x, .int y, .int z] (gw_gP D ca es A ad hd σ γ ord (gw_nu σ))) (gw_Qi D ca es A ad (gw_revise σ i x y z)) (gw_XC D ca es A ad (gw_T ["java/lang/IndexOutOfBoundsException", "java/lang/IllegalArgumentException", "java/lang/IllegalStateException"]) (gw_revise σ i x y z)) 1 6 A := by
  refine vx_ofW (cc := cX1_revise) (maxL := 6) (ret := (some .int)) (by decide) rfl ?_
  intro p e s m args below meth c s₁ B hml htab hv
  obtain ⟨rfl, hG, hK, hE, hN, hA⟩ := hv
  have hx := B.exec
  have hb := B.bytes
  have hr := B.returns
  have hts := atoms_spec (ws := ws_ yX1_revise cX1_revise 6 (some .int)) B.pre
  have hts : ∀ w ∈ lw_all, w.before _ s = true := fun w h => hts w (List.mem_cons_of_mem _ h)
  have hown : s.vm.findClass RX1 = some m.cls := findClass_of_methodNamed B.named
  have hlocks := B.notSynchronized
  have hS : va_S A s.heap s.heap [] := va_S.rf
  have hl := lv_entry ([.ref (ad 0 0), .int i, .int x, .int y, .int z]) (n := 6) (Nat.le_of_ble_eq_true rfl)
  rw [lg_entry_eq]
  generalize (lg_sl ([.ref (ad 0 0), .int i, .int x, .int y, .int z]) ++ List.replicate (6 - (lg_sl ([.ref (ad 0 0), .int i, .int x, .int y, .int z])).length) Slot.unset).toArray = ls at hl ⊢
  have hl : lv_has ls 6 [(0, .ref (ad 0 0)), (1, .int i), (2, .int x), (3, .int y), (4, .int z)] := hl
  refine lv_aload_n hx hb dX1_revise_0 rfl (lv_at hl 0 rfl) ?_
  refine lv_iload_n hx hb dX1_revise_1 rfl (lv_at hl 1 rfl) ?_
  rcases Classical.em (gw_isA σ i) with h2 | h2
  · skip
    refine gw_scalli (va_Run.run (va_runV (As := [.int i]) (rest := []) ⟨hx, hb, hml, hown, hts⟩ (gg_isApplication l D ca es A ad hd σ γ ord i) (cwV 1 hts (lw_V q614 q616 qs15 q42 q617) rfl rfl rfl (by decide +kernel) ⟨Nat.le_of_ble_eq_true rfl, Nat.le_of_ble_eq_true rfl⟩) (gw_grecv [.int i] gw_gPb (gw_c0 hG) rfl hK (fun U hU hW => gw_gat hU hW hG hK hE hN hA hS)) rfl rfl hl.1 rfl (lv_room (Nat.le_of_ble_eq_true rfl)) dX1_revise_2 ⟨Nat.le_of_ble_eq_true rfl, Nat.le_of_ble_eq_true rfl⟩)) ?_
    refine gw_topi (y := 1) (if_pos h2) ?_
    refine va_csv (va_Run.run (va_runS (As := [.int 1]) (rest := []) ⟨hx, hb, hml, hown, hts⟩ (gg_checkIndex1 l) (va_cwS 1 hts (lw_S q525 q526 q42 q527) rfl rfl rfl (by decide +kernel) ⟨Nat.le_of_ble_eq_true rfl, Nat.le_of_ble_eq_true rfl⟩) gw_spre rfl rfl hl.1 rfl (lv_room (Nat.le_of_ble_eq_true rfl)) dX1_revise_5 ⟨Nat.le_of_ble_eq_true rfl, Nat.le_of_ble_eq_true rfl⟩)) (fun _ => ?_)
    refine lv_iload_n hx hb dX1_revise_8 rfl (lv_at hl 2 rfl) ?_
    refine lv_iload_n hx hb dX1_revise_9 rfl (lv_at hl 3 rfl) ?_
    refine lv_iload hx hb dX1_revise_10 (lv_at hl 4 rfl) ?_
    rcases Classical.em (gw_right x y z) with h12 | h12
    · skip
      refine gw_scalli (va_Run.run (va_runS (As := [.int x, .int y, .int z]) (rest := []) ⟨hx, hb, hml, hown, hts⟩ (gg_isMoney l x y z) (va_cwS 3 hts (lw_S q544 q545 q42 q546) rfl rfl rfl (by decide +kernel) ⟨Nat.le_of_ble_eq_true rfl, Nat.le_of_ble_eq_true rfl⟩) gw_spre rfl rfl hl.1 rfl (lv_room (Nat.le_of_ble_eq_true rfl)) dX1_revise_12 ⟨Nat.le_of_ble_eq_true rfl, Nat.le_of_ble_eq_true rfl⟩)) ?_
      refine gw_topi (y := 1) (if_pos h12) ?_
      refine va_csv (va_Run.run (va_runS (As := [.int 1]) (rest := []) ⟨hx, hb, hml, hown, hts⟩ (gg_checkArgument1 l) (va_cwS 1 hts (lw_S q284 q285 q42 q286) rfl rfl rfl (by decide +kernel) ⟨Nat.le_of_ble_eq_true rfl, Nat.le_of_ble_eq_true rfl⟩) gw_spre rfl rfl hl.1 rfl (lv_room (Nat.le_of_ble_eq_true rfl)) dX1_revise_15 ⟨Nat.le_of_ble_eq_true rfl, Nat.le_of_ble_eq_true rfl⟩)) (fun _ => ?_)
      obtain ⟨i_, hi_, rfl⟩ := gw_idx h2 hJ.n15 (by have := hJ.b15; omega)
      have hxi_ : gw_ix (nI i_) = i_ := gw_ix_nI (by have := hJ.b15; omega)
      refine lv_aload_n hx hb dX1_revise_18 rfl (lv_at hl 0 rfl) ?_
      refine gw_get hx hb hts in_X1 hown hK (gw_c0 hG) rfl 11 (by decide) (hts _ q111) (v := .ref (ad 5 0)) rfl dX1_revise_19 ?_
      refine lv_iload_n hx hb dX1_revise_22 rfl (lv_at hl 1 rfl) ?_
      refine gw_qld (i := i_) hx hb hK rfl (gw_c5 hG) (by decide) (by have := hJ.b15; omega) dX1_revise_23 (v := .ref (ad 12 i_)) (gw_ifs hi_) ?_
      refine lv_astore (lv' := [(5, .ref (ad 12 i_)), (0, .ref (ad 0 0)), (1, .int (nI i_)), (2, .int x), (3, .int y), (4, .int z)]) hx hb dX1_revise_24 hl (by decide) rfl (fun ls hl => ?_)
      refine lv_aload_n hx hb dX1_revise_26 rfl (lv_at hl 1 rfl) ?_
      refine lv_aload hx hb dX1_revise_27 (lv_at hl 0 rfl) ?_
      refine gw_getN hx hb hts in_X8 hown hK (gw_c12 hG (j := i_) hi_) rfl 1 (by decide) (hN.1 _ q562 rfl) (v := .int (σ 16 i_)) rfl dX1_revise_29 ?_
      refine gw_topi (y := nI (gw_co σ i_)) (hJ.a16 hi_) ?_
      rcases Classical.em (gw_open σ (gw_co σ i_)) with h32 | h32
      · skip
        refine gw_scalli (va_Run.run (va_runV (As := [.int (nI (gw_co σ i_))]) (rest := []) ⟨hx, hb, hml, hown, hts⟩ (gg_isOpen l D ca es A ad hd σ γ ord (gw_co σ i_) (by have := hJ.a16b hi_; have := hJ.b7; omega)) (cwV 1 hts (lw_V q548 q550 qs14 q42 q551) rfl rfl rfl (by decide +kernel) ⟨Nat.le_of_ble_eq_true rfl, Nat.le_of_ble_eq_true rfl⟩) (gw_grecv [.int (nI (gw_co σ i_))] gw_gPb (gw_c0 hG) rfl hK (fun U hU hW => gw_gat hU hW hG hK hE hN hA hS)) rfl rfl hl.1 rfl (lv_room (Nat.le_of_ble_eq_true rfl)) dX1_revise_32 ⟨Nat.le_of_ble_eq_true rfl, Nat.le_of_ble_eq_true rfl⟩)) ?_
        refine gw_topi (y := 1) (if_pos h32) ?_
        refine lv_if_eq (tgt := 53) hx hb dX1_revise_35 (by decide) (fun c_ => absurd c_ (by decide)) (fun _ => ?_)
        refine lv_aload hx hb dX1_revise_38 (lv_at hl 0 rfl) ?_
        refine gw_getN hx hb hts in_X8 hown hK (gw_c12 hG (j := i_) hi_) rfl 6 (by decide) (hN.1 _ q572 rfl) (v := .ref (es (gw_ix (σ 22 i_)))) rfl dX1_revise_40 ?_
        refine va_gets (v := .ref (es (gw_ix 5))) hx hb (hE.1 5 (by decide)).1 hS hown (hts _ q618) (fun _ h => h) dX1_revise_43 ?_
        refine gw_acs_eq hE (h22 _ hi_) (by decide) (tgt := 53) hx hb dX1_revise_46 (by decide) (fun c46 => ?_) (fun c46 => ?_)
        · skip
          refine lv_iconst (v := 0) hx hb dX1_revise_53 (by decide) ?_
          have hF9 : (gw_revise σ (nI i_) x y z) = gw_fail σ 3 := (by simp only [gw_revise, gw_asks, gw_fail, (eq_true h2), (eq_true h12), hxi_, (eq_true h32), (eq_true c46), and_true, true_and, and_false, false_and, and_self, or_true, true_or, or_false, false_or, not_true_eq_false, not_false_eq_true, if_true, if_false, ↓reduceIte]; try rfl)
          refine vx_callv (vx_runS (As := [.int 0]) (rest := []) ⟨hx, hb, hml, hown, hts⟩ (gg_checkState0 l A hlt) (va_cwS 1 hts (lw_S q358 q359 q42 q360) rfl rfl rfl (by decide +kernel) ⟨Nat.le_of_ble_eq_true rfl, Nat.le_of_ble_eq_true rfl⟩) (gw_gspre [.int 0] gw_Thb (fun U hU hW => gw_That hU hW hE hN hS)) rfl rfl hl.1 rfl (lv_room (Nat.le_of_ble_eq_true rfl)) dX1_revise_54 ⟨Nat.le_of_ble_eq_true rfl, Nat.le_of_ble_eq_true rfl⟩) hS (fun _ _ h => h.elim) (fun _ h => h.elim) (fun _ _ h => h.elim) (fun E ce q9 u9 t9 H1 locs1 ht9 hA9 _ hBX hz9 hq9 hS1 hce hcv hcl => ?_) (fun u9 t9 H1 locs1 ht9 hA9 hp9 => hp9.elim)
          exact gw_out htab hlocks hce hcv hcl hF9 (by decide) hBX hG hC hq9 hS1 (Nat.le_of_ble_eq_true rfl) (Nat.le_of_ble_eq_true rfl)
        · skip
          refine lv_iconst (v := 1) hx hb dX1_revise_49 (by decide) ?_
          refine lv_goto (tgt := 54) hx hb dX1_revise_50 (by decide) ?_
          refine va_csv (va_Run.run (va_runS (As := [.int 1]) (rest := []) ⟨hx, hb, hml, hown, hts⟩ (gg_checkState1 l) (va_cwS 1 hts (lw_S q358 q359 q42 q360) rfl rfl rfl (by decide +kernel) ⟨Nat.le_of_ble_eq_true rfl, Nat.le_of_ble_eq_true rfl⟩) gw_spre rfl rfl hl.1 rfl (lv_room (Nat.le_of_ble_eq_true rfl)) dX1_revise_54 ⟨Nat.le_of_ble_eq_true rfl, Nat.le_of_ble_eq_true rfl⟩)) (fun _ => ?_)
          refine lv_aload hx hb dX1_revise_57 (lv_at hl 0 rfl) ?_
          refine lv_iload_n hx hb dX1_revise_59 rfl (lv_at hl 3 rfl) ?_
          refine lv_iload_n hx hb dX1_revise_60 rfl (lv_at hl 4 rfl) ?_
          refine lv_iload hx hb dX1_revise_61 (lv_at hl 5 rfl) ?_
          refine lv_aload_n hx hb dX1_revise_63 rfl (lv_at hl 1 rfl) ?_
          refine gw_get hx hb hts in_X1 hown hK (gw_c0 hG) rfl 14 (by decide) (hts _ q114) (v := .int (σ 1 0)) rfl dX1_revise_64 ?_
          have hG := gw_gW.nu (gw_gW.z (v := 0) hG) (gw_nu_up rfl).symm
          refine gw_callv (va_runV (As := [.int x, .int y, .int z, .int (σ 1 0)]) (rest := []) ⟨hx, hb, hml, hown, hts⟩ (gg_ask l D ca es A ad hd σ γ ord (gw_nu σ) x y z (σ 1 0) i_ hi_) (cwV 4 hts (lw_V q603 q604 q605 q59 q606) rfl rfl rfl (by decide +kernel) ⟨Nat.le_of_ble_eq_true rfl, Nat.le_of_ble_eq_true rfl⟩) (gw_grecv [.int x, .int y, .int z, .int (σ 1 0)] gw_gPb (gw_c12 hG (j := i_) hi_) rfl hK (fun U hU hW => gw_gat hU hW hG hK hE hN hA hS)) rfl rfl hl.1 rfl (lv_room (Nat.le_of_ble_eq_true rfl)) dX1_revise_67 ⟨Nat.le_of_ble_eq_true rfl, Nat.le_of_ble_eq_true rfl⟩) hS (fun H locs hG hS => ?_)
          have hG : gw_gW D ca es A ad hd (gw_up (gw_up (gw_up (gw_up (gw_up σ 0 0 0) 19 ((3 * i_) + 0) x) 19 ((3 * i_) + 1) y) 19 ((3 * i_) + 2) z) 21 i_ (σ 1 0)) γ ord (gw_nu σ) H := hG
          refine lv_aload hx hb dX1_revise_70 (lv_at hl 0 rfl) ?_
          refine lv_dup hx hb dX1_revise_72 rfl ?_
          refine gw_getN hx hb hts in_X8 hown hK (gw_c12 hG (j := i_) hi_) rfl 7 (by decide) (hN.1 _ q574 rfl) (v := .int (σ 20 i_)) rfl dX1_revise_73 ?_
          refine lv_iconst (v := 1) hx hb dX1_revise_76 (by decide) ?_
          refine lv_iadd hx hb dX1_revise_77 ?_
          refine gw_gput12N_20 (j := i_) hx hb hts hown hK hG hS hi_ (hN.1 _ q574 rfl) dX1_revise_78 (fun H locs hG hS => ?_)
          refine lv_aload hx hb dX1_revise_81 (lv_at hl 0 rfl) ?_
          refine gw_getN hx hb hts in_X8 hown hK (gw_c12 hG (j := i_) hi_) rfl 7 (by decide) (hN.1 _ q574 rfl) (v := .int ((σ 20 i_) + 1)) (congrArg (fun z => some (Value.int z)) (by simp [gw_up, upd, gw_gk, gw_enters_n, gw_resv_n, gw_comes_n, gw_go_n, gw_through_n])) dX1_revise_83 ?_
          have hG := gw_gW.nu hG (show gw_nu (gw_up (gw_up (gw_up (gw_up (gw_up (gw_up σ 0 0 0) 19 ((3 * i_) + 0) x) 19 ((3 * i_) + 1) y) 19 ((3 * i_) + 2) z) 21 i_ (σ 1 0)) 20 i_ ((σ 20 i_) + 1)) = gw_nu σ from ((gw_nu_up rfl).trans ((gw_nu_up rfl).trans ((gw_nu_up rfl).trans ((gw_nu_up rfl).trans ((gw_nu_up rfl).trans (gw_nu_up rfl)))))))
          have hE9 : gw_up (gw_up (gw_up (gw_up (gw_up (gw_up σ 0 0 0) 19 ((3 * i_) + 0) x) 19 ((3 * i_) + 1) y) 19 ((3 * i_) + 2) z) 21 i_ (σ 1 0)) 20 i_ ((σ 20 i_) + 1) = (gw_revise σ (nI i_) x y z).2 := (by simp only [gw_revise, gw_asks, gw_fail, (eq_true h2), (eq_true h12), hxi_, (eq_true h32), c46, and_true, true_and, and_false, false_and, and_self, or_true, true_or, or_false, false_or, not_true_eq_false, not_false_eq_true, if_true, if_false, ↓reduceIte]; try rfl)
          have hP9 : (σ 20 i_) + 1 = (gw_revise σ (nI i_) x y z).1 := (by simp only [gw_revise, gw_asks, gw_fail, (eq_true h2), (eq_true h12), hxi_, (eq_true h32), c46, and_true, true_and, and_false, false_and, and_self, or_true, true_or, or_false, false_or, not_true_eq_false, not_false_eq_true, if_true, if_false, ↓reduceIte]; try rfl)
          have hC9 : gw_C (gw_up (gw_up (gw_up (gw_up (gw_up (gw_up σ 0 0 0) 19 ((3 * i_) + 0) x) 19 ((3 * i_) + 1) y) 19 ((3 * i_) + 2) z) 21 i_ (σ 1 0)) 20 i_ ((σ 20 i_) + 1)) γ ord := (gw_C_up rfl (gw_C_up rfl (gw_C_up rfl (gw_C_up rfl (gw_C_up rfl (gw_C_up rfl hC))))))
          have hZ9 : (gw_up (gw_up (gw_up (gw_up (gw_up (gw_up σ 0 0 0) 19 ((3 * i_) + 0) x) 19 ((3 * i_) + 1) y) 19 ((3 * i_) + 2) z) 21 i_ (σ 1 0)) 20 i_ ((σ 20 i_) + 1)) 0 0 = 0 := rfl
          rw [hE9] at hG hC9 hZ9
          refine vx_ret (W.widen (k := 1) (n := 6) (Nat.le_of_ble_eq_true rfl) (Nat.le_of_ble_eq_true rfl) ?_)
          exact W.iret (v := (σ 20 i_) + 1) hx hb hr (fun t ht hW => ⟨⟨_, (hd, γ, ord), rfl, ⟨hP9, hZ9, hC9⟩, by show gw_gW D ca es A ad _ _ _ _ _ t.heap; rw [ht]; exact hG⟩, hS.F ht⟩) hS.2.2 dX1_revise_86
      · skip
        refine gw_scalli (va_Run.run (va_runV (As := [.int (nI (gw_co σ i_))]) (rest := []) ⟨hx, hb, hml, hown, hts⟩ (gg_isOpen l D ca es A ad hd σ γ ord (gw_co σ i_) (by have := hJ.a16b hi_; have := hJ.b7; omega)) (cwV 1 hts (lw_V q548 q550 qs14 q42 q551) rfl rfl rfl (by decide +kernel) ⟨Nat.le_of_ble_eq_true rfl, Nat.le_of_ble_eq_true rfl⟩) (gw_grecv [.int (nI (gw_co σ i_))] gw_gPb (gw_c0 hG) rfl hK (fun U hU hW => gw_gat hU hW hG hK hE hN hA hS)) rfl rfl hl.1 rfl (lv_room (Nat.le_of_ble_eq_true rfl)) dX1_revise_32 ⟨Nat.le_of_ble_eq_true rfl, Nat.le_of_ble_eq_true rfl⟩)) ?_
        refine gw_topi (y := 0) (if_neg h32) ?_
        refine lv_if_eq (tgt := 53) hx hb dX1_revise_35 (by decide) (fun _ => ?_) (fun c_ => absurd c_ (by decide))
        refine lv_iconst (v := 0) hx hb dX1_revise_53 (by decide) ?_
        have hF9 : (gw_revise σ (nI i_) x y z) = gw_fail σ 3 := (by simp only [gw_revise, gw_asks, gw_fail, (eq_true h2), (eq_true h12), hxi_, (eq_false h32), and_true, true_and, and_false, false_and, and_self, or_true, true_or, or_false, false_or, not_true_eq_false, not_false_eq_true, if_true, if_false, ↓reduceIte]; try rfl)
        refine vx_callv (vx_runS (As := [.int 0]) (rest := []) ⟨hx, hb, hml, hown, hts⟩ (gg_checkState0 l A hlt) (va_cwS 1 hts (lw_S q358 q359 q42 q360) rfl rfl rfl (by decide +kernel) ⟨Nat.le_of_ble_eq_true rfl, Nat.le_of_ble_eq_true rfl⟩) (gw_gspre [.int 0] gw_Thb (fun U hU hW => gw_That hU hW hE hN hS)) rfl rfl hl.1 rfl (lv_room (Nat.le_of_ble_eq_true rfl)) dX1_revise_54 ⟨Nat.le_of_ble_eq_true rfl, Nat.le_of_ble_eq_true rfl⟩) hS (fun _ _ h => h.elim) (fun _ h => h.elim) (fun _ _ h => h.elim) (fun E ce q9 u9 t9 H1 locs1 ht9 hA9 _ hBX hz9 hq9 hS1 hce hcv hcl => ?_) (fun u9 t9 H1 locs1 ht9 hA9 hp9 => hp9.elim)
        exact gw_out htab hlocks hce hcv hcl hF9 (by decide) hBX hG hC hq9 hS1 (Nat.le_of_ble_eq_true rfl) (Nat.le_of_ble_eq_true rfl)
    · skip
      refine gw_scalli (va_Run.run (va_runS (As := [.int x, .int y, .int z]) (rest := []) ⟨hx, hb, hml, hown, hts⟩ (gg_isMoney l x y z) (va_cwS 3 hts (lw_S q544 q545 q42 q546) rfl rfl rfl (by decide +kernel) ⟨Nat.le_of_ble_eq_true rfl, Nat.le_of_ble_eq_true rfl⟩) gw_spre rfl rfl hl.1 rfl (lv_room (Nat.le_of_ble_eq_true rfl)) dX1_revise_12 ⟨Nat.le_of_ble_eq_true rfl, Nat.le_of_ble_eq_true rfl⟩)) ?_
      refine gw_topi (y := 0) (if_neg h12) ?_
      have hF9 : (gw_revise σ i x y z) = gw_fail σ 2 := (by simp only [gw_revise, gw_asks, gw_fail, (eq_true h2), (eq_false h12), and_true, true_and, and_false, false_and, and_self, or_true, true_or, or_false, false_or, not_true_eq_false, not_false_eq_true, if_true, if_false, ↓reduceIte]; try rfl)
      refine vx_callv (vx_runS (As := [.int 0]) (rest := []) ⟨hx, hb, hml, hown, hts⟩ (gg_checkArgument0 l A hlt) (va_cwS 1 hts (lw_S q284 q285 q42 q286) rfl rfl rfl (by decide +kernel) ⟨Nat.le_of_ble_eq_true rfl, Nat.le_of_ble_eq_true rfl⟩) (gw_gspre [.int 0] gw_Thb (fun U hU hW => gw_That hU hW hE hN hS)) rfl rfl hl.1 rfl (lv_room (Nat.le_of_ble_eq_true rfl)) dX1_revise_15 ⟨Nat.le_of_ble_eq_true rfl, Nat.le_of_ble_eq_true rfl⟩) hS (fun _ _ h => h.elim) (fun _ h => h.elim) (fun _ _ h => h.elim) (fun E ce q9 u9 t9 H1 locs1 ht9 hA9 _ hBX hz9 hq9 hS1 hce hcv hcl => ?_) (fun u9 t9 H1 locs1 ht9 hA9 hp9 => hp9.elim)
      exact gw_out htab hlocks hce hcv hcl hF9 (by decide) hBX hG hC hq9 hS1 (Nat.le_of_ble_eq_true rfl) (Nat.le_of_ble_eq_true rfl)
  · skip
    refine gw_scalli (va_Run.run (va_runV (As := [.int i]) (rest := []) ⟨hx, hb, hml, hown, hts⟩ (gg_isApplication l D ca es A ad hd σ γ ord i) (cwV 1 hts (lw_V q614 q616 qs15 q42 q617) rfl rfl rfl (by decide +kernel) ⟨Nat.le_of_ble_eq_true rfl, Nat.le_of_ble_eq_true rfl⟩) (gw_grecv [.int i] gw_gPb (gw_c0 hG) rfl hK (fun U hU hW => gw_gat hU hW hG hK hE hN hA hS)) rfl rfl hl.1 rfl (lv_room (Nat.le_of_ble_eq_true rfl)) dX1_revise_2 ⟨Nat.le_of_ble_eq_true rfl, Nat.le_of_ble_eq_true rfl⟩)) ?_
    refine gw_topi (y := 0) (if_neg h2) ?_
    have hF9 : (gw_revise σ i x y z) = gw_fail σ 1 := (by simp only [gw_revise, gw_asks, gw_fail, (eq_false h2), and_true, true_and, and_false, false_and, and_self, or_true, true_or, or_false, false_or, not_true_eq_false, not_false_eq_true, if_true, if_false, ↓reduceIte]; try rfl)
    refine vx_callv (vx_runS (As := [.int 0]) (rest := []) ⟨hx, hb, hml, hown, hts⟩ (gg_checkIndex0 l A hlt) (va_cwS 1 hts (lw_S q525 q526 q42 q527) rfl rfl rfl (by decide +kernel) ⟨Nat.le_of_ble_eq_true rfl, Nat.le_of_ble_eq_true rfl⟩) (gw_gspre [.int 0] gw_Thb (fun U hU hW => gw_That hU hW hE hN hS)) rfl rfl hl.1 rfl (lv_room (Nat.le_of_ble_eq_true rfl)) dX1_revise_5 ⟨Nat.le_of_ble_eq_true rfl, Nat.le_of_ble_eq_true rfl⟩) hS (fun _ _ h => h.elim) (fun _ h => h.elim) (fun _ _ h => h.elim) (fun E ce q9 u9 t9 H1 locs1 ht9 hA9 _ hBX hz9 hq9 hS1 hce hcv hcl => ?_) (fun u9 t9 H1 locs1 ht9 hA9 hp9 => hp9.elim)
    exact gw_out htab hlocks hce hcv hcl hF9 (by decide) hBX hG hC hq9 hS1 (Nat.le_of_ble_eq_true rfl) (Nat.le_of_ble_eq_true rfl)

set_option maxHeartbeats 4000000 in
set_option maxRecDepth 100000 in
theorem gx_count (l : Launch) (D : va_G) (ca : Nat → ClassId) (es : Nat → Nat) (A : Nat → Prop) (ad hd : Nat → Nat → Nat) (σ γ : gw_S) (ord : List Nat) (v : Int32) (hlt : l.stackTraces = false) (hC : gw_C σ γ ord) (hJ : gw_J σ) (h22 : ∀ j, j < gw_n σ 15 → gw_s6 (σ 22 j)) : vx_Met l yX1_count (ws_ yX1_count cX1_count 4 (some .int)) ({ frames := 7, cells := 1, slots := 6, locals := 110 }) (va_Pc [.ref (ad 0 0), .int v] (gw_gP D ca es A ad hd σ γ ord (gw_nu σ))) (gw_Qi D ca es A ad (gw_count σ v)) (gw_XC D ca es A ad (gw_T ["java/lang/IllegalArgumentException"]) (gw_count σ v)) 1 6 A := by
  refine vx_ofW (cc := cX1_count) (maxL := 4) (ret := (some .int)) (by decide) rfl ?_
  intro p e s m args below meth c s₁ B hml htab hv
  obtain ⟨rfl, hG, hK, hE, hN, hA⟩ := hv
  have hx := B.exec
  have hb := B.bytes
  have hr := B.returns
  have hts := atoms_spec (ws := ws_ yX1_count cX1_count 4 (some .int)) B.pre
  have hts : ∀ w ∈ lw_all, w.before _ s = true := fun w h => hts w (List.mem_cons_of_mem _ h)
  have hown : s.vm.findClass RX1 = some m.cls := findClass_of_methodNamed B.named
  have hlocks := B.notSynchronized
  have hS : va_S A s.heap s.heap [] := va_S.rf
  have hl := lv_entry ([.ref (ad 0 0), .int v]) (n := 4) (Nat.le_of_ble_eq_true rfl)
  rw [lg_entry_eq]
  generalize (lg_sl ([.ref (ad 0 0), .int v]) ++ List.replicate (4 - (lg_sl ([.ref (ad 0 0), .int v])).length) Slot.unset).toArray = ls at hl ⊢
  have hl : lv_has ls 4 [(0, .ref (ad 0 0)), (1, .int v)] := hl
  refine lv_iload_n hx hb dX1_count_0 rfl (lv_at hl 1 rfl) ?_
  refine lv_i2l (v := v.toInt64) hx hb dX1_count_1 rfl ?_
  refine lv_lconst (v := 0) hx hb dX1_count_2 (by decide) ?_
  refine lv_ldc2 (v := 5) hx hb hown (hts _ q861) dX1_count_3 ?_
  rcases Classical.em (0 ≤ v ∧ v ≤ 5) with h6 | h6
  · skip
    refine gw_scalli (va_Run.run (va_runS (As := [.long v.toInt64, .long 0, .long 5]) (rest := []) ⟨hx, hb, hml, hown, hts⟩ (gg_inRange l v.toInt64 0 5) (va_cwS 3 hts (lw_S q279 q280 q42 q281) rfl rfl rfl (by decide +kernel) ⟨Nat.le_of_ble_eq_true rfl, Nat.le_of_ble_eq_true rfl⟩) gw_spre rfl rfl hl.1 rfl (lv_room (Nat.le_of_ble_eq_true rfl)) dX1_count_6 ⟨Nat.le_of_ble_eq_true rfl, Nat.le_of_ble_eq_true rfl⟩)) ?_
    refine gw_topi (y := 1) (if_pos (gw_rgp (x := v) (by decide) (by decide) h6)) ?_
    refine va_csv (va_Run.run (va_runS (As := [.int 1]) (rest := []) ⟨hx, hb, hml, hown, hts⟩ (gg_checkArgument1 l) (va_cwS 1 hts (lw_S q284 q285 q42 q286) rfl rfl rfl (by decide +kernel) ⟨Nat.le_of_ble_eq_true rfl, Nat.le_of_ble_eq_true rfl⟩) gw_spre rfl rfl hl.1 rfl (lv_room (Nat.le_of_ble_eq_true rfl)) dX1_count_9 ⟨Nat.le_of_ble_eq_true rfl, Nat.le_of_ble_eq_true rfl⟩)) (fun _ => ?_)
    refine lv_iconst (v := 0) hx hb dX1_count_12 (by decide) ?_
    refine lv_istore_n (lv' := [(2, .int 0), (0, .ref (ad 0 0)), (1, .int v)]) hx hb dX1_count_13 rfl hl (by decide) rfl (fun ls hl => ?_)
    refine lv_iconst (v := 0) hx hb dX1_count_14 (by decide) ?_
    refine lv_istore_n (lv' := [(3, .int 0), (2, .int 0), (0, .ref (ad 0 0)), (1, .int v)]) hx hb dX1_count_15 rfl hl (by decide) rfl (fun ls hl => ?_)
    have lp16 : ∀ (n16 : Nat) (k : Nat) (acc : Int32), (k + n16 = gw_n σ 15) → (gw_ct σ v n16 k acc = gw_ct σ v (gw_n σ 15) 0 0) → ∀ ls : Array Slot, lv_has ls 4 [(0, .ref (ad 0 0)), (1, .int v), (2, .int acc), (3, .int (nI k))] → W p l e (headSpec (ws_ yX1_count cX1_count 4 (some .int)) ({ frames := 7, cells := 1, slots := 6, locals := 110 })).room s m ([.ref (ad 0 0), .int v] : List Value).toArray below meth c s.heap [] 0 0 (vx_MQ below (gw_Qi D ca es A ad (gw_count σ v)) (gw_XC D ca es A ad (gw_T ["java/lang/IllegalArgumentException"]) (gw_count σ v)) ([.ref (ad 0 0), .int v] : List Value).toArray s 1 6 A) (F0 m 16 ls []) := by
      intro n16
      induction n16 with
      | zero =>
        intro k acc hk hR ls hl
        refine lv_iload_n hx hb dX1_count_16 rfl (lv_at hl 3 rfl) ?_
        refine lv_aload_n hx hb dX1_count_17 rfl (lv_at hl 0 rfl) ?_
        refine gw_get hx hb hts in_X1 hown hK (gw_c0 hG) rfl 13 (by decide) (hts _ q113) (v := .int (σ 15 0)) rfl dX1_count_18 ?_
        refine lv_icmp_ge (tgt := 49) hx hb dX1_count_21 (by decide) (fun _ => ?_) (fun c_ => absurd (gw_ge hJ.n15 (by omega) (by have := hJ.b15; have := hJ.b25; have := hJ.b7; omega)) c_)
        refine lv_iload_n hx hb dX1_count_49 rfl (lv_at hl 2 rfl) ?_
        have hG := gw_gW.nu (gw_gW.z (v := 0) hG) (gw_nu_up rfl).symm
        have hG := gw_gW.nu hG (show gw_nu (gw_up σ 0 0 0) = gw_nu σ from (gw_nu_up rfl))
        have hE9 : gw_up σ 0 0 0 = (gw_count σ v).2 := (by simp only [gw_count, gw_fail, h6, and_true, true_and, and_false, false_and, and_self, or_true, true_or, or_false, false_or, not_true_eq_false, not_false_eq_true, if_true, if_false, ↓reduceIte]; try rfl)
        have hP9 : acc = (gw_count σ v).1 := (by simp only [gw_count, gw_fail, h6, and_true, true_and, and_false, false_and, and_self, or_true, true_or, or_false, false_or, not_true_eq_false, not_false_eq_true, if_true, if_false, ↓reduceIte]; exact hR)
        have hC9 : gw_C (gw_up σ 0 0 0) γ ord := (gw_C_up rfl hC)
        have hZ9 : (gw_up σ 0 0 0) 0 0 = 0 := rfl
        rw [hE9] at hG hC9 hZ9
        refine vx_ret (W.widen (k := 1) (n := 6) (Nat.le_of_ble_eq_true rfl) (Nat.le_of_ble_eq_true rfl) ?_)
        exact W.iret (v := acc) hx hb hr (fun t ht hW => ⟨⟨_, (hd, γ, ord), rfl, ⟨hP9, hZ9, hC9⟩, by show gw_gW D ca es A ad _ _ _ _ _ t.heap; rw [ht]; exact hG⟩, hS.F ht⟩) hS.2.2 dX1_count_50
      | succ n16 ih16 =>
        intro k acc hk hR ls hl
        refine lv_iload_n hx hb dX1_count_16 rfl (lv_at hl 3 rfl) ?_
        refine lv_aload_n hx hb dX1_count_17 rfl (lv_at hl 0 rfl) ?_
        refine gw_get hx hb hts in_X1 hown hK (gw_c0 hG) rfl 13 (by decide) (hts _ q113) (v := .int (σ 15 0)) rfl dX1_count_18 ?_
        refine lv_icmp_ge (tgt := 49) hx hb dX1_count_21 (by decide) (fun c_ => absurd c_ (gw_nge hJ.n15 (by omega) (by have := hJ.b15; have := hJ.b25; have := hJ.b7; omega))) (fun _ => ?_)
        refine lv_aload_n hx hb dX1_count_24 rfl (lv_at hl 0 rfl) ?_
        refine gw_get hx hb hts in_X1 hown hK (gw_c0 hG) rfl 11 (by decide) (hts _ q111) (v := .ref (ad 5 0)) rfl dX1_count_25 ?_
        refine lv_iload_n hx hb dX1_count_28 rfl (lv_at hl 3 rfl) ?_
        refine gw_qld (i := k) hx hb hK rfl (gw_c5 hG) (by decide) (by have := hJ.b15; omega) dX1_count_29 (v := .ref (ad 12 k)) (gw_ifs (by show k < gw_n σ 15; omega)) ?_
        refine gw_getN hx hb hts in_X8 hown hK (gw_c12 hG (j := k) (by show k < gw_n σ 15; omega)) rfl 6 (by decide) (hN.1 _ q572 rfl) (v := .ref (es (gw_ix (σ 22 k)))) rfl dX1_count_30 ?_
        refine gw_st_ordinal (h22 _ (by omega)) hx hb (hml.trans hl.1.symm) hts hown hE hS (Nat.le_of_ble_eq_true rfl) (Nat.le_of_ble_eq_true rfl) (by decide) ⟨Nat.le_of_ble_eq_true rfl, Nat.le_of_ble_eq_true rfl⟩ dX1_count_33 ?_
        refine lv_iload_n hx hb dX1_count_36 rfl (lv_at hl 1 rfl) ?_
        refine lv_icmp_ne (tgt := 43) hx hb dX1_count_37 (by decide) (fun c37 => ?_) (fun c37 => ?_)
        · skip
          refine lv_iinc (v := nI (k + 1)) (lv' := [(3, .int (nI (k + 1))), (0, .ref (ad 0 0)), (1, .int v), (2, .int acc)]) hx hb dX1_count_43 hl (k := 3) rfl (gw_inc _) (by decide) rfl (fun ls hl => ?_)
          refine lv_goto (tgt := 16) hx hb dX1_count_46 (by decide) ?_
          exact ih16 (k + 1) acc (by omega) (by rw [← hR]; simp [gw_ct, c37]) ls (lv_sub hl [1, 2, 3, 0] rfl)
        · skip
          refine lv_iinc (v := acc + 1) (lv' := [(2, .int (acc + 1)), (0, .ref (ad 0 0)), (1, .int v), (3, .int (nI k))]) hx hb dX1_count_40 hl (k := 2) rfl rfl (by decide) rfl (fun ls hl => ?_)
          refine lv_iinc (v := nI (k + 1)) (lv' := [(3, .int (nI (k + 1))), (2, .int (acc + 1)), (0, .ref (ad 0 0)), (1, .int v)]) hx hb dX1_count_43 hl (k := 3) rfl (gw_inc _) (by decide) rfl (fun ls hl => ?_)
          refine lv_goto (tgt := 16) hx hb dX1_count_46 (by decide) ?_
          exact ih16 (k + 1) (acc + 1) (by omega) (by rw [← hR]; simp [gw_ct, c37]) ls (lv_sub hl [2, 3, 1, 0] rfl)
    exact lp16 (gw_n σ 15) 0 0 (by omega) rfl ls (lv_sub hl [2, 3, 1, 0] rfl)
  · skip
    refine gw_scalli (va_Run.run (va_runS (As := [.long v.toInt64, .long 0, .long 5]) (rest := []) ⟨hx, hb, hml, hown, hts⟩ (gg_inRange l v.toInt64 0 5) (va_cwS 3 hts (lw_S q279 q280 q42 q281) rfl rfl rfl (by decide +kernel) ⟨Nat.le_of_ble_eq_true rfl, Nat.le_of_ble_eq_true rfl⟩) gw_spre rfl rfl hl.1 rfl (lv_room (Nat.le_of_ble_eq_true rfl)) dX1_count_6 ⟨Nat.le_of_ble_eq_true rfl, Nat.le_of_ble_eq_true rfl⟩)) ?_
    refine gw_topi (y := 0) (if_neg (gw_rgn (x := v) (by decide) (by decide) h6)) ?_
    have hF9 : (gw_count σ v) = gw_fail σ 1 := (by simp only [gw_count, gw_fail, h6, and_true, true_and, and_false, false_and, and_self, or_true, true_or, or_false, false_or, not_true_eq_false, not_false_eq_true, if_true, if_false, ↓reduceIte]; try rfl)
    refine vx_callv (vx_runS (As := [.int 0]) (rest := []) ⟨hx, hb, hml, hown, hts⟩ (gg_checkArgument0 l A hlt) (va_cwS 1 hts (lw_S q284 q285 q42 q286) rfl rfl rfl (by decide +kernel) ⟨Nat.le_of_ble_eq_true rfl, Nat.le_of_ble_eq_true rfl⟩) (gw_gspre [.int 0] gw_Thb (fun U hU hW => gw_That hU hW hE hN hS)) rfl rfl hl.1 rfl (lv_room (Nat.le_of_ble_eq_true rfl)) dX1_count_9 ⟨Nat.le_of_ble_eq_true rfl, Nat.le_of_ble_eq_true rfl⟩) hS (fun _ _ h => h.elim) (fun _ h => h.elim) (fun _ _ h => h.elim) (fun E ce q9 u9 t9 H1 locs1 ht9 hA9 _ hBX hz9 hq9 hS1 hce hcv hcl => ?_) (fun u9 t9 H1 locs1 ht9 hA9 hp9 => hp9.elim)
    exact gw_out htab hlocks hce hcv hcl hF9 (by decide) hBX hG hC hq9 hS1 (Nat.le_of_ble_eq_true rfl) (Nat.le_of_ble_eq_true rfl)
