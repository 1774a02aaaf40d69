/-! THE CLASS 10 -/
set_option maxRecDepth 100000
set_option maxHeartbeats 4000000 in
set_option maxRecDepth 100000 in
theorem gx_account (l : Launch) (D : va_G) (ca : Nat → ClassId) (es : Nat → Nat) (A : Nat → Prop) (ad hd : Nat → Nat → Nat) (σ γ : gw_S) (ord : List Nat) (f y w : Int32) (hlt : l.stackTraces = false) (hC : gw_C σ γ ord)  : vx_Met l yX1_account (ws_ yX1_account cX1_account 5 (some .int)) ({ frames := 7, cells := 1, slots := 6, locals := 110 }) (va_Pc [.ref (ad 0 0), .int f, .int y, .int w] (gw_gP D ca es A ad hd σ γ ord (gw_nu σ))) (gw_Qi D ca es A ad (gw_account σ f y w)) (gw_XC D ca es A ad (gw_T ["java/lang/IllegalArgumentException"]) (gw_account σ f y w)) 1 6 A := by
  refine vx_ofW (cc := cX1_account) (maxL := 5) (ret := (some .int)) (by decide) rfl ?_
  intro p e s m args below meth c s₁ B hml htab hv
  obtain ⟨rfl, hG, hK, hE, hN, hA⟩ := hv
  have hx := B.exec
  have hb := B.bytes
  have hr := B.returns
  have hts := atoms_spec (ws := ws_ yX1_account cX1_account 5 (some .int)) B.pre
  have hts : ∀ w ∈ lw_all, w.before _ s = true := fun w h => hts w (List.mem_cons_of_mem _ h)
  have hown : s.vm.findClass RX1 = some m.cls := findClass_of_methodNamed B.named
  have hlocks := B.notSynchronized
  have hS : va_S A s.heap s.heap [] := va_S.rf
  have hl := lv_entry ([.ref (ad 0 0), .int f, .int y, .int w]) (n := 5) (Nat.le_of_ble_eq_true rfl)
  rw [lg_entry_eq]
  generalize (lg_sl ([.ref (ad 0 0), .int f, .int y, .int w]) ++ List.replicate (5 - (lg_sl ([.ref (ad 0 0), .int f, .int y, .int w])).length) Slot.unset).toArray = ls at hl ⊢
  have hl : lv_has ls 5 [(0, .ref (ad 0 0)), (1, .int f), (2, .int y), (3, .int w)] := hl
  have hKo := hC.1
  have hEn : ∀ x, x < gw_n σ 31 → ¬ γ 8 (gw_ix (σ 33 x)) = 0 := fun x hx => (hC.2.2.2.2.2 x hx).2
  have hX0 := gw_Ext.rf (γ := γ) (hd := hd)
  refine lv_iload_n hx hb dX1_account_0 rfl (lv_at hl 1 rfl) ?_
  refine lv_iload_n hx hb dX1_account_1 rfl (lv_at hl 2 rfl) ?_
  rcases Classical.em ((0 ≤ f ∧ f ≤ 3) ∧ (0 ≤ y ∧ y ≤ 11)) with h2 | h2
  · skip
    refine gw_scalli (va_Run.run (va_runS (As := [.int f, .int y]) (rest := []) ⟨hx, hb, hml, hown, hts⟩ (gg_isPlace l f y) (va_cwS 2 hts (lw_S q275 q276 q42 q277) rfl rfl rfl (by decide +kernel) ⟨Nat.le_of_ble_eq_true rfl, Nat.le_of_ble_eq_true rfl⟩) gw_spre rfl rfl hl.1 rfl (lv_room (Nat.le_of_ble_eq_true rfl)) dX1_account_2 ⟨Nat.le_of_ble_eq_true rfl, Nat.le_of_ble_eq_true rfl⟩)) ?_
    refine gw_topi (y := 1) (if_pos h2) ?_
    refine lv_if_eq (tgt := 24) hx hb dX1_account_5 (by decide) (fun c_ => absurd c_ (by decide)) (fun _ => ?_)
    refine lv_iload_n hx hb dX1_account_8 rfl (lv_at hl 3 rfl) ?_
    refine lv_i2l (v := w.toInt64) hx hb dX1_account_9 rfl ?_
    refine lv_lconst (v := 0) hx hb dX1_account_10 (by decide) ?_
    refine lv_ldc2 (v := 4) hx hb hown (hts _ q813) dX1_account_11 ?_
    rcases Classical.em (0 ≤ w ∧ w ≤ 4) with h14 | h14
    · skip
      refine gw_scalli (va_Run.run (va_runS (As := [.long w.toInt64, .long 0, .long 4]) (rest := []) ⟨hx, hb, hml, hown, hts⟩ (gg_inRange l w.toInt64 0 4) (va_cwS 3 hts (lw_S q279 q280 q42 q281) rfl rfl rfl (by decide +kernel) ⟨Nat.le_of_ble_eq_true rfl, Nat.le_of_ble_eq_true rfl⟩) gw_spre rfl rfl hl.1 rfl (lv_room (Nat.le_of_ble_eq_true rfl)) dX1_account_14 ⟨Nat.le_of_ble_eq_true rfl, Nat.le_of_ble_eq_true rfl⟩)) ?_
      refine gw_topi (y := 1) (if_pos (gw_rgp (x := w) (by decide) (by decide) h14)) ?_
      refine lv_if_eq (tgt := 24) hx hb dX1_account_17 (by decide) (fun c_ => absurd c_ (by decide)) (fun _ => ?_)
      refine lv_iconst (v := 1) hx hb dX1_account_20 (by decide) ?_
      refine lv_goto (tgt := 25) hx hb dX1_account_21 (by decide) ?_
      refine va_csv (va_Run.run (va_runS (As := [.int 1]) (rest := []) ⟨hx, hb, hml, hown, hts⟩ (gg_checkArgument1 l) (va_cwS 1 hts (lw_S q284 q285 q42 q286) rfl rfl rfl (by decide +kernel) ⟨Nat.le_of_ble_eq_true rfl, Nat.le_of_ble_eq_true rfl⟩) gw_spre rfl rfl hl.1 rfl (lv_room (Nat.le_of_ble_eq_true rfl)) dX1_account_25 ⟨Nat.le_of_ble_eq_true rfl, Nat.le_of_ble_eq_true rfl⟩)) (fun _ => ?_)
      obtain ⟨f_, hlf_, hf_, rfl⟩ := gw_rng 0 3 h2.1 (by decide) (by decide) (by decide)
      have hxf_ : gw_ix (nI f_) = f_ := gw_ix_nI (by omega)
      obtain ⟨y_, hly_, hy_, rfl⟩ := gw_rng 0 11 h2.2 (by decide) (by decide) (by decide)
      have hxy_ : gw_ix (nI y_) = y_ := gw_ix_nI (by omega)
      refine lv_aload_n hx hb dX1_account_28 rfl (lv_at hl 0 rfl) ?_
      refine gw_get hx hb hts in_X1 hown hK (gw_c0 hG) rfl 0 (by decide) (hts _ q100) (v := .ref (ad 1 0)) rfl dX1_account_29 ?_
      refine lv_aload_n hx hb dX1_account_32 rfl (lv_at hl 0 rfl) ?_
      refine lv_iload_n hx hb dX1_account_33 rfl (lv_at hl 1 rfl) ?_
      refine lv_iload_n hx hb dX1_account_34 rfl (lv_at hl 2 rfl) ?_
      refine va_callr (va_runV (As := [.int (nI f_), .int (nI y_)]) (rest := [.ref (ad 1 0)]) ⟨hx, hb, hml, hown, hts⟩ (gg_keyOf l D ca es A ad hd σ γ ord f_ y_ (by omega) (by omega) hKo hEn) (cwV 2 hts (lw_V q206 q208 qs4 q42 q209) rfl rfl rfl (by decide +kernel) ⟨Nat.le_of_ble_eq_true rfl, Nat.le_of_ble_eq_true rfl⟩) (gw_grecv [.int (nI f_), .int (nI y_)] gw_gPb (gw_c0 hG) rfl hK (fun U hU hW => gw_gat hU hW hG hK hE hN hA hS)) rfl rfl hl.1 rfl (lv_room (Nat.le_of_ble_eq_true rfl)) dX1_account_35 ⟨Nat.le_of_ble_eq_true rfl, Nat.le_of_ble_eq_true rfl⟩) hS (fun _ _ h => h) (fun _ h => h) (fun u9 ra9 t9 H locs ht9 hA9 hp9 hB9 _ _ hS => ?_)
      obtain ⟨hd, γ⟩ := u9
      obtain ⟨hX, hkN⟩ := hp9
      obtain ⟨rfl, hG⟩ := hB9
      subst ht9
      have hX0 := hX0.tr hX
      have hKo := gw_Ko.ext hKo hX
      have hEn : ∀ x, x < gw_n σ 31 → ¬ γ 8 (gw_ix (σ 33 x)) = 0 := fun x hx => (hX.2.1 _ (hEn x hx)).1
      have hC := gw_C.ext hC hX
      rcases Classical.em ((12 * f_ + y_) ∈ ord) with h38 | h38
      · skip
        refine gw_scallr (va_Run.run (va_runV (As := [.ref (hd 10 (12 * f_ + y_))]) (rest := []) ⟨hx, hb, hml, hown, hts⟩ (gg_get l D ca es A ad hd σ γ ord (12 * f_ + y_) (by omega) hkN hKo) (cwV 1 hts (lw_V q224 q225 q226 q43 q227) rfl rfl rfl (by decide +kernel) ⟨Nat.le_of_ble_eq_true rfl, Nat.le_of_ble_eq_true rfl⟩) (gw_grecv [.ref (hd 10 (12 * f_ + y_))] gw_gPb (gw_c1 hG) rfl hK (fun U hU hW => gw_gat hU hW hG hK hE hN hA hS)) rfl rfl hl.1 rfl (lv_room (Nat.le_of_ble_eq_true rfl)) dX1_account_38 ⟨Nat.le_of_ble_eq_true rfl, Nat.le_of_ble_eq_true rfl⟩)) ?_
        refine gw_topr (y := .ref (hd 11 (12 * f_ + y_))) (gw_ifs h38) ?_
        refine lv_astore (lv' := [(4, .ref (hd 11 (12 * f_ + y_))), (0, .ref (ad 0 0)), (1, .int (nI f_)), (2, .int (nI y_)), (3, .int w)]) hx hb dX1_account_41 hl (by decide) rfl (fun ls hl => ?_)
        refine lv_aload hx hb dX1_account_43 (lv_at hl 0 rfl) ?_
        refine lv_ifnonnull (tgt := 50) hx hb dX1_account_45 (by decide) ?_
        refine lv_iload_n hx hb dX1_account_50 rfl (lv_at hl 4 rfl) ?_
        refine lv_if_ne (tgt := 62) hx hb dX1_account_51 (by decide) (fun c51 => ?_) (fun c51 => ?_)
        · skip
          refine lv_iload_n hx hb dX1_account_62 rfl (lv_at hl 4 rfl) ?_
          refine lv_iconst (v := 1) hx hb dX1_account_63 (by decide) ?_
          refine lv_icmp_ne (tgt := 75) hx hb dX1_account_64 (by decide) (fun c64 => ?_) (fun c64 => ?_)
          · skip
            refine lv_iload_n hx hb dX1_account_75 rfl (lv_at hl 4 rfl) ?_
            refine lv_iconst (v := 2) hx hb dX1_account_76 (by decide) ?_
            refine lv_icmp_ne (tgt := 88) hx hb dX1_account_77 (by decide) (fun c77 => ?_) (fun c77 => ?_)
            · skip
              refine lv_iload_n hx hb dX1_account_88 rfl (lv_at hl 4 rfl) ?_
              refine lv_iconst (v := 3) hx hb dX1_account_89 (by decide) ?_
              refine lv_icmp_ne (tgt := 101) hx hb dX1_account_90 (by decide) (fun c90 => ?_) (fun c90 => ?_)
              · skip
                refine lv_aload hx hb dX1_account_101 (lv_at hl 0 rfl) ?_
                refine gw_getN hx hb hts in_X5 hown hK (gw_c11 hG (j := 12 * f_ + y_) h38) rfl 1 (by decide) (hN.1 _ q389 rfl) (v := .int (σ 3 (12 * f_ + y_))) rfl dX1_account_103 ?_
                have hG := gw_gW.nu (gw_gW.z (v := 0) hG) (gw_nu_up rfl).symm
                have hG := gw_gW.nu hG (show gw_nu (gw_up σ 0 0 0) = gw_nu σ from (gw_nu_up rfl))
                have hE9 : gw_up σ 0 0 0 = (gw_account σ (nI f_) (nI y_) w).2 := (by simp only [gw_account, h2, h14, hxf_, hxy_, and_self, if_true])
                have hP9 : σ 3 (12 * f_ + y_) = (gw_account σ (nI f_) (nI y_) w).1 := (by simp only [gw_account, h2, h14, hxf_, hxy_, and_self, if_true]; unfold gw_acc; rw [if_neg (fun z => (hC.2.2.2.2.1.2 _ (by omega)).mp z h38)]; simp only [c51, c64, c77, c90, and_true, true_and, and_false, false_and, and_self, or_true, true_or, or_false, false_or, not_true_eq_false, not_false_eq_true, if_true, if_false, ↓reduceIte]; try first | rfl | exact (if_neg (fun z => (hC.2.2.2.2.1.2 _ (by omega)).mp z h38)).symm)
                have hC9 : gw_C (gw_up σ 0 0 0) γ ord := (gw_C_up rfl hC)
                have hZ9 : (gw_up σ 0 0 0) 0 0 = 0 := rfl
                rw [hE9] at hG hC9 hZ9
                refine vx_ret (W.widen (k := 1) (n := 6) (Nat.le_of_ble_eq_true rfl) (Nat.le_of_ble_eq_true rfl) ?_)
                exact W.iret (v := σ 3 (12 * f_ + y_)) hx hb hr (fun t ht hW => ⟨⟨_, (hd, γ, ord), rfl, ⟨hP9, hZ9, hC9⟩, by show gw_gW D ca es A ad _ _ _ _ _ t.heap; rw [ht]; exact hG⟩, hS.F ht⟩) hS.2.2 dX1_account_106
              · skip
                refine lv_aload hx hb dX1_account_93 (lv_at hl 0 rfl) ?_
                refine gw_scalli (va_Run.run (va_runV (As := []) (rest := []) ⟨hx, hb, hml, hown, hts⟩ (gg_free l D ca es A ad hd σ γ ord (12 * f_ + y_) h38) (cwV 0 hts (lw_V q190 q191 q192 q51 q193) rfl rfl rfl (by decide +kernel) ⟨Nat.le_of_ble_eq_true rfl, Nat.le_of_ble_eq_true rfl⟩) (gw_grecv [] gw_gPb (gw_c11 hG (j := 12 * f_ + y_) h38) rfl hK (fun U hU hW => gw_gat hU hW hG hK hE hN hA hS)) rfl rfl hl.1 rfl (lv_room (Nat.le_of_ble_eq_true rfl)) dX1_account_95 ⟨Nat.le_of_ble_eq_true rfl, Nat.le_of_ble_eq_true rfl⟩)) ?_
                refine lv_goto (tgt := 106) hx hb dX1_account_98 (by decide) ?_
                have hG := gw_gW.nu (gw_gW.z (v := 0) hG) (gw_nu_up rfl).symm
                have hG := gw_gW.nu hG (show gw_nu (gw_up σ 0 0 0) = gw_nu σ from (gw_nu_up rfl))
                have hE9 : gw_up σ 0 0 0 = (gw_account σ (nI f_) (nI y_) w).2 := (by simp only [gw_account, h2, h14, hxf_, hxy_, and_self, if_true])
                have hP9 : σ 4 (12 * f_ + y_) - σ 5 (12 * f_ + y_) - σ 6 (12 * f_ + y_) = (gw_account σ (nI f_) (nI y_) w).1 := (by simp only [gw_account, h2, h14, hxf_, hxy_, and_self, if_true]; unfold gw_acc; rw [if_neg (fun z => (hC.2.2.2.2.1.2 _ (by omega)).mp z h38)]; simp only [c51, c64, c77, (eq_true c90), and_true, true_and, and_false, false_and, and_self, or_true, true_or, or_false, false_or, not_true_eq_false, not_false_eq_true, if_true, if_false, ↓reduceIte]; try first | rfl | exact (if_neg (fun z => (hC.2.2.2.2.1.2 _ (by omega)).mp z h38)).symm)
                have hC9 : gw_C (gw_up σ 0 0 0) γ ord := (gw_C_up rfl hC)
                have hZ9 : (gw_up σ 0 0 0) 0 0 = 0 := rfl
                rw [hE9] at hG hC9 hZ9
                refine vx_ret (W.widen (k := 1) (n := 6) (Nat.le_of_ble_eq_true rfl) (Nat.le_of_ble_eq_true rfl) ?_)
                exact W.iret (v := σ 4 (12 * f_ + y_) - σ 5 (12 * f_ + y_) - σ 6 (12 * f_ + y_)) hx hb hr (fun t ht hW => ⟨⟨_, (hd, γ, ord), rfl, ⟨hP9, hZ9, hC9⟩, by show gw_gW D ca es A ad _ _ _ _ _ t.heap; rw [ht]; exact hG⟩, hS.F ht⟩) hS.2.2 dX1_account_106
            · skip
              refine lv_aload hx hb dX1_account_80 (lv_at hl 0 rfl) ?_
              refine gw_getN hx hb hts in_X5 hown hK (gw_c11 hG (j := 12 * f_ + y_) h38) rfl 6 (by decide) (hN.1 _ q398 rfl) (v := .int (σ 6 (12 * f_ + y_))) rfl dX1_account_82 ?_
              refine lv_goto (tgt := 106) hx hb dX1_account_85 (by decide) ?_
              have hG := gw_gW.nu (gw_gW.z (v := 0) hG) (gw_nu_up rfl).symm
              have hG := gw_gW.nu hG (show gw_nu (gw_up σ 0 0 0) = gw_nu σ from (gw_nu_up rfl))
              have hE9 : gw_up σ 0 0 0 = (gw_account σ (nI f_) (nI y_) w).2 := (by simp only [gw_account, h2, h14, hxf_, hxy_, and_self, if_true])
              have hP9 : σ 6 (12 * f_ + y_) = (gw_account σ (nI f_) (nI y_) w).1 := (by simp only [gw_account, h2, h14, hxf_, hxy_, and_self, if_true]; unfold gw_acc; rw [if_neg (fun z => (hC.2.2.2.2.1.2 _ (by omega)).mp z h38)]; simp only [c51, c64, (eq_true c77), and_true, true_and, and_false, false_and, and_self, or_true, true_or, or_false, false_or, not_true_eq_false, not_false_eq_true, if_true, if_false, ↓reduceIte]; try first | rfl | exact (if_neg (fun z => (hC.2.2.2.2.1.2 _ (by omega)).mp z h38)).symm)
              have hC9 : gw_C (gw_up σ 0 0 0) γ ord := (gw_C_up rfl hC)
              have hZ9 : (gw_up σ 0 0 0) 0 0 = 0 := rfl
              rw [hE9] at hG hC9 hZ9
              refine vx_ret (W.widen (k := 1) (n := 6) (Nat.le_of_ble_eq_true rfl) (Nat.le_of_ble_eq_true rfl) ?_)
              exact W.iret (v := σ 6 (12 * f_ + y_)) hx hb hr (fun t ht hW => ⟨⟨_, (hd, γ, ord), rfl, ⟨hP9, hZ9, hC9⟩, by show gw_gW D ca es A ad _ _ _ _ _ t.heap; rw [ht]; exact hG⟩, hS.F ht⟩) hS.2.2 dX1_account_106
          · skip
            refine lv_aload hx hb dX1_account_67 (lv_at hl 0 rfl) ?_
            refine gw_getN hx hb hts in_X5 hown hK (gw_c11 hG (j := 12 * f_ + y_) h38) rfl 5 (by decide) (hN.1 _ q396 rfl) (v := .int (σ 5 (12 * f_ + y_))) rfl dX1_account_69 ?_
            refine lv_goto (tgt := 106) hx hb dX1_account_72 (by decide) ?_
            have hG := gw_gW.nu (gw_gW.z (v := 0) hG) (gw_nu_up rfl).symm
            have hG := gw_gW.nu hG (show gw_nu (gw_up σ 0 0 0) = gw_nu σ from (gw_nu_up rfl))
            have hE9 : gw_up σ 0 0 0 = (gw_account σ (nI f_) (nI y_) w).2 := (by simp only [gw_account, h2, h14, hxf_, hxy_, and_self, if_true])
            have hP9 : σ 5 (12 * f_ + y_) = (gw_account σ (nI f_) (nI y_) w).1 := (by simp only [gw_account, h2, h14, hxf_, hxy_, and_self, if_true]; unfold gw_acc; rw [if_neg (fun z => (hC.2.2.2.2.1.2 _ (by omega)).mp z h38)]; simp only [c51, (eq_true c64), and_true, true_and, and_false, false_and, and_self, or_true, true_or, or_false, false_or, not_true_eq_false, not_false_eq_true, if_true, if_false, ↓reduceIte]; try first | rfl | exact (if_neg (fun z => (hC.2.2.2.2.1.2 _ (by omega)).mp z h38)).symm)
            have hC9 : gw_C (gw_up σ 0 0 0) γ ord := (gw_C_up rfl hC)
            have hZ9 : (gw_up σ 0 0 0) 0 0 = 0 := rfl
            rw [hE9] at hG hC9 hZ9
            refine vx_ret (W.widen (k := 1) (n := 6) (Nat.le_of_ble_eq_true rfl) (Nat.le_of_ble_eq_true rfl) ?_)
            exact W.iret (v := σ 5 (12 * f_ + y_)) hx hb hr (fun t ht hW => ⟨⟨_, (hd, γ, ord), rfl, ⟨hP9, hZ9, hC9⟩, by show gw_gW D ca es A ad _ _ _ _ _ t.heap; rw [ht]; exact hG⟩, hS.F ht⟩) hS.2.2 dX1_account_106
        · skip
          refine lv_aload hx hb dX1_account_54 (lv_at hl 0 rfl) ?_
          refine gw_getN hx hb hts in_X5 hown hK (gw_c11 hG (j := 12 * f_ + y_) h38) rfl 4 (by decide) (hN.1 _ q394 rfl) (v := .int (σ 4 (12 * f_ + y_))) rfl dX1_account_56 ?_
          refine lv_goto (tgt := 106) hx hb dX1_account_59 (by decide) ?_
          have hG := gw_gW.nu (gw_gW.z (v := 0) hG) (gw_nu_up rfl).symm
          have hG := gw_gW.nu hG (show gw_nu (gw_up σ 0 0 0) = gw_nu σ from (gw_nu_up rfl))
          have hE9 : gw_up σ 0 0 0 = (gw_account σ (nI f_) (nI y_) w).2 := (by simp only [gw_account, h2, h14, hxf_, hxy_, and_self, if_true])
          have hP9 : σ 4 (12 * f_ + y_) = (gw_account σ (nI f_) (nI y_) w).1 := (by simp only [gw_account, h2, h14, hxf_, hxy_, and_self, if_true]; unfold gw_acc; rw [if_neg (fun z => (hC.2.2.2.2.1.2 _ (by omega)).mp z h38)]; simp only [(eq_true c51), and_true, true_and, and_false, false_and, and_self, or_true, true_or, or_false, false_or, not_true_eq_false, not_false_eq_true, if_true, if_false, ↓reduceIte]; try first | rfl | exact (if_neg (fun z => (hC.2.2.2.2.1.2 _ (by omega)).mp z h38)).symm)
          have hC9 : gw_C (gw_up σ 0 0 0) γ ord := (gw_C_up rfl hC)
          have hZ9 : (gw_up σ 0 0 0) 0 0 = 0 := rfl
          rw [hE9] at hG hC9 hZ9
          refine vx_ret (W.widen (k := 1) (n := 6) (Nat.le_of_ble_eq_true rfl) (Nat.le_of_ble_eq_true rfl) ?_)
          exact W.iret (v := σ 4 (12 * f_ + y_)) hx hb hr (fun t ht hW => ⟨⟨_, (hd, γ, ord), rfl, ⟨hP9, hZ9, hC9⟩, by show gw_gW D ca es A ad _ _ _ _ _ t.heap; rw [ht]; exact hG⟩, hS.F ht⟩) hS.2.2 dX1_account_106
      · skip
        refine gw_scallr (va_Run.run (va_runV (As := [.ref (hd 10 (12 * f_ + y_))]) (rest := []) ⟨hx, hb, hml, hown, hts⟩ (gg_get l D ca es A ad hd σ γ ord (12 * f_ + y_) (by omega) hkN hKo) (cwV 1 hts (lw_V q224 q225 q226 q43 q227) rfl rfl rfl (by decide +kernel) ⟨Nat.le_of_ble_eq_true rfl, Nat.le_of_ble_eq_true rfl⟩) (gw_grecv [.ref (hd 10 (12 * f_ + y_))] gw_gPb (gw_c1 hG) rfl hK (fun U hU hW => gw_gat hU hW hG hK hE hN hA hS)) rfl rfl hl.1 rfl (lv_room (Nat.le_of_ble_eq_true rfl)) dX1_account_38 ⟨Nat.le_of_ble_eq_true rfl, Nat.le_of_ble_eq_true rfl⟩)) ?_
        refine gw_topr (y := .null) (gw_ifz h38) ?_
        refine lv_astoreN (lv' := [(4, .null), (0, .ref (ad 0 0)), (1, .int (nI f_)), (2, .int (nI y_)), (3, .int w)]) hx hb dX1_account_41 hl (by decide) rfl (fun ls hl => ?_)
        refine lv_aloadN hx hb dX1_account_43 (lv_at hl 0 rfl) ?_
        refine lv_ifnonnullN hx hb dX1_account_45 ?_
        refine lv_iconst (v := -1) hx hb dX1_account_48 (by decide) ?_
        have hG := gw_gW.nu (gw_gW.z (v := 0) hG) (gw_nu_up rfl).symm
        have hG := gw_gW.nu hG (show gw_nu (gw_up σ 0 0 0) = gw_nu σ from (gw_nu_up rfl))
        have hE9 : gw_up σ 0 0 0 = (gw_account σ (nI f_) (nI y_) w).2 := (by simp only [gw_account, h2, h14, hxf_, hxy_, and_self, if_true])
        have hP9 : -1 = (gw_account σ (nI f_) (nI y_) w).1 := (by simp only [gw_account, h2, h14, hxf_, hxy_, and_self, if_true]; exact (if_pos ((hC.2.2.2.2.1.2 _ (by omega)).mpr h38)).symm)
        have hC9 : gw_C (gw_up σ 0 0 0) γ ord := (gw_C_up rfl hC)
        have hZ9 : (gw_up σ 0 0 0) 0 0 = 0 := rfl
        rw [hE9] at hG hC9 hZ9
        refine vx_ret (W.widen (k := 1) (n := 6) (Nat.le_of_ble_eq_true rfl) (Nat.le_of_ble_eq_true rfl) ?_)
        exact W.iret (v := -1) hx hb hr (fun t ht hW => ⟨⟨_, (hd, γ, ord), rfl, ⟨hP9, hZ9, hC9⟩, by show gw_gW D ca es A ad _ _ _ _ _ t.heap; rw [ht]; exact hG⟩, hS.F ht⟩) hS.2.2 dX1_account_49
    · skip
      refine gw_scalli (va_Run.run (va_runS (As := [.long w.toInt64, .long 0, .long 4]) (rest := []) ⟨hx, hb, hml, hown, hts⟩ (gg_inRange l w.toInt64 0 4) (va_cwS 3 hts (lw_S q279 q280 q42 q281) rfl rfl rfl (by decide +kernel) ⟨Nat.le_of_ble_eq_true rfl, Nat.le_of_ble_eq_true rfl⟩) gw_spre rfl rfl hl.1 rfl (lv_room (Nat.le_of_ble_eq_true rfl)) dX1_account_14 ⟨Nat.le_of_ble_eq_true rfl, Nat.le_of_ble_eq_true rfl⟩)) ?_
      refine gw_topi (y := 0) (if_neg (gw_rgn (x := w) (by decide) (by decide) h14)) ?_
      refine lv_if_eq (tgt := 24) hx hb dX1_account_17 (by decide) (fun _ => ?_) (fun c_ => absurd c_ (by decide))
      refine lv_iconst (v := 0) hx hb dX1_account_24 (by decide) ?_
      have hF9 : (gw_account σ f y w) = gw_fail σ 1 := (by unfold gw_account; exact if_neg (fun z => h14 z.2.2))
      refine vx_callv (vx_runS (As := [.int 0]) (rest := []) ⟨hx, hb, hml, hown, hts⟩ (gg_checkArgument0 l A hlt) (va_cwS 1 hts (lw_S q284 q285 q42 q286) rfl rfl rfl (by decide +kernel) ⟨Nat.le_of_ble_eq_true rfl, Nat.le_of_ble_eq_true rfl⟩) (gw_gspre [.int 0] gw_Thb (fun U hU hW => gw_That hU hW hE hN hS)) rfl rfl hl.1 rfl (lv_room (Nat.le_of_ble_eq_true rfl)) dX1_account_25 ⟨Nat.le_of_ble_eq_true rfl, Nat.le_of_ble_eq_true rfl⟩) hS (fun _ _ h => h.elim) (fun _ h => h.elim) (fun _ _ h => h.elim) (fun E ce q9 u9 t9 H1 locs1 ht9 hA9 _ hBX hz9 hq9 hS1 hce hcv hcl => ?_) (fun u9 t9 H1 locs1 ht9 hA9 hp9 => hp9.elim)
      exact gw_out htab hlocks hce hcv hcl hF9 (by decide) hBX hG hC hq9 hS1 (Nat.le_of_ble_eq_true rfl) (Nat.le_of_ble_eq_true rfl)
  · skip
    refine gw_scalli (va_Run.run (va_runS (As := [.int f, .int y]) (rest := []) ⟨hx, hb, hml, hown, hts⟩ (gg_isPlace l f y) (va_cwS 2 hts (lw_S q275 q276 q42 q277) rfl rfl rfl (by decide +kernel) ⟨Nat.le_of_ble_eq_true rfl, Nat.le_of_ble_eq_true rfl⟩) gw_spre rfl rfl hl.1 rfl (lv_room (Nat.le_of_ble_eq_true rfl)) dX1_account_2 ⟨Nat.le_of_ble_eq_true rfl, Nat.le_of_ble_eq_true rfl⟩)) ?_
    refine gw_topi (y := 0) (if_neg h2) ?_
    refine lv_if_eq (tgt := 24) hx hb dX1_account_5 (by decide) (fun _ => ?_) (fun c_ => absurd c_ (by decide))
    refine lv_iconst (v := 0) hx hb dX1_account_24 (by decide) ?_
    have hF9 : (gw_account σ f y w) = gw_fail σ 1 := (by unfold gw_account; exact if_neg (fun z => h2 ⟨z.1, z.2.1⟩))
    refine vx_callv (vx_runS (As := [.int 0]) (rest := []) ⟨hx, hb, hml, hown, hts⟩ (gg_checkArgument0 l A hlt) (va_cwS 1 hts (lw_S q284 q285 q42 q286) rfl rfl rfl (by decide +kernel) ⟨Nat.le_of_ble_eq_true rfl, Nat.le_of_ble_eq_true rfl⟩) (gw_gspre [.int 0] gw_Thb (fun U hU hW => gw_That hU hW hE hN hS)) rfl rfl hl.1 rfl (lv_room (Nat.le_of_ble_eq_true rfl)) dX1_account_25 ⟨Nat.le_of_ble_eq_true rfl, Nat.le_of_ble_eq_true rfl⟩) hS (fun _ _ h => h.elim) (fun _ h => h.elim) (fun _ _ h => h.elim) (fun E ce q9 u9 t9 H1 locs1 ht9 hA9 _ hBX hz9 hq9 hS1 hce hcv hcl => ?_) (fun u9 t9 H1 locs1 ht9 hA9 hp9 => hp9.elim)
    exact gw_out htab hlocks hce hcv hcl hF9 (by decide) hBX hG hC hq9 hS1 (Nat.le_of_ble_eq_true rfl) (Nat.le_of_ble_eq_true rfl)
