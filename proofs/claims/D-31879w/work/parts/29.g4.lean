/-! THE CLASS 4 -/
set_option maxRecDepth 100000
set_option maxHeartbeats 4000000 in
set_option maxRecDepth 100000 in
theorem gx_about (l : Launch) (D : va_G) (ca : Nat → ClassId) (es : Nat → Nat) (A : Nat → Prop) (ad hd : Nat → Nat → Nat) (σ γ : gw_S) (ord : List Nat) (i w : Int32) (hlt : l.stackTraces = false) (hC : gw_C σ γ ord) (hJ : gw_J σ) (hJ2 : gw_J2 σ) (h22 : ∀ j, j < gw_n σ 15 → gw_s6 (σ 22 j)) (hrv : ∀ j, j < gw_n σ 15 → gw_rv σ j 10 0 0 = gw_reviews σ j) : vx_Met l yX1_about (ws_ yX1_about cX1_about 4 (some .int)) ({ frames := 7, cells := 1, slots := 6, locals := 110 }) (va_Pc [.ref (ad 0 0), .int i, .int w] (gw_gP D ca es A ad hd σ γ ord (gw_nu σ))) (gw_Qi D ca es A ad (gw_about σ i w)) (gw_XC D ca es A ad (gw_T ["java/lang/IndexOutOfBoundsException", "java/lang/IllegalArgumentException"]) (gw_about σ i w)) 1 6 A := by
  refine vx_ofW (cc := cX1_about) (maxL := 4) (ret := (some .int)) (by decide) rfl ?_
  intro p e s m args below meth c s₁ B hml htab hv
  obtain ⟨rfl, hG, hK, hE, hN, hA⟩ := hv
  have hx := B.exec
  have hb := B.bytes
  have hr := B.returns
  have hts := atoms_spec (ws := ws_ yX1_about cX1_about 4 (some .int)) B.pre
  have hts : ∀ w ∈ lw_all, w.before _ s = true := fun w h => hts w (List.mem_cons_of_mem _ h)
  have hown : s.vm.findClass RX1 = some m.cls := findClass_of_methodNamed B.named
  have hlocks := B.notSynchronized
  have hS : va_S A s.heap s.heap [] := va_S.rf
  have hl := lv_entry ([.ref (ad 0 0), .int i, .int w]) (n := 4) (Nat.le_of_ble_eq_true rfl)
  rw [lg_entry_eq]
  generalize (lg_sl ([.ref (ad 0 0), .int i, .int w]) ++ List.replicate (4 - (lg_sl ([.ref (ad 0 0), .int i, .int w])).length) Slot.unset).toArray = ls at hl ⊢
  have hl : lv_has ls 4 [(0, .ref (ad 0 0)), (1, .int i), (2, .int w)] := hl
  refine lv_aload_n hx hb dX1_about_0 rfl (lv_at hl 0 rfl) ?_
  refine lv_iload_n hx hb dX1_about_1 rfl (lv_at hl 1 rfl) ?_
  rcases Classical.em (gw_isA σ i) with h2 | h2
  · skip
    refine gw_scalli (va_Run.run (va_runV (As := [.int i]) (rest := []) ⟨hx, hb, hml, hown, hts⟩ (gg_isApplication l D ca es A ad hd σ γ ord i) (cwV 1 hts (lw_V q614 q616 qs15 q42 q617) rfl rfl rfl (by decide +kernel) ⟨Nat.le_of_ble_eq_true rfl, Nat.le_of_ble_eq_true rfl⟩) (gw_grecv [.int i] gw_gPb (gw_c0 hG) rfl hK (fun U hU hW => gw_gat hU hW hG hK hE hN hA hS)) rfl rfl hl.1 rfl (lv_room (Nat.le_of_ble_eq_true rfl)) dX1_about_2 ⟨Nat.le_of_ble_eq_true rfl, Nat.le_of_ble_eq_true rfl⟩)) ?_
    refine gw_topi (y := 1) (if_pos h2) ?_
    refine va_csv (va_Run.run (va_runS (As := [.int 1]) (rest := []) ⟨hx, hb, hml, hown, hts⟩ (gg_checkIndex1 l) (va_cwS 1 hts (lw_S q525 q526 q42 q527) rfl rfl rfl (by decide +kernel) ⟨Nat.le_of_ble_eq_true rfl, Nat.le_of_ble_eq_true rfl⟩) gw_spre rfl rfl hl.1 rfl (lv_room (Nat.le_of_ble_eq_true rfl)) dX1_about_5 ⟨Nat.le_of_ble_eq_true rfl, Nat.le_of_ble_eq_true rfl⟩)) (fun _ => ?_)
    refine lv_iload_n hx hb dX1_about_8 rfl (lv_at hl 2 rfl) ?_
    refine lv_i2l (v := w.toInt64) hx hb dX1_about_9 rfl ?_
    refine lv_lconst (v := 0) hx hb dX1_about_10 (by decide) ?_
    refine lv_ldc2 (v := 10) hx hb hown (hts _ q794) dX1_about_11 ?_
    rcases Classical.em (0 ≤ w ∧ w ≤ 10) with h14 | h14
    · skip
      refine gw_scalli (va_Run.run (va_runS (As := [.long w.toInt64, .long 0, .long 10]) (rest := []) ⟨hx, hb, hml, hown, hts⟩ (gg_inRange l w.toInt64 0 10) (va_cwS 3 hts (lw_S q279 q280 q42 q281) rfl rfl rfl (by decide +kernel) ⟨Nat.le_of_ble_eq_true rfl, Nat.le_of_ble_eq_true rfl⟩) gw_spre rfl rfl hl.1 rfl (lv_room (Nat.le_of_ble_eq_true rfl)) dX1_about_14 ⟨Nat.le_of_ble_eq_true rfl, Nat.le_of_ble_eq_true rfl⟩)) ?_
      refine gw_topi (y := 1) (if_pos (gw_rgp (x := w) (by decide) (by decide) h14)) ?_
      refine va_csv (va_Run.run (va_runS (As := [.int 1]) (rest := []) ⟨hx, hb, hml, hown, hts⟩ (gg_checkArgument1 l) (va_cwS 1 hts (lw_S q284 q285 q42 q286) rfl rfl rfl (by decide +kernel) ⟨Nat.le_of_ble_eq_true rfl, Nat.le_of_ble_eq_true rfl⟩) gw_spre rfl rfl hl.1 rfl (lv_room (Nat.le_of_ble_eq_true rfl)) dX1_about_17 ⟨Nat.le_of_ble_eq_true rfl, Nat.le_of_ble_eq_true rfl⟩)) (fun _ => ?_)
      obtain ⟨i_, hi_, rfl⟩ := gw_idx h2 hJ.n15 (by have := hJ.b15; omega)
      have hxi_ : gw_ix (nI i_) = i_ := gw_ix_nI (by have := hJ.b15; omega)
      obtain ⟨w_, hlw_, hw_, rfl⟩ := gw_rng 0 10 h14 (by decide) (by decide) (by decide)
      have hxw_ : gw_ix (nI w_) = w_ := gw_ix_nI (by omega)
      refine lv_aload_n hx hb dX1_about_20 rfl (lv_at hl 0 rfl) ?_
      refine gw_get hx hb hts in_X1 hown hK (gw_c0 hG) rfl 11 (by decide) (hts _ q111) (v := .ref (ad 5 0)) rfl dX1_about_21 ?_
      refine lv_iload_n hx hb dX1_about_24 rfl (lv_at hl 1 rfl) ?_
      refine gw_qld (i := i_) hx hb hK rfl (gw_c5 hG) (by decide) (by have := hJ.b15; omega) dX1_about_25 (v := .ref (ad 12 i_)) (gw_ifs hi_) ?_
      refine lv_astore_n (lv' := [(3, .ref (ad 12 i_)), (0, .ref (ad 0 0)), (1, .int (nI i_)), (2, .int (nI w_))]) hx hb dX1_about_26 rfl hl (by decide) rfl (fun ls hl => ?_)
      refine lv_iload_n hx hb dX1_about_27 rfl (lv_at hl 3 rfl) ?_
      rcases (show w_ = 0 ∨ w_ = 1 ∨ w_ = 2 ∨ w_ = 3 ∨ w_ = 4 ∨ w_ = 5 ∨ w_ = 6 ∨ w_ = 7 ∨ w_ = 8 ∨ w_ = 9 ∨ w_ = 10 by omega) with rfl | rfl | rfl | rfl | rfl | rfl | rfl | rfl | rfl | rfl | rfl
      · skip
        refine lv_tableIn (off := 48) (tgt := 76) hx hb dX1_about_28 (by decide) (by decide) (by decide) (by decide) ?_
        refine lv_aload_n hx hb dX1_about_76 rfl (lv_at hl 0 rfl) ?_
        refine gw_getN hx hb hts in_X8 hown hK (gw_c12 hG (j := i_) hi_) rfl 6 (by decide) (hN.1 _ q572 rfl) (v := .ref (es (gw_ix (σ 22 i_)))) rfl dX1_about_77 ?_
        refine gw_st_ordinal (h22 _ hi_) hx hb (hml.trans hl.1.symm) hts hown hE hS (Nat.le_of_ble_eq_true rfl) (Nat.le_of_ble_eq_true rfl) (by decide) ⟨Nat.le_of_ble_eq_true rfl, Nat.le_of_ble_eq_true rfl⟩ dX1_about_80 ?_
        have hG := gw_gW.nu (gw_gW.z (v := 0) hG) (gw_nu_up rfl).symm
        have hG := gw_gW.nu hG (show gw_nu (gw_up σ 0 0 0) = gw_nu σ from (gw_nu_up rfl))
        have hE9 : gw_up σ 0 0 0 = (gw_about σ (nI i_) (nI 0)).2 := (by have hw1 : (0 : Int32) ≤ nI 0 ∧ nI 0 ≤ 10 := (by decide); simp only [gw_about, (eq_true h2), hxi_, hw1, and_self, if_true]; try first | rfl | (show _ = gw_resFor σ i_; simp only [gw_resFor, if_true, if_false]))
        have hP9 : σ 22 i_ = (gw_about σ (nI i_) (nI 0)).1 := (by have hw1 : (0 : Int32) ≤ nI 0 ∧ nI 0 ≤ 10 := (by decide); simp only [gw_about, (eq_true h2), hxi_, hw1, and_self, if_true]; try first | rfl | (show _ = gw_resFor σ i_; simp only [gw_resFor, if_true, if_false]))
        have hC9 : gw_C (gw_up σ 0 0 0) γ ord := (gw_C_up rfl hC)
        have hZ9 : (gw_up σ 0 0 0) 0 0 = 0 := rfl
        rw [hE9] at hG hC9 hZ9
        refine vx_ret (W.widen (k := 1) (n := 6) (Nat.le_of_ble_eq_true rfl) (Nat.le_of_ble_eq_true rfl) ?_)
        exact W.iret (v := σ 22 i_) hx hb hr (fun t ht hW => ⟨⟨_, (hd, γ, ord), rfl, ⟨hP9, hZ9, hC9⟩, by show gw_gW D ca es A ad _ _ _ _ _ t.heap; rw [ht]; exact hG⟩, hS.F ht⟩) hS.2.2 dX1_about_83
      · skip
        refine lv_tableIn (off := 56) (tgt := 84) hx hb dX1_about_28 (by decide) (by decide) (by decide) (by decide) ?_
        refine lv_aload_n hx hb dX1_about_84 rfl (lv_at hl 0 rfl) ?_
        refine gw_getN hx hb hts in_X8 hown hK (gw_c12 hG (j := i_) hi_) rfl 7 (by decide) (hN.1 _ q574 rfl) (v := .int (σ 20 i_)) rfl dX1_about_85 ?_
        have hG := gw_gW.nu (gw_gW.z (v := 0) hG) (gw_nu_up rfl).symm
        have hG := gw_gW.nu hG (show gw_nu (gw_up σ 0 0 0) = gw_nu σ from (gw_nu_up rfl))
        have hE9 : gw_up σ 0 0 0 = (gw_about σ (nI i_) (nI 1)).2 := (by have hw1 : (0 : Int32) ≤ nI 1 ∧ nI 1 ≤ 10 := (by decide); simp only [gw_about, (eq_true h2), hxi_, hw1, and_self, if_true]; try first | rfl | (show _ = gw_resFor σ i_; simp only [gw_resFor, if_true, if_false]))
        have hP9 : σ 20 i_ = (gw_about σ (nI i_) (nI 1)).1 := (by have hw1 : (0 : Int32) ≤ nI 1 ∧ nI 1 ≤ 10 := (by decide); simp only [gw_about, (eq_true h2), hxi_, hw1, and_self, if_true]; try first | rfl | (show _ = gw_resFor σ i_; simp only [gw_resFor, if_true, if_false]))
        have hC9 : gw_C (gw_up σ 0 0 0) γ ord := (gw_C_up rfl hC)
        have hZ9 : (gw_up σ 0 0 0) 0 0 = 0 := rfl
        rw [hE9] at hG hC9 hZ9
        refine vx_ret (W.widen (k := 1) (n := 6) (Nat.le_of_ble_eq_true rfl) (Nat.le_of_ble_eq_true rfl) ?_)
        exact W.iret (v := σ 20 i_) hx hb hr (fun t ht hW => ⟨⟨_, (hd, γ, ord), rfl, ⟨hP9, hZ9, hC9⟩, by show gw_gW D ca es A ad _ _ _ _ _ t.heap; rw [ht]; exact hG⟩, hS.F ht⟩) hS.2.2 dX1_about_88
      · skip
        refine lv_tableIn (off := 61) (tgt := 89) hx hb dX1_about_28 (by decide) (by decide) (by decide) (by decide) ?_
        refine lv_aload_n hx hb dX1_about_89 rfl (lv_at hl 0 rfl) ?_
        refine gw_getN hx hb hts in_X8 hown hK (gw_c12 hG (j := i_) hi_) rfl 8 (by decide) (hN.1 _ q576 rfl) (v := .int (σ 21 i_)) rfl dX1_about_90 ?_
        have hG := gw_gW.nu (gw_gW.z (v := 0) hG) (gw_nu_up rfl).symm
        have hG := gw_gW.nu hG (show gw_nu (gw_up σ 0 0 0) = gw_nu σ from (gw_nu_up rfl))
        have hE9 : gw_up σ 0 0 0 = (gw_about σ (nI i_) (nI 2)).2 := (by have hw1 : (0 : Int32) ≤ nI 2 ∧ nI 2 ≤ 10 := (by decide); simp only [gw_about, (eq_true h2), hxi_, hw1, and_self, if_true]; try first | rfl | (show _ = gw_resFor σ i_; simp only [gw_resFor, if_true, if_false]))
        have hP9 : σ 21 i_ = (gw_about σ (nI i_) (nI 2)).1 := (by have hw1 : (0 : Int32) ≤ nI 2 ∧ nI 2 ≤ 10 := (by decide); simp only [gw_about, (eq_true h2), hxi_, hw1, and_self, if_true]; try first | rfl | (show _ = gw_resFor σ i_; simp only [gw_resFor, if_true, if_false]))
        have hC9 : gw_C (gw_up σ 0 0 0) γ ord := (gw_C_up rfl hC)
        have hZ9 : (gw_up σ 0 0 0) 0 0 = 0 := rfl
        rw [hE9] at hG hC9 hZ9
        refine vx_ret (W.widen (k := 1) (n := 6) (Nat.le_of_ble_eq_true rfl) (Nat.le_of_ble_eq_true rfl) ?_)
        exact W.iret (v := σ 21 i_) hx hb hr (fun t ht hW => ⟨⟨_, (hd, γ, ord), rfl, ⟨hP9, hZ9, hC9⟩, by show gw_gW D ca es A ad _ _ _ _ _ t.heap; rw [ht]; exact hG⟩, hS.F ht⟩) hS.2.2 dX1_about_93
      · skip
        refine lv_tableIn (off := 66) (tgt := 94) hx hb dX1_about_28 (by decide) (by decide) (by decide) (by decide) ?_
        refine lv_aload_n hx hb dX1_about_94 rfl (lv_at hl 1 rfl) ?_
        refine lv_aload_n hx hb dX1_about_95 rfl (lv_at hl 0 rfl) ?_
        refine gw_scalli (va_Run.run (va_runV (As := [.ref (ad 12 i_)]) (rest := []) ⟨hx, hb, hml, hown, hts⟩ (gg_scoreOf l D ca es A ad hd σ γ ord i_ hJ hi_ (hrv _ hi_)) (cwV 1 hts (lw_V q682 q684 qs19 q42 q685) rfl rfl rfl (by decide +kernel) ⟨Nat.le_of_ble_eq_true rfl, Nat.le_of_ble_eq_true rfl⟩) (gw_grecv [.ref (ad 12 i_)] gw_gPb (gw_c0 hG) rfl hK (fun U hU hW => gw_gat hU hW hG hK hE hN hA hS)) rfl rfl hl.1 rfl (lv_room (Nat.le_of_ble_eq_true rfl)) dX1_about_96 ⟨Nat.le_of_ble_eq_true rfl, Nat.le_of_ble_eq_true rfl⟩)) ?_
        have hG := gw_gW.nu (gw_gW.z (v := 0) hG) (gw_nu_up rfl).symm
        have hG := gw_gW.nu hG (show gw_nu (gw_up σ 0 0 0) = gw_nu σ from (gw_nu_up rfl))
        have hE9 : gw_up σ 0 0 0 = (gw_about σ (nI i_) (nI 3)).2 := (by have hw1 : (0 : Int32) ≤ nI 3 ∧ nI 3 ≤ 10 := (by decide); simp only [gw_about, (eq_true h2), hxi_, hw1, and_self, if_true]; try first | rfl | (show _ = gw_resFor σ i_; simp only [gw_resFor, if_true, if_false]))
        have hP9 : gw_score σ i_ = (gw_about σ (nI i_) (nI 3)).1 := (by have hw1 : (0 : Int32) ≤ nI 3 ∧ nI 3 ≤ 10 := (by decide); simp only [gw_about, (eq_true h2), hxi_, hw1, and_self, if_true]; try first | rfl | (show _ = gw_resFor σ i_; simp only [gw_resFor, if_true, if_false]))
        have hC9 : gw_C (gw_up σ 0 0 0) γ ord := (gw_C_up rfl hC)
        have hZ9 : (gw_up σ 0 0 0) 0 0 = 0 := rfl
        rw [hE9] at hG hC9 hZ9
        refine vx_ret (W.widen (k := 1) (n := 6) (Nat.le_of_ble_eq_true rfl) (Nat.le_of_ble_eq_true rfl) ?_)
        exact W.iret (v := gw_score σ i_) hx hb hr (fun t ht hW => ⟨⟨_, (hd, γ, ord), rfl, ⟨hP9, hZ9, hC9⟩, by show gw_gW D ca es A ad _ _ _ _ _ t.heap; rw [ht]; exact hG⟩, hS.F ht⟩) hS.2.2 dX1_about_99
      · skip
        refine lv_tableIn (off := 72) (tgt := 100) hx hb dX1_about_28 (by decide) (by decide) (by decide) (by decide) ?_
        refine lv_aload_n hx hb dX1_about_100 rfl (lv_at hl 0 rfl) ?_
        refine gw_scalli (va_Run.run (va_runV (As := []) (rest := []) ⟨hx, hb, hml, hown, hts⟩ (gg_reviewCount l D ca es A ad hd σ γ ord i_ hJ hi_) (cwV 0 hts (lw_V q686 q687 q688 q59 q689) rfl rfl rfl (by decide +kernel) ⟨Nat.le_of_ble_eq_true rfl, Nat.le_of_ble_eq_true rfl⟩) (gw_grecv [] gw_gPb (gw_c12 hG (j := i_) hi_) rfl hK (fun U hU hW => gw_gat hU hW hG hK hE hN hA hS)) rfl rfl hl.1 rfl (lv_room (Nat.le_of_ble_eq_true rfl)) dX1_about_101 ⟨Nat.le_of_ble_eq_true rfl, Nat.le_of_ble_eq_true rfl⟩)) ?_
        refine gw_topi (y := gw_reviews σ i_) (hrv _ hi_) ?_
        have hG := gw_gW.nu (gw_gW.z (v := 0) hG) (gw_nu_up rfl).symm
        have hG := gw_gW.nu hG (show gw_nu (gw_up σ 0 0 0) = gw_nu σ from (gw_nu_up rfl))
        have hE9 : gw_up σ 0 0 0 = (gw_about σ (nI i_) (nI 4)).2 := (by have hw1 : (0 : Int32) ≤ nI 4 ∧ nI 4 ≤ 10 := (by decide); simp only [gw_about, (eq_true h2), hxi_, hw1, and_self, if_true]; try first | rfl | (show _ = gw_resFor σ i_; simp only [gw_resFor, if_true, if_false]))
        have hP9 : gw_reviews σ i_ = (gw_about σ (nI i_) (nI 4)).1 := (by have hw1 : (0 : Int32) ≤ nI 4 ∧ nI 4 ≤ 10 := (by decide); simp only [gw_about, (eq_true h2), hxi_, hw1, and_self, if_true]; try first | rfl | (show _ = gw_resFor σ i_; simp only [gw_resFor, if_true, if_false]))
        have hC9 : gw_C (gw_up σ 0 0 0) γ ord := (gw_C_up rfl hC)
        have hZ9 : (gw_up σ 0 0 0) 0 0 = 0 := rfl
        rw [hE9] at hG hC9 hZ9
        refine vx_ret (W.widen (k := 1) (n := 6) (Nat.le_of_ble_eq_true rfl) (Nat.le_of_ble_eq_true rfl) ?_)
        exact W.iret (v := gw_reviews σ i_) hx hb hr (fun t ht hW => ⟨⟨_, (hd, γ, ord), rfl, ⟨hP9, hZ9, hC9⟩, by show gw_gW D ca es A ad _ _ _ _ _ t.heap; rw [ht]; exact hG⟩, hS.F ht⟩) hS.2.2 dX1_about_104
      · skip
        refine lv_tableIn (off := 77) (tgt := 105) hx hb dX1_about_28 (by decide) (by decide) (by decide) (by decide) ?_
        refine lv_aload_n hx hb dX1_about_105 rfl (lv_at hl 0 rfl) ?_
        refine gw_getN hx hb hts in_X8 hown hK (gw_c12 hG (j := i_) hi_) rfl 9 (by decide) (hN.1 _ q578 rfl) (v := .int (σ 23 i_)) rfl dX1_about_106 ?_
        have hG := gw_gW.nu (gw_gW.z (v := 0) hG) (gw_nu_up rfl).symm
        have hG := gw_gW.nu hG (show gw_nu (gw_up σ 0 0 0) = gw_nu σ from (gw_nu_up rfl))
        have hE9 : gw_up σ 0 0 0 = (gw_about σ (nI i_) (nI 5)).2 := (by have hw1 : (0 : Int32) ≤ nI 5 ∧ nI 5 ≤ 10 := (by decide); simp only [gw_about, (eq_true h2), hxi_, hw1, and_self, if_true]; try first | rfl | (show _ = gw_resFor σ i_; simp only [gw_resFor, if_true, if_false]))
        have hP9 : σ 23 i_ = (gw_about σ (nI i_) (nI 5)).1 := (by have hw1 : (0 : Int32) ≤ nI 5 ∧ nI 5 ≤ 10 := (by decide); simp only [gw_about, (eq_true h2), hxi_, hw1, and_self, if_true]; try first | rfl | (show _ = gw_resFor σ i_; simp only [gw_resFor, if_true, if_false]))
        have hC9 : gw_C (gw_up σ 0 0 0) γ ord := (gw_C_up rfl hC)
        have hZ9 : (gw_up σ 0 0 0) 0 0 = 0 := rfl
        rw [hE9] at hG hC9 hZ9
        refine vx_ret (W.widen (k := 1) (n := 6) (Nat.le_of_ble_eq_true rfl) (Nat.le_of_ble_eq_true rfl) ?_)
        exact W.iret (v := σ 23 i_) hx hb hr (fun t ht hW => ⟨⟨_, (hd, γ, ord), rfl, ⟨hP9, hZ9, hC9⟩, by show gw_gW D ca es A ad _ _ _ _ _ t.heap; rw [ht]; exact hG⟩, hS.F ht⟩) hS.2.2 dX1_about_109
      · skip
        refine lv_tableIn (off := 82) (tgt := 110) hx hb dX1_about_28 (by decide) (by decide) (by decide) (by decide) ?_
        refine lv_aload_n hx hb dX1_about_110 rfl (lv_at hl 0 rfl) ?_
        refine gw_getN hx hb hts in_X8 hown hK (gw_c12 hG (j := i_) hi_) rfl 10 (by decide) (hN.1 _ q579 rfl) (v := .int (σ 24 i_)) rfl dX1_about_111 ?_
        have hG := gw_gW.nu (gw_gW.z (v := 0) hG) (gw_nu_up rfl).symm
        have hG := gw_gW.nu hG (show gw_nu (gw_up σ 0 0 0) = gw_nu σ from (gw_nu_up rfl))
        have hE9 : gw_up σ 0 0 0 = (gw_about σ (nI i_) (nI 6)).2 := (by have hw1 : (0 : Int32) ≤ nI 6 ∧ nI 6 ≤ 10 := (by decide); simp only [gw_about, (eq_true h2), hxi_, hw1, and_self, if_true]; try first | rfl | (show _ = gw_resFor σ i_; simp only [gw_resFor, if_true, if_false]))
        have hP9 : σ 24 i_ = (gw_about σ (nI i_) (nI 6)).1 := (by have hw1 : (0 : Int32) ≤ nI 6 ∧ nI 6 ≤ 10 := (by decide); simp only [gw_about, (eq_true h2), hxi_, hw1, and_self, if_true]; try first | rfl | (show _ = gw_resFor σ i_; simp only [gw_resFor, if_true, if_false]))
        have hC9 : gw_C (gw_up σ 0 0 0) γ ord := (gw_C_up rfl hC)
        have hZ9 : (gw_up σ 0 0 0) 0 0 = 0 := rfl
        rw [hE9] at hG hC9 hZ9
        refine vx_ret (W.widen (k := 1) (n := 6) (Nat.le_of_ble_eq_true rfl) (Nat.le_of_ble_eq_true rfl) ?_)
        exact W.iret (v := σ 24 i_) hx hb hr (fun t ht hW => ⟨⟨_, (hd, γ, ord), rfl, ⟨hP9, hZ9, hC9⟩, by show gw_gW D ca es A ad _ _ _ _ _ t.heap; rw [ht]; exact hG⟩, hS.F ht⟩) hS.2.2 dX1_about_114
      · skip
        refine lv_tableIn (off := 87) (tgt := 115) hx hb dX1_about_28 (by decide) (by decide) (by decide) (by decide) ?_
        refine lv_aload_n hx hb dX1_about_115 rfl (lv_at hl 0 rfl) ?_
        refine gw_getN hx hb hts in_X8 hown hK (gw_c12 hG (j := i_) hi_) rfl 6 (by decide) (hN.1 _ q572 rfl) (v := .ref (es (gw_ix (σ 22 i_)))) rfl dX1_about_116 ?_
        rcases Classical.em (σ 22 i_ = 2) with h119 | h119
        · skip
          refine gw_st_isReserved (h22 _ hi_) hx hb (hml.trans hl.1.symm) hts hown hE hN hS (Nat.le_of_ble_eq_true rfl) (Nat.le_of_ble_eq_true rfl) dX1_about_119 ?_
          refine gw_topi (y := 1) (if_pos h119) ?_
          refine lv_if_eq (tgt := 132) hx hb dX1_about_122 (by decide) (fun c_ => absurd c_ (by decide)) (fun _ => ?_)
          refine lv_aload_n hx hb dX1_about_125 rfl (lv_at hl 0 rfl) ?_
          refine gw_scalli (va_Run.run (va_runV (As := []) (rest := []) ⟨hx, hb, hml, hown, hts⟩ (gg_toCome l D ca es A ad hd σ γ ord i_ hi_ (hJ2 i_ hi_).1 (hJ2 i_ hi_).2.1) (cwV 0 hts (lw_V q258 q259 q260 q59 q261) rfl rfl rfl (by decide +kernel) ⟨Nat.le_of_ble_eq_true rfl, Nat.le_of_ble_eq_true rfl⟩) (gw_grecv [] gw_gPb (gw_c12 hG (j := i_) hi_) rfl hK (fun U hU hW => gw_gat hU hW hG hK hE hN hA hS)) rfl rfl hl.1 rfl (lv_room (Nat.le_of_ble_eq_true rfl)) dX1_about_126 ⟨Nat.le_of_ble_eq_true rfl, Nat.le_of_ble_eq_true rfl⟩)) ?_
          refine lv_goto (tgt := 133) hx hb dX1_about_129 (by decide) ?_
          have hG := gw_gW.nu (gw_gW.z (v := 0) hG) (gw_nu_up rfl).symm
          have hG := gw_gW.nu hG (show gw_nu (gw_up σ 0 0 0) = gw_nu σ from (gw_nu_up rfl))
          have hE9 : gw_up σ 0 0 0 = (gw_about σ (nI i_) (nI 7)).2 := (by have hw1 : (0 : Int32) ≤ nI 7 ∧ nI 7 ≤ 10 := (by decide); simp only [gw_about, (eq_true h2), hxi_, hw1, and_self, if_true]; try first | rfl | (show _ = gw_resFor σ i_; simp only [gw_resFor, (eq_true h119), if_true, if_false]))
          have hP9 : gw_rf σ i_ (3 - gw_ix (σ 23 i_)) (gw_ix (σ 23 i_)) 0 = (gw_about σ (nI i_) (nI 7)).1 := (by have hw1 : (0 : Int32) ≤ nI 7 ∧ nI 7 ≤ 10 := (by decide); simp only [gw_about, (eq_true h2), hxi_, hw1, and_self, if_true]; try first | rfl | (show _ = gw_resFor σ i_; simp only [gw_resFor, (eq_true h119), if_true, if_false]))
          have hC9 : gw_C (gw_up σ 0 0 0) γ ord := (gw_C_up rfl hC)
          have hZ9 : (gw_up σ 0 0 0) 0 0 = 0 := rfl
          rw [hE9] at hG hC9 hZ9
          refine vx_ret (W.widen (k := 1) (n := 6) (Nat.le_of_ble_eq_true rfl) (Nat.le_of_ble_eq_true rfl) ?_)
          exact W.iret (v := gw_rf σ i_ (3 - gw_ix (σ 23 i_)) (gw_ix (σ 23 i_)) 0) hx hb hr (fun t ht hW => ⟨⟨_, (hd, γ, ord), rfl, ⟨hP9, hZ9, hC9⟩, by show gw_gW D ca es A ad _ _ _ _ _ t.heap; rw [ht]; exact hG⟩, hS.F ht⟩) hS.2.2 dX1_about_133
        · skip
          refine gw_st_isReserved (h22 _ hi_) hx hb (hml.trans hl.1.symm) hts hown hE hN hS (Nat.le_of_ble_eq_true rfl) (Nat.le_of_ble_eq_true rfl) dX1_about_119 ?_
          refine gw_topi (y := 0) (if_neg h119) ?_
          refine lv_if_eq (tgt := 132) hx hb dX1_about_122 (by decide) (fun _ => ?_) (fun c_ => absurd c_ (by decide))
          refine lv_iconst (v := 0) hx hb dX1_about_132 (by decide) ?_
          have hG := gw_gW.nu (gw_gW.z (v := 0) hG) (gw_nu_up rfl).symm
          have hG := gw_gW.nu hG (show gw_nu (gw_up σ 0 0 0) = gw_nu σ from (gw_nu_up rfl))
          have hE9 : gw_up σ 0 0 0 = (gw_about σ (nI i_) (nI 7)).2 := (by have hw1 : (0 : Int32) ≤ nI 7 ∧ nI 7 ≤ 10 := (by decide); simp only [gw_about, (eq_true h2), hxi_, hw1, and_self, if_true]; try first | rfl | (show _ = gw_resFor σ i_; simp only [gw_resFor, h119, if_true, if_false]))
          have hP9 : 0 = (gw_about σ (nI i_) (nI 7)).1 := (by have hw1 : (0 : Int32) ≤ nI 7 ∧ nI 7 ≤ 10 := (by decide); simp only [gw_about, (eq_true h2), hxi_, hw1, and_self, if_true]; try first | rfl | (show _ = gw_resFor σ i_; simp only [gw_resFor, h119, if_true, if_false]))
          have hC9 : gw_C (gw_up σ 0 0 0) γ ord := (gw_C_up rfl hC)
          have hZ9 : (gw_up σ 0 0 0) 0 0 = 0 := rfl
          rw [hE9] at hG hC9 hZ9
          refine vx_ret (W.widen (k := 1) (n := 6) (Nat.le_of_ble_eq_true rfl) (Nat.le_of_ble_eq_true rfl) ?_)
          exact W.iret (v := 0) hx hb hr (fun t ht hW => ⟨⟨_, (hd, γ, ord), rfl, ⟨hP9, hZ9, hC9⟩, by show gw_gW D ca es A ad _ _ _ _ _ t.heap; rw [ht]; exact hG⟩, hS.F ht⟩) hS.2.2 dX1_about_133
      · skip
        refine lv_tableOut (tgt := 134) hx hb dX1_about_28 (by decide) (by decide) ?_
        refine lv_aload_n hx hb dX1_about_134 rfl (lv_at hl 0 rfl) ?_
        refine gw_getN hx hb hts in_X8 hown hK (gw_c12 hG (j := i_) hi_) rfl 4 (by decide) (hN.1 _ q568 rfl) (v := .ref (ad 13 i_)) rfl dX1_about_135 ?_
        refine lv_iload_n hx hb dX1_about_138 rfl (lv_at hl 3 rfl) ?_
        refine lv_bipush (v := 8) hx hb dX1_about_139 (by decide) ?_
        refine lv_isub hx hb dX1_about_141 ?_
        refine gw_topi (y := nI 0) (by decide) ?_
        refine gw_askld (i := 0) (j := i_) hx hb hK hG hi_ (by decide) dX1_about_142 (v := σ 19 ((3 * i_) + 0)) rfl ?_
        have hG := gw_gW.nu (gw_gW.z (v := 0) hG) (gw_nu_up rfl).symm
        have hG := gw_gW.nu hG (show gw_nu (gw_up σ 0 0 0) = gw_nu σ from (gw_nu_up rfl))
        have hE9 : gw_up σ 0 0 0 = (gw_about σ (nI i_) (nI 8)).2 := (by have hw1 : (0 : Int32) ≤ nI 8 ∧ nI 8 ≤ 10 := (by decide); simp only [gw_about, (eq_true h2), hxi_, hw1, and_self, if_true]; try first | rfl | (show _ = gw_resFor σ i_; simp only [gw_resFor, if_true, if_false]))
        have hP9 : σ 19 ((3 * i_) + 0) = (gw_about σ (nI i_) (nI 8)).1 := (by have hw1 : (0 : Int32) ≤ nI 8 ∧ nI 8 ≤ 10 := (by decide); simp only [gw_about, (eq_true h2), hxi_, hw1, and_self, if_true]; try first | rfl | (show _ = gw_resFor σ i_; simp only [gw_resFor, if_true, if_false]))
        have hC9 : gw_C (gw_up σ 0 0 0) γ ord := (gw_C_up rfl hC)
        have hZ9 : (gw_up σ 0 0 0) 0 0 = 0 := rfl
        rw [hE9] at hG hC9 hZ9
        refine vx_ret (W.widen (k := 1) (n := 6) (Nat.le_of_ble_eq_true rfl) (Nat.le_of_ble_eq_true rfl) ?_)
        exact W.iret (v := σ 19 ((3 * i_) + 0)) hx hb hr (fun t ht hW => ⟨⟨_, (hd, γ, ord), rfl, ⟨hP9, hZ9, hC9⟩, by show gw_gW D ca es A ad _ _ _ _ _ t.heap; rw [ht]; exact hG⟩, hS.F ht⟩) hS.2.2 dX1_about_143
      · skip
        refine lv_tableOut (tgt := 134) hx hb dX1_about_28 (by decide) (by decide) ?_
        refine lv_aload_n hx hb dX1_about_134 rfl (lv_at hl 0 rfl) ?_
        refine gw_getN hx hb hts in_X8 hown hK (gw_c12 hG (j := i_) hi_) rfl 4 (by decide) (hN.1 _ q568 rfl) (v := .ref (ad 13 i_)) rfl dX1_about_135 ?_
        refine lv_iload_n hx hb dX1_about_138 rfl (lv_at hl 3 rfl) ?_
        refine lv_bipush (v := 8) hx hb dX1_about_139 (by decide) ?_
        refine lv_isub hx hb dX1_about_141 ?_
        refine gw_topi (y := nI 1) (by decide) ?_
        refine gw_askld (i := 1) (j := i_) hx hb hK hG hi_ (by decide) dX1_about_142 (v := σ 19 ((3 * i_) + 1)) rfl ?_
        have hG := gw_gW.nu (gw_gW.z (v := 0) hG) (gw_nu_up rfl).symm
        have hG := gw_gW.nu hG (show gw_nu (gw_up σ 0 0 0) = gw_nu σ from (gw_nu_up rfl))
        have hE9 : gw_up σ 0 0 0 = (gw_about σ (nI i_) (nI 9)).2 := (by have hw1 : (0 : Int32) ≤ nI 9 ∧ nI 9 ≤ 10 := (by decide); simp only [gw_about, (eq_true h2), hxi_, hw1, and_self, if_true]; try first | rfl | (show _ = gw_resFor σ i_; simp only [gw_resFor, if_true, if_false]))
        have hP9 : σ 19 ((3 * i_) + 1) = (gw_about σ (nI i_) (nI 9)).1 := (by have hw1 : (0 : Int32) ≤ nI 9 ∧ nI 9 ≤ 10 := (by decide); simp only [gw_about, (eq_true h2), hxi_, hw1, and_self, if_true]; try first | rfl | (show _ = gw_resFor σ i_; simp only [gw_resFor, if_true, if_false]))
        have hC9 : gw_C (gw_up σ 0 0 0) γ ord := (gw_C_up rfl hC)
        have hZ9 : (gw_up σ 0 0 0) 0 0 = 0 := rfl
        rw [hE9] at hG hC9 hZ9
        refine vx_ret (W.widen (k := 1) (n := 6) (Nat.le_of_ble_eq_true rfl) (Nat.le_of_ble_eq_true rfl) ?_)
        exact W.iret (v := σ 19 ((3 * i_) + 1)) hx hb hr (fun t ht hW => ⟨⟨_, (hd, γ, ord), rfl, ⟨hP9, hZ9, hC9⟩, by show gw_gW D ca es A ad _ _ _ _ _ t.heap; rw [ht]; exact hG⟩, hS.F ht⟩) hS.2.2 dX1_about_143
      · skip
        refine lv_tableOut (tgt := 134) hx hb dX1_about_28 (by decide) (by decide) ?_
        refine lv_aload_n hx hb dX1_about_134 rfl (lv_at hl 0 rfl) ?_
        refine gw_getN hx hb hts in_X8 hown hK (gw_c12 hG (j := i_) hi_) rfl 4 (by decide) (hN.1 _ q568 rfl) (v := .ref (ad 13 i_)) rfl dX1_about_135 ?_
        refine lv_iload_n hx hb dX1_about_138 rfl (lv_at hl 3 rfl) ?_
        refine lv_bipush (v := 8) hx hb dX1_about_139 (by decide) ?_
        refine lv_isub hx hb dX1_about_141 ?_
        refine gw_topi (y := nI 2) (by decide) ?_
        refine gw_askld (i := 2) (j := i_) hx hb hK hG hi_ (by decide) dX1_about_142 (v := σ 19 ((3 * i_) + 2)) rfl ?_
        have hG := gw_gW.nu (gw_gW.z (v := 0) hG) (gw_nu_up rfl).symm
        have hG := gw_gW.nu hG (show gw_nu (gw_up σ 0 0 0) = gw_nu σ from (gw_nu_up rfl))
        have hE9 : gw_up σ 0 0 0 = (gw_about σ (nI i_) (nI 10)).2 := (by have hw1 : (0 : Int32) ≤ nI 10 ∧ nI 10 ≤ 10 := (by decide); simp only [gw_about, (eq_true h2), hxi_, hw1, and_self, if_true]; try first | rfl | (show _ = gw_resFor σ i_; simp only [gw_resFor, if_true, if_false]))
        have hP9 : σ 19 ((3 * i_) + 2) = (gw_about σ (nI i_) (nI 10)).1 := (by have hw1 : (0 : Int32) ≤ nI 10 ∧ nI 10 ≤ 10 := (by decide); simp only [gw_about, (eq_true h2), hxi_, hw1, and_self, if_true]; try first | rfl | (show _ = gw_resFor σ i_; simp only [gw_resFor, if_true, if_false]))
        have hC9 : gw_C (gw_up σ 0 0 0) γ ord := (gw_C_up rfl hC)
        have hZ9 : (gw_up σ 0 0 0) 0 0 = 0 := rfl
        rw [hE9] at hG hC9 hZ9
        refine vx_ret (W.widen (k := 1) (n := 6) (Nat.le_of_ble_eq_true rfl) (Nat.le_of_ble_eq_true rfl) ?_)
        exact W.iret (v := σ 19 ((3 * i_) + 2)) hx hb hr (fun t ht hW => ⟨⟨_, (hd, γ, ord), rfl, ⟨hP9, hZ9, hC9⟩, by show gw_gW D ca es A ad _ _ _ _ _ t.heap; rw [ht]; exact hG⟩, hS.F ht⟩) hS.2.2 dX1_about_143
    · skip
      refine gw_scalli (va_Run.run (va_runS (As := [.long w.toInt64, .long 0, .long 10]) (rest := []) ⟨hx, hb, hml, hown, hts⟩ (gg_inRange l w.toInt64 0 10) (va_cwS 3 hts (lw_S q279 q280 q42 q281) rfl rfl rfl (by decide +kernel) ⟨Nat.le_of_ble_eq_true rfl, Nat.le_of_ble_eq_true rfl⟩) gw_spre rfl rfl hl.1 rfl (lv_room (Nat.le_of_ble_eq_true rfl)) dX1_about_14 ⟨Nat.le_of_ble_eq_true rfl, Nat.le_of_ble_eq_true rfl⟩)) ?_
      refine gw_topi (y := 0) (if_neg (gw_rgn (x := w) (by decide) (by decide) h14)) ?_
      have hF9 : (gw_about σ i w) = gw_fail σ 2 := (by simp only [gw_about, gw_fail, (eq_true h2), h14, and_true, true_and, and_false, false_and, and_self, or_true, true_or, or_false, false_or, not_true_eq_false, not_false_eq_true, if_true, if_false, ↓reduceIte]; try rfl)
      refine vx_callv (vx_runS (As := [.int 0]) (rest := []) ⟨hx, hb, hml, hown, hts⟩ (gg_checkArgument0 l A hlt) (va_cwS 1 hts (lw_S q284 q285 q42 q286) rfl rfl rfl (by decide +kernel) ⟨Nat.le_of_ble_eq_true rfl, Nat.le_of_ble_eq_true rfl⟩) (gw_gspre [.int 0] gw_Thb (fun U hU hW => gw_That hU hW hE hN hS)) rfl rfl hl.1 rfl (lv_room (Nat.le_of_ble_eq_true rfl)) dX1_about_17 ⟨Nat.le_of_ble_eq_true rfl, Nat.le_of_ble_eq_true rfl⟩) hS (fun _ _ h => h.elim) (fun _ h => h.elim) (fun _ _ h => h.elim) (fun E ce q9 u9 t9 H1 locs1 ht9 hA9 _ hBX hz9 hq9 hS1 hce hcv hcl => ?_) (fun u9 t9 H1 locs1 ht9 hA9 hp9 => hp9.elim)
      exact gw_out htab hlocks hce hcv hcl hF9 (by decide) hBX hG hC hq9 hS1 (Nat.le_of_ble_eq_true rfl) (Nat.le_of_ble_eq_true rfl)
  · skip
    refine gw_scalli (va_Run.run (va_runV (As := [.int i]) (rest := []) ⟨hx, hb, hml, hown, hts⟩ (gg_isApplication l D ca es A ad hd σ γ ord i) (cwV 1 hts (lw_V q614 q616 qs15 q42 q617) rfl rfl rfl (by decide +kernel) ⟨Nat.le_of_ble_eq_true rfl, Nat.le_of_ble_eq_true rfl⟩) (gw_grecv [.int i] gw_gPb (gw_c0 hG) rfl hK (fun U hU hW => gw_gat hU hW hG hK hE hN hA hS)) rfl rfl hl.1 rfl (lv_room (Nat.le_of_ble_eq_true rfl)) dX1_about_2 ⟨Nat.le_of_ble_eq_true rfl, Nat.le_of_ble_eq_true rfl⟩)) ?_
    refine gw_topi (y := 0) (if_neg h2) ?_
    have hF9 : (gw_about σ i w) = gw_fail σ 1 := (by simp only [gw_about, gw_fail, (eq_false h2), and_true, true_and, and_false, false_and, and_self, or_true, true_or, or_false, false_or, not_true_eq_false, not_false_eq_true, if_true, if_false, ↓reduceIte]; try rfl)
    refine vx_callv (vx_runS (As := [.int 0]) (rest := []) ⟨hx, hb, hml, hown, hts⟩ (gg_checkIndex0 l A hlt) (va_cwS 1 hts (lw_S q525 q526 q42 q527) rfl rfl rfl (by decide +kernel) ⟨Nat.le_of_ble_eq_true rfl, Nat.le_of_ble_eq_true rfl⟩) (gw_gspre [.int 0] gw_Thb (fun U hU hW => gw_That hU hW hE hN hS)) rfl rfl hl.1 rfl (lv_room (Nat.le_of_ble_eq_true rfl)) dX1_about_5 ⟨Nat.le_of_ble_eq_true rfl, Nat.le_of_ble_eq_true rfl⟩) hS (fun _ _ h => h.elim) (fun _ h => h.elim) (fun _ _ h => h.elim) (fun E ce q9 u9 t9 H1 locs1 ht9 hA9 _ hBX hz9 hq9 hS1 hce hcv hcl => ?_) (fun u9 t9 H1 locs1 ht9 hA9 hp9 => hp9.elim)
    exact gw_out htab hlocks hce hcv hcl hF9 (by decide) hBX hG hC hq9 hS1 (Nat.le_of_ble_eq_true rfl) (Nat.le_of_ble_eq_true rfl)

set_option maxHeartbeats 4000000 in
set_option maxRecDepth 100000 in
theorem gx_ledger (l : Launch) (D : va_G) (ca : Nat → ClassId) (es : Nat → Nat) (A : Nat → Prop) (ad hd : Nat → Nat → Nat) (σ γ : gw_S) (ord : List Nat) (i w : Int32) (hlt : l.stackTraces = false) (hC : gw_C σ γ ord) (h31 : σ 31 0 = nI (gw_n σ 31)) (h31b : gw_n σ 31 ≤ 400) (hk32 : ∀ j, j < gw_n σ 31 → σ 32 j = 0 ∨ σ 32 j = 1 ∨ σ 32 j = 2 ∨ σ 32 j = 3) : vx_Met l yX1_ledger (ws_ yX1_ledger cX1_ledger 4 (some .int)) ({ frames := 7, cells := 1, slots := 6, locals := 110 }) (va_Pc [.ref (ad 0 0), .int i, .int w] (gw_gP D ca es A ad hd σ γ ord (gw_nu σ))) (gw_Qi D ca es A ad (gw_ledger σ i w)) (gw_XC D ca es A ad (gw_T ["java/util/NoSuchElementException", "java/lang/IllegalArgumentException"]) (gw_ledger σ i w)) 1 6 A := by
  refine vx_ofW (cc := cX1_ledger) (maxL := 4) (ret := (some .int)) (by decide) rfl ?_
  intro p e s m args below meth c s₁ B hml htab hv
  obtain ⟨rfl, hG, hK, hE, hN, hA⟩ := hv
  have hx := B.exec
  have hb := B.bytes
  have hr := B.returns
  have hts := atoms_spec (ws := ws_ yX1_ledger cX1_ledger 4 (some .int)) B.pre
  have hts : ∀ w ∈ lw_all, w.before _ s = true := fun w h => hts w (List.mem_cons_of_mem _ h)
  have hown : s.vm.findClass RX1 = some m.cls := findClass_of_methodNamed B.named
  have hlocks := B.notSynchronized
  have hS : va_S A s.heap s.heap [] := va_S.rf
  have hl := lv_entry ([.ref (ad 0 0), .int i, .int w]) (n := 4) (Nat.le_of_ble_eq_true rfl)
  rw [lg_entry_eq]
  generalize (lg_sl ([.ref (ad 0 0), .int i, .int w]) ++ List.replicate (4 - (lg_sl ([.ref (ad 0 0), .int i, .int w])).length) Slot.unset).toArray = ls at hl ⊢
  have hl : lv_has ls 4 [(0, .ref (ad 0 0)), (1, .int i), (2, .int w)] := hl
  refine lv_iload_n hx hb dX1_ledger_0 rfl (lv_at hl 1 rfl) ?_
  refine lv_i2l (v := i.toInt64) hx hb dX1_ledger_1 rfl ?_
  refine lv_ldc2 (v := -1) hx hb hown (hts _ q822) dX1_ledger_2 ?_
  refine lv_aload_n hx hb dX1_ledger_5 rfl (lv_at hl 0 rfl) ?_
  refine gw_get hx hb hts in_X1 hown hK (gw_c0 hG) rfl 3 (by decide) (hts _ q103) (v := .int (σ 31 0)) rfl dX1_ledger_6 ?_
  refine lv_iconst (v := 1) hx hb dX1_ledger_9 (by decide) ?_
  refine lv_isub hx hb dX1_ledger_10 ?_
  refine lv_i2l (v := ((σ 31 0) - 1).toInt64) hx hb dX1_ledger_11 rfl ?_
  rcases Classical.em ((-1) ≤ i ∧ i ≤ (σ 31 0) - 1) with h12 | h12
  · skip
    refine gw_scalli (va_Run.run (va_runS (As := [.long i.toInt64, .long (-1), .long (((σ 31 0) - 1).toInt64)]) (rest := []) ⟨hx, hb, hml, hown, hts⟩ (gg_inRange l i.toInt64 (-1) (((σ 31 0) - 1).toInt64)) (va_cwS 3 hts (lw_S q279 q280 q42 q281) rfl rfl rfl (by decide +kernel) ⟨Nat.le_of_ble_eq_true rfl, Nat.le_of_ble_eq_true rfl⟩) gw_spre rfl rfl hl.1 rfl (lv_room (Nat.le_of_ble_eq_true rfl)) dX1_ledger_12 ⟨Nat.le_of_ble_eq_true rfl, Nat.le_of_ble_eq_true rfl⟩)) ?_
    refine gw_topi (y := 1) (if_pos (gw_rgp (x := i) (by decide) rfl h12)) ?_
    refine va_csv (va_Run.run (va_runS (As := [.int 1]) (rest := []) ⟨hx, hb, hml, hown, hts⟩ (gg_checkThere1 l) (va_cwS 1 hts (lw_S q823 q824 q42 q825) rfl rfl rfl (by decide +kernel) ⟨Nat.le_of_ble_eq_true rfl, Nat.le_of_ble_eq_true rfl⟩) gw_spre rfl rfl hl.1 rfl (lv_room (Nat.le_of_ble_eq_true rfl)) dX1_ledger_15 ⟨Nat.le_of_ble_eq_true rfl, Nat.le_of_ble_eq_true rfl⟩)) (fun _ => ?_)
    refine lv_iload_n hx hb dX1_ledger_18 rfl (lv_at hl 1 rfl) ?_
    refine lv_iconst (v := -1) hx hb dX1_ledger_19 (by decide) ?_
    refine lv_icmp_eq (tgt := 35) hx hb dX1_ledger_20 (by decide) (fun c20 => ?_) (fun c20 => ?_)
    · skip
      refine lv_iconst (v := 1) hx hb dX1_ledger_35 (by decide) ?_
      refine lv_goto (tgt := 40) hx hb dX1_ledger_36 (by decide) ?_
      refine va_csv (va_Run.run (va_runS (As := [.int 1]) (rest := []) ⟨hx, hb, hml, hown, hts⟩ (gg_checkArgument1 l) (va_cwS 1 hts (lw_S q284 q285 q42 q286) rfl rfl rfl (by decide +kernel) ⟨Nat.le_of_ble_eq_true rfl, Nat.le_of_ble_eq_true rfl⟩) gw_spre rfl rfl hl.1 rfl (lv_room (Nat.le_of_ble_eq_true rfl)) dX1_ledger_40 ⟨Nat.le_of_ble_eq_true rfl, Nat.le_of_ble_eq_true rfl⟩)) (fun _ => ?_)
      refine lv_iload_n hx hb dX1_ledger_43 rfl (lv_at hl 1 rfl) ?_
      refine lv_iconst (v := -1) hx hb dX1_ledger_44 (by decide) ?_
      refine lv_icmp_ne (tgt := 53) hx hb dX1_ledger_45 (by decide) (fun c_ => absurd c_ (fun q => q c20)) (fun _ => ?_)
      refine lv_aload_n hx hb dX1_ledger_48 rfl (lv_at hl 0 rfl) ?_
      refine gw_get hx hb hts in_X1 hown hK (gw_c0 hG) rfl 3 (by decide) (hts _ q103) (v := .int (σ 31 0)) rfl dX1_ledger_49 ?_
      have hG := gw_gW.nu (gw_gW.z (v := 0) hG) (gw_nu_up rfl).symm
      have hG := gw_gW.nu hG (show gw_nu (gw_up σ 0 0 0) = gw_nu σ from (gw_nu_up rfl))
      have hE9 : gw_up σ 0 0 0 = (gw_ledger σ i w).2 := (by simp only [gw_ledger, gw_led, gw_fail, (eq_true c20), and_true, true_and, and_false, false_and, and_self, or_true, true_or, or_false, false_or, not_true_eq_false, not_false_eq_true, if_true, if_false, ↓reduceIte]; try rfl)
      have hP9 : σ 31 0 = (gw_ledger σ i w).1 := (by simp only [gw_ledger, gw_led, gw_fail, (eq_true c20), and_true, true_and, and_false, false_and, and_self, or_true, true_or, or_false, false_or, not_true_eq_false, not_false_eq_true, if_true, if_false, ↓reduceIte]; try rfl)
      have hC9 : gw_C (gw_up σ 0 0 0) γ ord := (gw_C_up rfl hC)
      have hZ9 : (gw_up σ 0 0 0) 0 0 = 0 := rfl
      rw [hE9] at hG hC9 hZ9
      refine vx_ret (W.widen (k := 1) (n := 6) (Nat.le_of_ble_eq_true rfl) (Nat.le_of_ble_eq_true rfl) ?_)
      exact W.iret (v := σ 31 0) hx hb hr (fun t ht hW => ⟨⟨_, (hd, γ, ord), rfl, ⟨hP9, hZ9, hC9⟩, by show gw_gW D ca es A ad _ _ _ _ _ t.heap; rw [ht]; exact hG⟩, hS.F ht⟩) hS.2.2 dX1_ledger_52
    · skip
      have h20c : 0 ≤ i ∧ i ≤ (σ 31 0) - 1 := gw_lgy h12 c20
      refine lv_iload_n hx hb dX1_ledger_23 rfl (lv_at hl 2 rfl) ?_
      refine lv_i2l (v := w.toInt64) hx hb dX1_ledger_24 rfl ?_
      refine lv_lconst (v := 0) hx hb dX1_ledger_25 (by decide) ?_
      refine lv_ldc2 (v := 3) hx hb hown (hts _ q278) dX1_ledger_26 ?_
      rcases Classical.em (0 ≤ w ∧ w ≤ 3) with h29 | h29
      · skip
        refine gw_scalli (va_Run.run (va_runS (As := [.long w.toInt64, .long 0, .long 3]) (rest := []) ⟨hx, hb, hml, hown, hts⟩ (gg_inRange l w.toInt64 0 3) (va_cwS 3 hts (lw_S q279 q280 q42 q281) rfl rfl rfl (by decide +kernel) ⟨Nat.le_of_ble_eq_true rfl, Nat.le_of_ble_eq_true rfl⟩) gw_spre rfl rfl hl.1 rfl (lv_room (Nat.le_of_ble_eq_true rfl)) dX1_ledger_29 ⟨Nat.le_of_ble_eq_true rfl, Nat.le_of_ble_eq_true rfl⟩)) ?_
        refine gw_topi (y := 1) (if_pos (gw_rgp (x := w) (by decide) (by decide) h29)) ?_
        refine lv_if_eq (tgt := 39) hx hb dX1_ledger_32 (by decide) (fun c_ => absurd c_ (by decide)) (fun _ => ?_)
        refine lv_iconst (v := 1) hx hb dX1_ledger_35 (by decide) ?_
        refine lv_goto (tgt := 40) hx hb dX1_ledger_36 (by decide) ?_
        refine va_csv (va_Run.run (va_runS (As := [.int 1]) (rest := []) ⟨hx, hb, hml, hown, hts⟩ (gg_checkArgument1 l) (va_cwS 1 hts (lw_S q284 q285 q42 q286) rfl rfl rfl (by decide +kernel) ⟨Nat.le_of_ble_eq_true rfl, Nat.le_of_ble_eq_true rfl⟩) gw_spre rfl rfl hl.1 rfl (lv_room (Nat.le_of_ble_eq_true rfl)) dX1_ledger_40 ⟨Nat.le_of_ble_eq_true rfl, Nat.le_of_ble_eq_true rfl⟩)) (fun _ => ?_)
        refine lv_iload_n hx hb dX1_ledger_43 rfl (lv_at hl 1 rfl) ?_
        refine lv_iconst (v := -1) hx hb dX1_ledger_44 (by decide) ?_
        refine lv_icmp_ne (tgt := 53) hx hb dX1_ledger_45 (by decide) (fun _ => ?_) (fun c_ => absurd c_ c20)
        obtain ⟨i_, hi_, rfl⟩ := gw_idx h20c h31 (by omega)
        have hxi_ : gw_ix (nI i_) = i_ := gw_ix_nI (by omega)
        refine lv_aload_n hx hb dX1_ledger_53 rfl (lv_at hl 0 rfl) ?_
        refine gw_get hx hb hts in_X1 hown hK (gw_c0 hG) rfl 2 (by decide) (hts _ q102) (v := .ref (ad 3 0)) rfl dX1_ledger_54 ?_
        refine lv_iload_n hx hb dX1_ledger_57 rfl (lv_at hl 1 rfl) ?_
        refine gw_qld (i := i_) hx hb hK rfl (gw_c3 hG) (by decide) (by omega) dX1_ledger_58 (v := .ref (hd 15 i_)) (gw_ifs hi_) ?_
        refine lv_astore_n (lv' := [(3, .ref (hd 15 i_)), (0, .ref (ad 0 0)), (1, .int (nI i_)), (2, .int w)]) hx hb dX1_ledger_59 rfl hl (by decide) rfl (fun ls hl => ?_)
        refine lv_iload_n hx hb dX1_ledger_60 rfl (lv_at hl 3 rfl) ?_
        refine lv_if_ne (tgt := 71) hx hb dX1_ledger_61 (by decide) (fun c61 => ?_) (fun c61 => ?_)
        · skip
          refine lv_iload_n hx hb dX1_ledger_71 rfl (lv_at hl 3 rfl) ?_
          refine lv_iconst (v := 1) hx hb dX1_ledger_72 (by decide) ?_
          refine lv_icmp_ne (tgt := 86) hx hb dX1_ledger_73 (by decide) (fun c73 => ?_) (fun c73 => ?_)
          · skip
            refine lv_iload_n hx hb dX1_ledger_86 rfl (lv_at hl 3 rfl) ?_
            refine lv_iconst (v := 2) hx hb dX1_ledger_87 (by decide) ?_
            refine lv_icmp_ne (tgt := 101) hx hb dX1_ledger_88 (by decide) (fun c88 => ?_) (fun c88 => ?_)
            · skip
              refine lv_aload_n hx hb dX1_ledger_101 rfl (lv_at hl 0 rfl) ?_
              refine gw_scalli (va_Run.run (va_runS (As := [.ref (hd 15 i_)]) (rest := []) ⟨hx, hb, hml, hown, hts⟩ (gg_moneyOf l D ca es A ad hd σ γ ord i_ hi_ (hk32 _ hi_)) (va_cwS 1 hts (lw_S q851 q852 q42 q853) rfl rfl rfl (by decide +kernel) ⟨Nat.le_of_ble_eq_true rfl, Nat.le_of_ble_eq_true rfl⟩) (gw_gspre [.ref (hd 15 i_)] gw_gPb (fun U hU hW => gw_gat hU hW hG hK hE hN hA hS)) rfl rfl hl.1 rfl (lv_room (Nat.le_of_ble_eq_true rfl)) dX1_ledger_102 ⟨Nat.le_of_ble_eq_true rfl, Nat.le_of_ble_eq_true rfl⟩)) ?_
              have hG := gw_gW.nu (gw_gW.z (v := 0) hG) (gw_nu_up rfl).symm
              have hG := gw_gW.nu hG (show gw_nu (gw_up σ 0 0 0) = gw_nu σ from (gw_nu_up rfl))
              have hE9 : gw_up σ 0 0 0 = (gw_ledger σ (nI i_) w).2 := (by simp only [gw_ledger, gw_led, gw_fail, c20, h20c, h29, hxi_, c61, c73, c88, and_true, true_and, and_false, false_and, and_self, or_true, true_or, or_false, false_or, not_true_eq_false, not_false_eq_true, if_true, if_false, ↓reduceIte]; try rfl)
              have hP9 : σ 34 i_ = (gw_ledger σ (nI i_) w).1 := (by simp only [gw_ledger, gw_led, gw_fail, c20, h20c, h29, hxi_, c61, c73, c88, and_true, true_and, and_false, false_and, and_self, or_true, true_or, or_false, false_or, not_true_eq_false, not_false_eq_true, if_true, if_false, ↓reduceIte]; try rfl)
              have hC9 : gw_C (gw_up σ 0 0 0) γ ord := (gw_C_up rfl hC)
              have hZ9 : (gw_up σ 0 0 0) 0 0 = 0 := rfl
              rw [hE9] at hG hC9 hZ9
              refine vx_ret (W.widen (k := 1) (n := 6) (Nat.le_of_ble_eq_true rfl) (Nat.le_of_ble_eq_true rfl) ?_)
              exact W.iret (v := σ 34 i_) hx hb hr (fun t ht hW => ⟨⟨_, (hd, γ, ord), rfl, ⟨hP9, hZ9, hC9⟩, by show gw_gW D ca es A ad _ _ _ _ _ t.heap; rw [ht]; exact hG⟩, hS.F ht⟩) hS.2.2 dX1_ledger_105
            · skip
              refine lv_aload_n hx hb dX1_ledger_91 rfl (lv_at hl 0 rfl) ?_
              refine gw_scallr (va_Run.run (va_runS (As := [.ref (hd 15 i_)]) (rest := []) ⟨hx, hb, hml, hown, hts⟩ (gg_keyIn l D ca es A ad hd σ γ ord i_ hi_ (hk32 _ hi_)) (va_cwS 1 hts (lw_S q183 q184 q42 q185) rfl rfl rfl (by decide +kernel) ⟨Nat.le_of_ble_eq_true rfl, Nat.le_of_ble_eq_true rfl⟩) (gw_gspre [.ref (hd 15 i_)] gw_gPb (fun U hU hW => gw_gat hU hW hG hK hE hN hA hS)) rfl rfl hl.1 rfl (lv_room (Nat.le_of_ble_eq_true rfl)) dX1_ledger_92 ⟨Nat.le_of_ble_eq_true rfl, Nat.le_of_ble_eq_true rfl⟩)) ?_
              refine gw_getN hx hb hts in_X4 hown hK (gw_c10 hG (j := gw_ix (σ 33 i_)) (hC.2.2.2.2.2 _ hi_).1 (hC.2.2.2.2.2 _ hi_).2) rfl 1 (by decide) (hN.1 _ q218 rfl) (v := .int (nI ((gw_ix (σ 33 i_)) % 12))) rfl dX1_ledger_95 ?_
              refine lv_goto (tgt := 105) hx hb dX1_ledger_98 (by decide) ?_
              have hG := gw_gW.nu (gw_gW.z (v := 0) hG) (gw_nu_up rfl).symm
              have hG := gw_gW.nu hG (show gw_nu (gw_up σ 0 0 0) = gw_nu σ from (gw_nu_up rfl))
              have hE9 : gw_up σ 0 0 0 = (gw_ledger σ (nI i_) w).2 := (by simp only [gw_ledger, gw_led, gw_fail, c20, h20c, h29, hxi_, c61, c73, (eq_true c88), and_true, true_and, and_false, false_and, and_self, or_true, true_or, or_false, false_or, not_true_eq_false, not_false_eq_true, if_true, if_false, ↓reduceIte]; try rfl)
              have hP9 : nI ((gw_ix (σ 33 i_)) % 12) = (gw_ledger σ (nI i_) w).1 := (by simp only [gw_ledger, gw_led, gw_fail, c20, h20c, h29, hxi_, c61, c73, (eq_true c88), and_true, true_and, and_false, false_and, and_self, or_true, true_or, or_false, false_or, not_true_eq_false, not_false_eq_true, if_true, if_false, ↓reduceIte]; try rfl)
              have hC9 : gw_C (gw_up σ 0 0 0) γ ord := (gw_C_up rfl hC)
              have hZ9 : (gw_up σ 0 0 0) 0 0 = 0 := rfl
              rw [hE9] at hG hC9 hZ9
              refine vx_ret (W.widen (k := 1) (n := 6) (Nat.le_of_ble_eq_true rfl) (Nat.le_of_ble_eq_true rfl) ?_)
              exact W.iret (v := nI ((gw_ix (σ 33 i_)) % 12)) hx hb hr (fun t ht hW => ⟨⟨_, (hd, γ, ord), rfl, ⟨hP9, hZ9, hC9⟩, by show gw_gW D ca es A ad _ _ _ _ _ t.heap; rw [ht]; exact hG⟩, hS.F ht⟩) hS.2.2 dX1_ledger_105
          · skip
            refine lv_aload_n hx hb dX1_ledger_76 rfl (lv_at hl 0 rfl) ?_
            refine gw_scallr (va_Run.run (va_runS (As := [.ref (hd 15 i_)]) (rest := []) ⟨hx, hb, hml, hown, hts⟩ (gg_keyIn l D ca es A ad hd σ γ ord i_ hi_ (hk32 _ hi_)) (va_cwS 1 hts (lw_S q183 q184 q42 q185) rfl rfl rfl (by decide +kernel) ⟨Nat.le_of_ble_eq_true rfl, Nat.le_of_ble_eq_true rfl⟩) (gw_gspre [.ref (hd 15 i_)] gw_gPb (fun U hU hW => gw_gat hU hW hG hK hE hN hA hS)) rfl rfl hl.1 rfl (lv_room (Nat.le_of_ble_eq_true rfl)) dX1_ledger_77 ⟨Nat.le_of_ble_eq_true rfl, Nat.le_of_ble_eq_true rfl⟩)) ?_
            refine gw_getN hx hb hts in_X4 hown hK (gw_c10 hG (j := gw_ix (σ 33 i_)) (hC.2.2.2.2.2 _ hi_).1 (hC.2.2.2.2.2 _ hi_).2) rfl 0 (by decide) (hN.1 _ q216 rfl) (v := .int (nI ((gw_ix (σ 33 i_)) / 12))) rfl dX1_ledger_80 ?_
            refine lv_goto (tgt := 105) hx hb dX1_ledger_83 (by decide) ?_
            have hG := gw_gW.nu (gw_gW.z (v := 0) hG) (gw_nu_up rfl).symm
            have hG := gw_gW.nu hG (show gw_nu (gw_up σ 0 0 0) = gw_nu σ from (gw_nu_up rfl))
            have hE9 : gw_up σ 0 0 0 = (gw_ledger σ (nI i_) w).2 := (by simp only [gw_ledger, gw_led, gw_fail, c20, h20c, h29, hxi_, c61, (eq_true c73), and_true, true_and, and_false, false_and, and_self, or_true, true_or, or_false, false_or, not_true_eq_false, not_false_eq_true, if_true, if_false, ↓reduceIte]; try rfl)
            have hP9 : nI ((gw_ix (σ 33 i_)) / 12) = (gw_ledger σ (nI i_) w).1 := (by simp only [gw_ledger, gw_led, gw_fail, c20, h20c, h29, hxi_, c61, (eq_true c73), and_true, true_and, and_false, false_and, and_self, or_true, true_or, or_false, false_or, not_true_eq_false, not_false_eq_true, if_true, if_false, ↓reduceIte]; try rfl)
            have hC9 : gw_C (gw_up σ 0 0 0) γ ord := (gw_C_up rfl hC)
            have hZ9 : (gw_up σ 0 0 0) 0 0 = 0 := rfl
            rw [hE9] at hG hC9 hZ9
            refine vx_ret (W.widen (k := 1) (n := 6) (Nat.le_of_ble_eq_true rfl) (Nat.le_of_ble_eq_true rfl) ?_)
            exact W.iret (v := nI ((gw_ix (σ 33 i_)) / 12)) hx hb hr (fun t ht hW => ⟨⟨_, (hd, γ, ord), rfl, ⟨hP9, hZ9, hC9⟩, by show gw_gW D ca es A ad _ _ _ _ _ t.heap; rw [ht]; exact hG⟩, hS.F ht⟩) hS.2.2 dX1_ledger_105
        · skip
          refine lv_aload_n hx hb dX1_ledger_64 rfl (lv_at hl 0 rfl) ?_
          refine gw_scalli (va_Run.run (va_runS (As := [.ref (hd 15 i_)]) (rest := []) ⟨hx, hb, hml, hown, hts⟩ (gg_kindOf l D ca es A ad hd σ γ ord i_ hi_ (hk32 _ hi_)) (va_cwS 1 hts (lw_S q848 q849 q42 q850) rfl rfl rfl (by decide +kernel) ⟨Nat.le_of_ble_eq_true rfl, Nat.le_of_ble_eq_true rfl⟩) (gw_gspre [.ref (hd 15 i_)] gw_gPb (fun U hU hW => gw_gat hU hW hG hK hE hN hA hS)) rfl rfl hl.1 rfl (lv_room (Nat.le_of_ble_eq_true rfl)) dX1_ledger_65 ⟨Nat.le_of_ble_eq_true rfl, Nat.le_of_ble_eq_true rfl⟩)) ?_
          refine lv_goto (tgt := 105) hx hb dX1_ledger_68 (by decide) ?_
          have hG := gw_gW.nu (gw_gW.z (v := 0) hG) (gw_nu_up rfl).symm
          have hG := gw_gW.nu hG (show gw_nu (gw_up σ 0 0 0) = gw_nu σ from (gw_nu_up rfl))
          have hE9 : gw_up σ 0 0 0 = (gw_ledger σ (nI i_) w).2 := (by simp only [gw_ledger, gw_led, gw_fail, c20, h20c, h29, hxi_, (eq_true c61), and_true, true_and, and_false, false_and, and_self, or_true, true_or, or_false, false_or, not_true_eq_false, not_false_eq_true, if_true, if_false, ↓reduceIte]; try rfl)
          have hP9 : σ 32 i_ = (gw_ledger σ (nI i_) w).1 := (by simp only [gw_ledger, gw_led, gw_fail, c20, h20c, h29, hxi_, (eq_true c61), and_true, true_and, and_false, false_and, and_self, or_true, true_or, or_false, false_or, not_true_eq_false, not_false_eq_true, if_true, if_false, ↓reduceIte]; try rfl)
          have hC9 : gw_C (gw_up σ 0 0 0) γ ord := (gw_C_up rfl hC)
          have hZ9 : (gw_up σ 0 0 0) 0 0 = 0 := rfl
          rw [hE9] at hG hC9 hZ9
          refine vx_ret (W.widen (k := 1) (n := 6) (Nat.le_of_ble_eq_true rfl) (Nat.le_of_ble_eq_true rfl) ?_)
          exact W.iret (v := σ 32 i_) hx hb hr (fun t ht hW => ⟨⟨_, (hd, γ, ord), rfl, ⟨hP9, hZ9, hC9⟩, by show gw_gW D ca es A ad _ _ _ _ _ t.heap; rw [ht]; exact hG⟩, hS.F ht⟩) hS.2.2 dX1_ledger_105
      · skip
        refine gw_scalli (va_Run.run (va_runS (As := [.long w.toInt64, .long 0, .long 3]) (rest := []) ⟨hx, hb, hml, hown, hts⟩ (gg_inRange l w.toInt64 0 3) (va_cwS 3 hts (lw_S q279 q280 q42 q281) rfl rfl rfl (by decide +kernel) ⟨Nat.le_of_ble_eq_true rfl, Nat.le_of_ble_eq_true rfl⟩) gw_spre rfl rfl hl.1 rfl (lv_room (Nat.le_of_ble_eq_true rfl)) dX1_ledger_29 ⟨Nat.le_of_ble_eq_true rfl, Nat.le_of_ble_eq_true rfl⟩)) ?_
        refine gw_topi (y := 0) (if_neg (gw_rgn (x := w) (by decide) (by decide) h29)) ?_
        refine lv_if_eq (tgt := 39) hx hb dX1_ledger_32 (by decide) (fun _ => ?_) (fun c_ => absurd c_ (by decide))
        refine lv_iconst (v := 0) hx hb dX1_ledger_39 (by decide) ?_
        have hF9 : (gw_ledger σ i w) = gw_fail σ 2 := (by simp only [gw_ledger, gw_led, gw_fail, c20, h20c, h29, and_true, true_and, and_false, false_and, and_self, or_true, true_or, or_false, false_or, not_true_eq_false, not_false_eq_true, if_true, if_false, ↓reduceIte]; try rfl)
        refine vx_callv (vx_runS (As := [.int 0]) (rest := []) ⟨hx, hb, hml, hown, hts⟩ (gg_checkArgument0 l A hlt) (va_cwS 1 hts (lw_S q284 q285 q42 q286) rfl rfl rfl (by decide +kernel) ⟨Nat.le_of_ble_eq_true rfl, Nat.le_of_ble_eq_true rfl⟩) (gw_gspre [.int 0] gw_Thb (fun U hU hW => gw_That hU hW hE hN hS)) rfl rfl hl.1 rfl (lv_room (Nat.le_of_ble_eq_true rfl)) dX1_ledger_40 ⟨Nat.le_of_ble_eq_true rfl, Nat.le_of_ble_eq_true rfl⟩) hS (fun _ _ h => h.elim) (fun _ h => h.elim) (fun _ _ h => h.elim) (fun E ce q9 u9 t9 H1 locs1 ht9 hA9 _ hBX hz9 hq9 hS1 hce hcv hcl => ?_) (fun u9 t9 H1 locs1 ht9 hA9 hp9 => hp9.elim)
        exact gw_out htab hlocks hce hcv hcl hF9 (by decide) hBX hG hC hq9 hS1 (Nat.le_of_ble_eq_true rfl) (Nat.le_of_ble_eq_true rfl)
  · skip
    refine gw_scalli (va_Run.run (va_runS (As := [.long i.toInt64, .long (-1), .long (((σ 31 0) - 1).toInt64)]) (rest := []) ⟨hx, hb, hml, hown, hts⟩ (gg_inRange l i.toInt64 (-1) (((σ 31 0) - 1).toInt64)) (va_cwS 3 hts (lw_S q279 q280 q42 q281) rfl rfl rfl (by decide +kernel) ⟨Nat.le_of_ble_eq_true rfl, Nat.le_of_ble_eq_true rfl⟩) gw_spre rfl rfl hl.1 rfl (lv_room (Nat.le_of_ble_eq_true rfl)) dX1_ledger_12 ⟨Nat.le_of_ble_eq_true rfl, Nat.le_of_ble_eq_true rfl⟩)) ?_
    refine gw_topi (y := 0) (if_neg (gw_rgn (x := i) (by decide) rfl h12)) ?_
    have h12b := gw_lgn h31 (by omega) h12
    have h12c : ¬ i = -1 := h12b.1
    have h12d : ¬ (0 ≤ i ∧ i ≤ (σ 31 0) - 1) := h12b.2
    have hF9 : (gw_ledger σ i w) = gw_fail σ 1 := (by simp only [gw_ledger, gw_led, gw_fail, h12c, h12d, and_true, true_and, and_false, false_and, and_self, or_true, true_or, or_false, false_or, not_true_eq_false, not_false_eq_true, if_true, if_false, ↓reduceIte]; try rfl)
    refine vx_callv (vx_runS (As := [.int 0]) (rest := []) ⟨hx, hb, hml, hown, hts⟩ (gg_checkThere0 l A hlt) (va_cwS 1 hts (lw_S q823 q824 q42 q825) rfl rfl rfl (by decide +kernel) ⟨Nat.le_of_ble_eq_true rfl, Nat.le_of_ble_eq_true rfl⟩) (gw_gspre [.int 0] gw_Thb (fun U hU hW => gw_That hU hW hE hN hS)) rfl rfl hl.1 rfl (lv_room (Nat.le_of_ble_eq_true rfl)) dX1_ledger_15 ⟨Nat.le_of_ble_eq_true rfl, Nat.le_of_ble_eq_true rfl⟩) hS (fun _ _ h => h.elim) (fun _ h => h.elim) (fun _ _ h => h.elim) (fun E ce q9 u9 t9 H1 locs1 ht9 hA9 _ hBX hz9 hq9 hS1 hce hcv hcl => ?_) (fun u9 t9 H1 locs1 ht9 hA9 hp9 => hp9.elim)
    exact gw_out htab hlocks hce hcv hcl hF9 (by decide) hBX hG hC hq9 hS1 (Nat.le_of_ble_eq_true rfl) (Nat.le_of_ble_eq_true rfl)
