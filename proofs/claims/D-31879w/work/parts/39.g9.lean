/-! THE CLASS 9 -/
set_option maxRecDepth 100000
set_option maxHeartbeats 4000000 in
set_option maxRecDepth 100000 in
theorem gx_waiting (l : Launch) (D : va_G) (ca : Nat → ClassId) (es : Nat → Nat) (A : Nat → Prop) (ad hd : Nat → Nat → Nat) (σ γ : gw_S) (ord : List Nat) (x i : Int32) (hlt : l.stackTraces = false) (hC : gw_C σ γ ord) (hJ : gw_J σ) (hlen : ∀ i, i < 6 → (gw_wl σ i).length ≤ 24) (h13 : ∀ i, i < 6 → gw_ix (σ 13 i) ≤ 24) : vx_Met l yX1_waiting (ws_ yX1_waiting cX1_waiting 3 (some .int)) ({ frames := 7, cells := 1, slots := 6, locals := 110 }) (va_Pc [.ref (ad 0 0), .int x, .int i] (gw_gP D ca es A ad hd σ γ ord (gw_nu σ))) (gw_Qi D ca es A ad (gw_waiting σ x i)) (gw_XC D ca es A ad (gw_T ["java/lang/IndexOutOfBoundsException", "java/util/NoSuchElementException"]) (gw_waiting σ x i)) 1 6 A := by
  refine vx_ofW (cc := cX1_waiting) (maxL := 3) (ret := (some .int)) (by decide) rfl ?_
  intro p e s m args below meth c s₁ B hml htab hv
  obtain ⟨rfl, hG, hK, hE, hN, hA⟩ := hv
  have hx := B.exec
  have hb := B.bytes
  have hr := B.returns
  have hts := atoms_spec (ws := ws_ yX1_waiting cX1_waiting 3 (some .int)) B.pre
  have hts : ∀ w ∈ lw_all, w.before _ s = true := fun w h => hts w (List.mem_cons_of_mem _ h)
  have hown : s.vm.findClass RX1 = some m.cls := findClass_of_methodNamed B.named
  have hlocks := B.notSynchronized
  have hS : va_S A s.heap s.heap [] := va_S.rf
  have hl := lv_entry ([.ref (ad 0 0), .int x, .int i]) (n := 3) (Nat.le_of_ble_eq_true rfl)
  rw [lg_entry_eq]
  generalize (lg_sl ([.ref (ad 0 0), .int x, .int i]) ++ List.replicate (3 - (lg_sl ([.ref (ad 0 0), .int x, .int i])).length) Slot.unset).toArray = ls at hl ⊢
  have hl : lv_has ls 3 [(0, .ref (ad 0 0)), (1, .int x), (2, .int i)] := hl
  refine lv_aload_n hx hb dX1_waiting_0 rfl (lv_at hl 0 rfl) ?_
  refine lv_iload_n hx hb dX1_waiting_1 rfl (lv_at hl 1 rfl) ?_
  rcases Classical.em (gw_isC σ x) with h2 | h2
  · skip
    refine gw_scalli (va_Run.run (va_runV (As := [.int x]) (rest := []) ⟨hx, hb, hml, hown, hts⟩ (gg_isCall l D ca es A ad hd σ γ ord x) (cwV 1 hts (lw_V q521 q523 qs13 q42 q524) rfl rfl rfl (by decide +kernel) ⟨Nat.le_of_ble_eq_true rfl, Nat.le_of_ble_eq_true rfl⟩) (gw_grecv [.int x] gw_gPb (gw_c0 hG) rfl hK (fun U hU hW => gw_gat hU hW hG hK hE hN hA hS)) rfl rfl hl.1 rfl (lv_room (Nat.le_of_ble_eq_true rfl)) dX1_waiting_2 ⟨Nat.le_of_ble_eq_true rfl, Nat.le_of_ble_eq_true rfl⟩)) ?_
    refine gw_topi (y := 1) (if_pos h2) ?_
    refine va_csv (va_Run.run (va_runS (As := [.int 1]) (rest := []) ⟨hx, hb, hml, hown, hts⟩ (gg_checkIndex1 l) (va_cwS 1 hts (lw_S q525 q526 q42 q527) rfl rfl rfl (by decide +kernel) ⟨Nat.le_of_ble_eq_true rfl, Nat.le_of_ble_eq_true rfl⟩) gw_spre rfl rfl hl.1 rfl (lv_room (Nat.le_of_ble_eq_true rfl)) dX1_waiting_5 ⟨Nat.le_of_ble_eq_true rfl, Nat.le_of_ble_eq_true rfl⟩)) (fun _ => ?_)
    obtain ⟨x_, hx_, rfl⟩ := gw_idx h2 hJ.n7 (by have := hJ.b7; omega)
    have hxx_ : gw_ix (nI x_) = x_ := gw_ix_nI (by have := hJ.b7; omega)
    have hx6 : x_ < 6 := by have := hJ.b7; omega
    have hL9 := hC.2.2.2.1 x_ hx6
    have hW1 : (gw_wait σ x_ i).1 = γ 0 x_ := (gw_wait1 σ x_ i).trans hL9.1.symm
    refine lv_iload_n hx hb dX1_waiting_8 rfl (lv_at hl 2 rfl) ?_
    refine lv_i2l (v := i.toInt64) hx hb dX1_waiting_9 rfl ?_
    refine lv_ldc2 (v := -1) hx hb hown (hts _ q822) dX1_waiting_10 ?_
    refine lv_aload_n hx hb dX1_waiting_13 rfl (lv_at hl 0 rfl) ?_
    refine gw_get hx hb hts in_X1 hown hK (gw_c0 hG) rfl 8 (by decide) (hts _ q108) (v := .ref (ad 6 4)) rfl dX1_waiting_14 ?_
    refine lv_iload_n hx hb dX1_waiting_17 rfl (lv_at hl 1 rfl) ?_
    refine gw_gald 4 (n := 6) (j := x_) hx hb hK hG (by decide) rfl rfl (by decide) hx6 dX1_waiting_18 (v := γ 0 x_) rfl ?_
    refine lv_iconst (v := 1) hx hb dX1_waiting_19 (by decide) ?_
    refine lv_isub hx hb dX1_waiting_20 ?_
    refine lv_i2l (v := ((γ 0 x_) - 1).toInt64) hx hb dX1_waiting_21 rfl ?_
    rcases Classical.em ((-1) ≤ i ∧ i ≤ (γ 0 x_) - 1) with h22 | h22
    · skip
      refine gw_scalli (va_Run.run (va_runS (As := [.long i.toInt64, .long (-1), .long (((γ 0 x_) - 1).toInt64)]) (rest := []) ⟨hx, hb, hml, hown, hts⟩ (gg_inRange l i.toInt64 (-1) (((γ 0 x_) - 1).toInt64)) (va_cwS 3 hts (lw_S q279 q280 q42 q281) rfl rfl rfl (by decide +kernel) ⟨Nat.le_of_ble_eq_true rfl, Nat.le_of_ble_eq_true rfl⟩) gw_spre rfl rfl hl.1 rfl (lv_room (Nat.le_of_ble_eq_true rfl)) dX1_waiting_22 ⟨Nat.le_of_ble_eq_true rfl, Nat.le_of_ble_eq_true rfl⟩)) ?_
      refine gw_topi (y := 1) (if_pos (gw_rgp (x := i) (by decide) rfl h22)) ?_
      refine va_csv (va_Run.run (va_runS (As := [.int 1]) (rest := []) ⟨hx, hb, hml, hown, hts⟩ (gg_checkThere1 l) (va_cwS 1 hts (lw_S q823 q824 q42 q825) rfl rfl rfl (by decide +kernel) ⟨Nat.le_of_ble_eq_true rfl, Nat.le_of_ble_eq_true rfl⟩) gw_spre rfl rfl hl.1 rfl (lv_room (Nat.le_of_ble_eq_true rfl)) dX1_waiting_25 ⟨Nat.le_of_ble_eq_true rfl, Nat.le_of_ble_eq_true rfl⟩)) (fun _ => ?_)
      refine lv_iload_n hx hb dX1_waiting_28 rfl (lv_at hl 2 rfl) ?_
      refine lv_iconst (v := -1) hx hb dX1_waiting_29 (by decide) ?_
      refine lv_icmp_ne (tgt := 42) hx hb dX1_waiting_30 (by decide) (fun c30 => ?_) (fun c30 => ?_)
      · skip
        have h30c : 0 ≤ i ∧ i ≤ (γ 0 x_) - 1 := gw_lgy h22 c30
        have hl24 := hlen x_ hx6
        obtain ⟨i_, hi_, rfl⟩ := gw_idx h30c hL9.1 (by omega)
        obtain ⟨z9, hz9⟩ : ∃ z, (gw_wl σ x_)[i_]? = some z := ⟨_, List.getElem?_eq_getElem hi_⟩
        have hW2 : γ 1 ((24 * x_) + i_) = (gw_wait σ x_ (nI i_)).2 := (hL9.2 i_ z9 hz9).trans (gw_wait2 (by have := h13 x_ hx6; omega) (by omega) hz9).symm
        refine lv_aload_n hx hb dX1_waiting_42 rfl (lv_at hl 0 rfl) ?_
        refine gw_get hx hb hts in_X1 hown hK (gw_c0 hG) rfl 9 (by decide) (hts _ q109) (v := .ref (ad 6 5)) rfl dX1_waiting_43 ?_
        refine lv_bipush (v := 24) hx hb dX1_waiting_46 (by decide) ?_
        refine lv_iload_n hx hb dX1_waiting_48 rfl (lv_at hl 1 rfl) ?_
        refine lv_imul hx hb dX1_waiting_49 ?_
        refine gw_topi (y := nI (24 * x_)) (by simp only [gw_lit24, nI_add, pk_mul]) ?_
        refine lv_iload_n hx hb dX1_waiting_50 rfl (lv_at hl 2 rfl) ?_
        refine lv_iadd hx hb dX1_waiting_51 ?_
        refine gw_topi (y := nI ((24 * x_) + i_)) (by simp only [nI_add, pk_mul]) ?_
        refine gw_gald 5 (n := 144) (j := (24 * x_) + i_) hx hb hK hG (by decide) rfl rfl (by decide) (by omega) dX1_waiting_52 (v := γ 1 ((24 * x_) + i_)) rfl ?_
        have hG := gw_gW.nu (gw_gW.z (v := 0) hG) (gw_nu_up rfl).symm
        have hG := gw_gW.nu hG (show gw_nu (gw_up σ 0 0 0) = gw_nu σ from (gw_nu_up rfl))
        have hE9 : gw_up σ 0 0 0 = (gw_waiting σ (nI x_) (nI i_)).2 := (by simp only [gw_waiting, gw_fail, (eq_true h2), hxx_, hW1, h22, c30, and_true, true_and, and_false, false_and, and_self, or_true, true_or, or_false, false_or, not_true_eq_false, not_false_eq_true, if_true, if_false, ↓reduceIte]; try rfl)
        have hP9 : γ 1 ((24 * x_) + i_) = (gw_waiting σ (nI x_) (nI i_)).1 := (by simp only [gw_waiting, gw_fail, (eq_true h2), hxx_, hW1, h22, c30, and_true, true_and, and_false, false_and, and_self, or_true, true_or, or_false, false_or, not_true_eq_false, not_false_eq_true, if_true, if_false, ↓reduceIte]; exact hW2)
        have hC9 : gw_C (gw_up σ 0 0 0) γ ord := (gw_C_up rfl hC)
        have hZ9 : (gw_up σ 0 0 0) 0 0 = 0 := rfl
        rw [hE9] at hG hC9 hZ9
        refine vx_ret (W.widen (k := 1) (n := 6) (Nat.le_of_ble_eq_true rfl) (Nat.le_of_ble_eq_true rfl) ?_)
        exact W.iret (v := γ 1 ((24 * x_) + i_)) hx hb hr (fun t ht hW => ⟨⟨_, (hd, γ, ord), rfl, ⟨hP9, hZ9, hC9⟩, by show gw_gW D ca es A ad _ _ _ _ _ t.heap; rw [ht]; exact hG⟩, hS.F ht⟩) hS.2.2 dX1_waiting_53
      · skip
        refine lv_aload_n hx hb dX1_waiting_33 rfl (lv_at hl 0 rfl) ?_
        refine gw_get hx hb hts in_X1 hown hK (gw_c0 hG) rfl 8 (by decide) (hts _ q108) (v := .ref (ad 6 4)) rfl dX1_waiting_34 ?_
        refine lv_iload_n hx hb dX1_waiting_37 rfl (lv_at hl 1 rfl) ?_
        refine gw_gald 4 (n := 6) (j := x_) hx hb hK hG (by decide) rfl rfl (by decide) hx6 dX1_waiting_38 (v := γ 0 x_) rfl ?_
        refine lv_goto (tgt := 53) hx hb dX1_waiting_39 (by decide) ?_
        have hG := gw_gW.nu (gw_gW.z (v := 0) hG) (gw_nu_up rfl).symm
        have hG := gw_gW.nu hG (show gw_nu (gw_up σ 0 0 0) = gw_nu σ from (gw_nu_up rfl))
        have hE9 : gw_up σ 0 0 0 = (gw_waiting σ (nI x_) i).2 := (by simp only [gw_waiting, gw_fail, (eq_true h2), hxx_, hW1, h22, (eq_true c30), and_true, true_and, and_false, false_and, and_self, or_true, true_or, or_false, false_or, not_true_eq_false, not_false_eq_true, if_true, if_false, ↓reduceIte]; try rfl)
        have hP9 : γ 0 x_ = (gw_waiting σ (nI x_) i).1 := (by simp only [gw_waiting, gw_fail, (eq_true h2), hxx_, hW1, h22, (eq_true c30), and_true, true_and, and_false, false_and, and_self, or_true, true_or, or_false, false_or, not_true_eq_false, not_false_eq_true, if_true, if_false, ↓reduceIte]; try rfl)
        have hC9 : gw_C (gw_up σ 0 0 0) γ ord := (gw_C_up rfl hC)
        have hZ9 : (gw_up σ 0 0 0) 0 0 = 0 := rfl
        rw [hE9] at hG hC9 hZ9
        refine vx_ret (W.widen (k := 1) (n := 6) (Nat.le_of_ble_eq_true rfl) (Nat.le_of_ble_eq_true rfl) ?_)
        exact W.iret (v := γ 0 x_) hx hb hr (fun t ht hW => ⟨⟨_, (hd, γ, ord), rfl, ⟨hP9, hZ9, hC9⟩, by show gw_gW D ca es A ad _ _ _ _ _ t.heap; rw [ht]; exact hG⟩, hS.F ht⟩) hS.2.2 dX1_waiting_53
    · skip
      refine gw_scalli (va_Run.run (va_runS (As := [.long i.toInt64, .long (-1), .long (((γ 0 x_) - 1).toInt64)]) (rest := []) ⟨hx, hb, hml, hown, hts⟩ (gg_inRange l i.toInt64 (-1) (((γ 0 x_) - 1).toInt64)) (va_cwS 3 hts (lw_S q279 q280 q42 q281) rfl rfl rfl (by decide +kernel) ⟨Nat.le_of_ble_eq_true rfl, Nat.le_of_ble_eq_true rfl⟩) gw_spre rfl rfl hl.1 rfl (lv_room (Nat.le_of_ble_eq_true rfl)) dX1_waiting_22 ⟨Nat.le_of_ble_eq_true rfl, Nat.le_of_ble_eq_true rfl⟩)) ?_
      refine gw_topi (y := 0) (if_neg (gw_rgn (x := i) (by decide) rfl h22)) ?_
      have hF9 : (gw_waiting σ (nI x_) i) = gw_fail σ 2 := (by simp only [gw_waiting, gw_fail, (eq_true h2), hxx_, hW1, h22, and_true, true_and, and_false, false_and, and_self, or_true, true_or, or_false, false_or, not_true_eq_false, not_false_eq_true, if_true, if_false, ↓reduceIte]; try rfl)
      refine vx_callv (vx_runS (As := [.int 0]) (rest := []) ⟨hx, hb, hml, hown, hts⟩ (gg_checkThere0 l A hlt) (va_cwS 1 hts (lw_S q823 q824 q42 q825) rfl rfl rfl (by decide +kernel) ⟨Nat.le_of_ble_eq_true rfl, Nat.le_of_ble_eq_true rfl⟩) (gw_gspre [.int 0] gw_Thb (fun U hU hW => gw_That hU hW hE hN hS)) rfl rfl hl.1 rfl (lv_room (Nat.le_of_ble_eq_true rfl)) dX1_waiting_25 ⟨Nat.le_of_ble_eq_true rfl, Nat.le_of_ble_eq_true rfl⟩) hS (fun _ _ h => h.elim) (fun _ h => h.elim) (fun _ _ h => h.elim) (fun E ce q9 u9 t9 H1 locs1 ht9 hA9 _ hBX hz9 hq9 hS1 hce hcv hcl => ?_) (fun u9 t9 H1 locs1 ht9 hA9 hp9 => hp9.elim)
      exact gw_out htab hlocks hce hcv hcl hF9 (by decide) hBX hG hC hq9 hS1 (Nat.le_of_ble_eq_true rfl) (Nat.le_of_ble_eq_true rfl)
  · skip
    refine gw_scalli (va_Run.run (va_runV (As := [.int x]) (rest := []) ⟨hx, hb, hml, hown, hts⟩ (gg_isCall l D ca es A ad hd σ γ ord x) (cwV 1 hts (lw_V q521 q523 qs13 q42 q524) rfl rfl rfl (by decide +kernel) ⟨Nat.le_of_ble_eq_true rfl, Nat.le_of_ble_eq_true rfl⟩) (gw_grecv [.int x] gw_gPb (gw_c0 hG) rfl hK (fun U hU hW => gw_gat hU hW hG hK hE hN hA hS)) rfl rfl hl.1 rfl (lv_room (Nat.le_of_ble_eq_true rfl)) dX1_waiting_2 ⟨Nat.le_of_ble_eq_true rfl, Nat.le_of_ble_eq_true rfl⟩)) ?_
    refine gw_topi (y := 0) (if_neg h2) ?_
    have hF9 : (gw_waiting σ x i) = gw_fail σ 1 := (by simp only [gw_waiting, gw_fail, (eq_false h2), and_true, true_and, and_false, false_and, and_self, or_true, true_or, or_false, false_or, not_true_eq_false, not_false_eq_true, if_true, if_false, ↓reduceIte]; try rfl)
    refine vx_callv (vx_runS (As := [.int 0]) (rest := []) ⟨hx, hb, hml, hown, hts⟩ (gg_checkIndex0 l A hlt) (va_cwS 1 hts (lw_S q525 q526 q42 q527) rfl rfl rfl (by decide +kernel) ⟨Nat.le_of_ble_eq_true rfl, Nat.le_of_ble_eq_true rfl⟩) (gw_gspre [.int 0] gw_Thb (fun U hU hW => gw_That hU hW hE hN hS)) rfl rfl hl.1 rfl (lv_room (Nat.le_of_ble_eq_true rfl)) dX1_waiting_5 ⟨Nat.le_of_ble_eq_true rfl, Nat.le_of_ble_eq_true rfl⟩) hS (fun _ _ h => h.elim) (fun _ h => h.elim) (fun _ _ h => h.elim) (fun E ce q9 u9 t9 H1 locs1 ht9 hA9 _ hBX hz9 hq9 hS1 hce hcv hcl => ?_) (fun u9 t9 H1 locs1 ht9 hA9 hp9 => hp9.elim)
    exact gw_out htab hlocks hce hcv hcl hF9 (by decide) hBX hG hC hq9 hS1 (Nat.le_of_ble_eq_true rfl) (Nat.le_of_ble_eq_true rfl)
