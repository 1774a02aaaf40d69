/-! THE CLASS 2 -/
set_option maxRecDepth 100000
set_option maxHeartbeats 4000000 in
set_option maxRecDepth 100000 in
theorem gg_isMoney (l : Launch) (x y z : Int32) : Met l yX1_isMoney (ws_ yX1_isMoney cX1_isMoney 3 (some .boolean)) ({ frames := 2, cells := 0, slots := 0, locals := 37 }) (va_Pc [.int x, .int y, .int z] (fun _ => True)) (vp_Si (fun r => r = if gw_right x y z then 1 else 0)) 0 0 (fun _ => False) := by
  refine Met.ofW (cc := cX1_isMoney) (maxL := 3) (ret := (some .boolean)) (by decide) rfl ?_
  intro p e s m args below meth c s₁ B hml hv
  obtain ⟨rfl, -⟩ := hv
  have hx := B.exec
  have hb := B.bytes
  have hr := B.returns
  have hts := atoms_spec (ws := ws_ yX1_isMoney cX1_isMoney 3 (some .boolean)) B.pre
  have hts : ∀ w ∈ lw_all, w.before _ s = true := fun w h => hts w (List.mem_cons_of_mem _ h)
  have hown : s.vm.findClass RX1 = some m.cls := findClass_of_methodNamed B.named
  have hlocks := B.notSynchronized
  have hS : va_S (fun _ => False) s.heap s.heap [] := va_S.rf
  have hl := lv_entry ([.int x, .int y, .int z]) (n := 3) (Nat.le_of_ble_eq_true rfl)
  rw [lg_entry_eq]
  generalize (lg_sl ([.int x, .int y, .int z]) ++ List.replicate (3 - (lg_sl ([.int x, .int y, .int z])).length) Slot.unset).toArray = ls at hl ⊢
  have hl : lv_has ls 3 [(0, .int x), (1, .int y), (2, .int z)] := hl
  refine lv_iload_n hx hb dX1_isMoney_0 rfl (lv_at hl 0 rfl) ?_
  refine lv_i2l (v := x.toInt64) hx hb dX1_isMoney_1 rfl ?_
  refine lv_lconst (v := 0) hx hb dX1_isMoney_2 (by decide) ?_
  refine lv_ldc2 (v := 100000) hx hb hown (hts _ q547) dX1_isMoney_3 ?_
  rcases Classical.em (0 ≤ x ∧ x ≤ 100000) with h6 | h6
  · skip
    refine gw_scalli (va_Run.run (va_runS (As := [.long x.toInt64, .long 0, .long 100000]) (rest := []) ⟨hx, hb, hml, hown, hts⟩ (gg_inRange l x.toInt64 0 100000) (va_cwS 3 hts (lw_S q279 q280 q42 q281) rfl rfl rfl (by decide +kernel) ⟨Nat.le_of_ble_eq_true rfl, Nat.le_of_ble_eq_true rfl⟩) gw_spre rfl rfl hl.1 rfl (lv_room (Nat.le_of_ble_eq_true rfl)) dX1_isMoney_6 ⟨Nat.le_of_ble_eq_true rfl, Nat.le_of_ble_eq_true rfl⟩)) ?_
    refine gw_topi (y := 1) (if_pos (gw_rgp (x := x) (by decide) (by decide) h6)) ?_
    refine lv_if_eq (tgt := 52) hx hb dX1_isMoney_9 (by decide) (fun c_ => absurd c_ (by decide)) (fun _ => ?_)
    refine lv_iload_n hx hb dX1_isMoney_12 rfl (lv_at hl 1 rfl) ?_
    refine lv_i2l (v := y.toInt64) hx hb dX1_isMoney_13 rfl ?_
    refine lv_lconst (v := 0) hx hb dX1_isMoney_14 (by decide) ?_
    refine lv_ldc2 (v := 100000) hx hb hown (hts _ q547) dX1_isMoney_15 ?_
    rcases Classical.em (0 ≤ y ∧ y ≤ 100000) with h18 | h18
    · skip
      refine gw_scalli (va_Run.run (va_runS (As := [.long y.toInt64, .long 0, .long 100000]) (rest := []) ⟨hx, hb, hml, hown, hts⟩ (gg_inRange l y.toInt64 0 100000) (va_cwS 3 hts (lw_S q279 q280 q42 q281) rfl rfl rfl (by decide +kernel) ⟨Nat.le_of_ble_eq_true rfl, Nat.le_of_ble_eq_true rfl⟩) gw_spre rfl rfl hl.1 rfl (lv_room (Nat.le_of_ble_eq_true rfl)) dX1_isMoney_18 ⟨Nat.le_of_ble_eq_true rfl, Nat.le_of_ble_eq_true rfl⟩)) ?_
      refine gw_topi (y := 1) (if_pos (gw_rgp (x := y) (by decide) (by decide) h18)) ?_
      refine lv_if_eq (tgt := 52) hx hb dX1_isMoney_21 (by decide) (fun c_ => absurd c_ (by decide)) (fun _ => ?_)
      refine lv_iload_n hx hb dX1_isMoney_24 rfl (lv_at hl 2 rfl) ?_
      refine lv_i2l (v := z.toInt64) hx hb dX1_isMoney_25 rfl ?_
      refine lv_lconst (v := 0) hx hb dX1_isMoney_26 (by decide) ?_
      refine lv_ldc2 (v := 100000) hx hb hown (hts _ q547) dX1_isMoney_27 ?_
      rcases Classical.em (0 ≤ z ∧ z ≤ 100000) with h30 | h30
      · skip
        refine gw_scalli (va_Run.run (va_runS (As := [.long z.toInt64, .long 0, .long 100000]) (rest := []) ⟨hx, hb, hml, hown, hts⟩ (gg_inRange l z.toInt64 0 100000) (va_cwS 3 hts (lw_S q279 q280 q42 q281) rfl rfl rfl (by decide +kernel) ⟨Nat.le_of_ble_eq_true rfl, Nat.le_of_ble_eq_true rfl⟩) gw_spre rfl rfl hl.1 rfl (lv_room (Nat.le_of_ble_eq_true rfl)) dX1_isMoney_30 ⟨Nat.le_of_ble_eq_true rfl, Nat.le_of_ble_eq_true rfl⟩)) ?_
        refine gw_topi (y := 1) (if_pos (gw_rgp (x := z) (by decide) (by decide) h30)) ?_
        refine lv_if_eq (tgt := 52) hx hb dX1_isMoney_33 (by decide) (fun c_ => absurd c_ (by decide)) (fun _ => ?_)
        refine lv_iload_n hx hb dX1_isMoney_36 rfl (lv_at hl 0 rfl) ?_
        refine lv_if_gt (tgt := 48) hx hb dX1_isMoney_37 (by decide) (fun c37 => ?_) (fun c37 => ?_)
        · skip
          refine lv_iconst (v := 1) hx hb dX1_isMoney_48 (by decide) ?_
          refine lv_goto (tgt := 53) hx hb dX1_isMoney_49 (by decide) ?_
          exact W.zret (v := 1) hx hb hr rfl (fun t ht hW => ⟨1, rfl, (if_pos ⟨h6, h18, h30, (gw_pos3 h6 h18 h30).mpr (.inl c37)⟩).symm, ht⟩) (fun q h => by cases h) dX1_isMoney_53
        · skip
          refine lv_iload_n hx hb dX1_isMoney_40 rfl (lv_at hl 1 rfl) ?_
          refine lv_if_gt (tgt := 48) hx hb dX1_isMoney_41 (by decide) (fun c41 => ?_) (fun c41 => ?_)
          · skip
            refine lv_iconst (v := 1) hx hb dX1_isMoney_48 (by decide) ?_
            refine lv_goto (tgt := 53) hx hb dX1_isMoney_49 (by decide) ?_
            exact W.zret (v := 1) hx hb hr rfl (fun t ht hW => ⟨1, rfl, (if_pos ⟨h6, h18, h30, (gw_pos3 h6 h18 h30).mpr (.inr (.inl c41))⟩).symm, ht⟩) (fun q h => by cases h) dX1_isMoney_53
          · skip
            refine lv_iload_n hx hb dX1_isMoney_44 rfl (lv_at hl 2 rfl) ?_
            refine lv_if_le (tgt := 52) hx hb dX1_isMoney_45 (by decide) (fun c45 => ?_) (fun c45 => ?_)
            · skip
              refine lv_iconst (v := 0) hx hb dX1_isMoney_52 (by decide) ?_
              exact W.zret (v := 0) hx hb hr rfl (fun t ht hW => ⟨0, rfl, (if_neg (fun q => ((gw_pos3 h6 h18 h30).mp q.2.2.2).elim c37 (fun y => y.elim c41 (fun z => absurd z (Int32.not_lt.mpr c45))))).symm, ht⟩) (fun q h => by cases h) dX1_isMoney_53
            · skip
              refine lv_iconst (v := 1) hx hb dX1_isMoney_48 (by decide) ?_
              refine lv_goto (tgt := 53) hx hb dX1_isMoney_49 (by decide) ?_
              exact W.zret (v := 1) hx hb hr rfl (fun t ht hW => ⟨1, rfl, (if_pos ⟨h6, h18, h30, (gw_pos3 h6 h18 h30).mpr (.inr (.inr (Int32.not_le.mp c45)))⟩).symm, ht⟩) (fun q h => by cases h) dX1_isMoney_53
      · skip
        refine gw_scalli (va_Run.run (va_runS (As := [.long z.toInt64, .long 0, .long 100000]) (rest := []) ⟨hx, hb, hml, hown, hts⟩ (gg_inRange l z.toInt64 0 100000) (va_cwS 3 hts (lw_S q279 q280 q42 q281) rfl rfl rfl (by decide +kernel) ⟨Nat.le_of_ble_eq_true rfl, Nat.le_of_ble_eq_true rfl⟩) gw_spre rfl rfl hl.1 rfl (lv_room (Nat.le_of_ble_eq_true rfl)) dX1_isMoney_30 ⟨Nat.le_of_ble_eq_true rfl, Nat.le_of_ble_eq_true rfl⟩)) ?_
        refine gw_topi (y := 0) (if_neg (gw_rgn (x := z) (by decide) (by decide) h30)) ?_
        refine lv_if_eq (tgt := 52) hx hb dX1_isMoney_33 (by decide) (fun _ => ?_) (fun c_ => absurd c_ (by decide))
        refine lv_iconst (v := 0) hx hb dX1_isMoney_52 (by decide) ?_
        exact W.zret (v := 0) hx hb hr rfl (fun t ht hW => ⟨0, rfl, (if_neg (fun q => h30 q.2.2.1)).symm, ht⟩) (fun q h => by cases h) dX1_isMoney_53
    · skip
      refine gw_scalli (va_Run.run (va_runS (As := [.long y.toInt64, .long 0, .long 100000]) (rest := []) ⟨hx, hb, hml, hown, hts⟩ (gg_inRange l y.toInt64 0 100000) (va_cwS 3 hts (lw_S q279 q280 q42 q281) rfl rfl rfl (by decide +kernel) ⟨Nat.le_of_ble_eq_true rfl, Nat.le_of_ble_eq_true rfl⟩) gw_spre rfl rfl hl.1 rfl (lv_room (Nat.le_of_ble_eq_true rfl)) dX1_isMoney_18 ⟨Nat.le_of_ble_eq_true rfl, Nat.le_of_ble_eq_true rfl⟩)) ?_
      refine gw_topi (y := 0) (if_neg (gw_rgn (x := y) (by decide) (by decide) h18)) ?_
      refine lv_if_eq (tgt := 52) hx hb dX1_isMoney_21 (by decide) (fun _ => ?_) (fun c_ => absurd c_ (by decide))
      refine lv_iconst (v := 0) hx hb dX1_isMoney_52 (by decide) ?_
      exact W.zret (v := 0) hx hb hr rfl (fun t ht hW => ⟨0, rfl, (if_neg (fun q => h18 q.2.1)).symm, ht⟩) (fun q h => by cases h) dX1_isMoney_53
  · skip
    refine gw_scalli (va_Run.run (va_runS (As := [.long x.toInt64, .long 0, .long 100000]) (rest := []) ⟨hx, hb, hml, hown, hts⟩ (gg_inRange l x.toInt64 0 100000) (va_cwS 3 hts (lw_S q279 q280 q42 q281) rfl rfl rfl (by decide +kernel) ⟨Nat.le_of_ble_eq_true rfl, Nat.le_of_ble_eq_true rfl⟩) gw_spre rfl rfl hl.1 rfl (lv_room (Nat.le_of_ble_eq_true rfl)) dX1_isMoney_6 ⟨Nat.le_of_ble_eq_true rfl, Nat.le_of_ble_eq_true rfl⟩)) ?_
    refine gw_topi (y := 0) (if_neg (gw_rgn (x := x) (by decide) (by decide) h6)) ?_
    refine lv_if_eq (tgt := 52) hx hb dX1_isMoney_9 (by decide) (fun _ => ?_) (fun c_ => absurd c_ (by decide))
    refine lv_iconst (v := 0) hx hb dX1_isMoney_52 (by decide) ?_
    exact W.zret (v := 0) hx hb hr rfl (fun t ht hW => ⟨0, rfl, (if_neg (fun q => h6 q.1)).symm, ht⟩) (fun q h => by cases h) dX1_isMoney_53

set_option maxHeartbeats 4000000 in
set_option maxRecDepth 100000 in
theorem gg_hasConflict (l : Launch) (D : va_G) (ca : Nat → ClassId) (es : Nat → Nat) (A : Nat → Prop) (ad hd : Nat → Nat → Nat) (σ γ : gw_S) (ord : List Nat) (i a : Nat) (hi : i < 10) (ha : a < gw_n σ 15) (hbit : ∀ j, j < 30 → gw_bit (γ 2 i) j = σ 28 (30 * i + j)) (h17 : σ 17 a = nI (gw_ix (σ 17 a)) ∧ gw_ix (σ 17 a) < 30) : Met l yX1_hasConflict (ws_ yX1_hasConflict cX1_hasConflict 3 (some .boolean)) ({ frames := 1, cells := 0, slots := 0, locals := 12 }) (va_Pc [.ref (ad 0 0), .int (nI i), .ref (ad 12 a)] (gw_gP D ca es A ad hd σ γ ord (gw_nu σ))) (vp_Si (fun r => r = if gw_confl σ i a then 1 else 0)) 0 0 (fun _ => False) := by
  refine Met.ofW (cc := cX1_hasConflict) (maxL := 3) (ret := (some .boolean)) (by decide) rfl ?_
  intro p e s m args below meth c s₁ B hml hv
  obtain ⟨rfl, hG, hK, hE, hN, hA⟩ := hv
  have hx := B.exec
  have hb := B.bytes
  have hr := B.returns
  have hts := atoms_spec (ws := ws_ yX1_hasConflict cX1_hasConflict 3 (some .boolean)) B.pre
  have hts : ∀ w ∈ lw_all, w.before _ s = true := fun w h => hts w (List.mem_cons_of_mem _ h)
  have hown : s.vm.findClass RX1 = some m.cls := findClass_of_methodNamed B.named
  have hlocks := B.notSynchronized
  have hS : va_S A s.heap s.heap [] := va_S.rf
  have hl := lv_entry ([.ref (ad 0 0), .int (nI i), .ref (ad 12 a)]) (n := 3) (Nat.le_of_ble_eq_true rfl)
  rw [lg_entry_eq]
  generalize (lg_sl ([.ref (ad 0 0), .int (nI i), .ref (ad 12 a)]) ++ List.replicate (3 - (lg_sl ([.ref (ad 0 0), .int (nI i), .ref (ad 12 a)])).length) Slot.unset).toArray = ls at hl ⊢
  have hl : lv_has ls 3 [(0, .ref (ad 0 0)), (1, .int (nI i)), (2, .ref (ad 12 a))] := hl
  refine lv_aload_n hx hb dX1_hasConflict_0 rfl (lv_at hl 0 rfl) ?_
  refine gw_get hx hb hts in_X1 hown hK (gw_c0 hG) rfl 15 (by decide) (hts _ q115) (v := .ref (ad 6 7)) rfl dX1_hasConflict_1 ?_
  refine lv_iload_n hx hb dX1_hasConflict_4 rfl (lv_at hl 1 rfl) ?_
  refine gw_gald 7 (n := 10) (j := i) hx hb hK hG (by decide) rfl rfl (by decide) hi dX1_hasConflict_5 (v := σ 26 i) rfl ?_
  refine lv_aload_n hx hb dX1_hasConflict_6 rfl (lv_at hl 2 rfl) ?_
  refine gw_getN hx hb hts in_X8 hown hK (gw_c12 hG (j := a) ha) rfl 2 (by decide) (hN.1 _ q564 rfl) (v := .int (σ 17 a)) rfl dX1_hasConflict_7 ?_
  refine lv_icmp_eq (tgt := 43) hx hb dX1_hasConflict_10 (by decide) (fun c10 => ?_) (fun c10 => ?_)
  · skip
    refine lv_iconst (v := 1) hx hb dX1_hasConflict_43 (by decide) ?_
    refine lv_goto (tgt := 48) hx hb dX1_hasConflict_44 (by decide) ?_
    exact W.zret (v := 1) hx hb hr rfl (fun t ht hW => ⟨1, rfl, (if_pos (.inl c10)).symm, ht⟩) (fun q h => by cases h) dX1_hasConflict_48
  · skip
    refine lv_aload_n hx hb dX1_hasConflict_13 rfl (lv_at hl 0 rfl) ?_
    refine gw_get hx hb hts in_X1 hown hK (gw_c0 hG) rfl 16 (by decide) (hts _ q116) (v := .ref (ad 6 8)) rfl dX1_hasConflict_14 ?_
    refine lv_iload_n hx hb dX1_hasConflict_17 rfl (lv_at hl 1 rfl) ?_
    refine gw_gald 8 (n := 10) (j := i) hx hb hK hG (by decide) rfl rfl (by decide) hi dX1_hasConflict_18 (v := σ 27 i) rfl ?_
    refine lv_aload_n hx hb dX1_hasConflict_19 rfl (lv_at hl 2 rfl) ?_
    refine gw_getN hx hb hts in_X8 hown hK (gw_c12 hG (j := a) ha) rfl 3 (by decide) (hN.1 _ q566 rfl) (v := .int (σ 18 a)) rfl dX1_hasConflict_20 ?_
    refine lv_icmp_eq (tgt := 43) hx hb dX1_hasConflict_23 (by decide) (fun c23 => ?_) (fun c23 => ?_)
    · skip
      refine lv_iconst (v := 1) hx hb dX1_hasConflict_43 (by decide) ?_
      refine lv_goto (tgt := 48) hx hb dX1_hasConflict_44 (by decide) ?_
      exact W.zret (v := 1) hx hb hr rfl (fun t ht hW => ⟨1, rfl, (if_pos (.inr (.inl c23))).symm, ht⟩) (fun q h => by cases h) dX1_hasConflict_48
    · skip
      refine lv_aload_n hx hb dX1_hasConflict_26 rfl (lv_at hl 0 rfl) ?_
      refine gw_get hx hb hts in_X1 hown hK (gw_c0 hG) rfl 17 (by decide) (hts _ q117) (v := .ref (ad 6 9)) rfl dX1_hasConflict_27 ?_
      refine lv_iload_n hx hb dX1_hasConflict_30 rfl (lv_at hl 1 rfl) ?_
      refine gw_gald 9 (n := 10) (j := i) hx hb hK hG (by decide) rfl rfl (by decide) hi dX1_hasConflict_31 (v := γ 2 i) rfl ?_
      refine lv_aload_n hx hb dX1_hasConflict_32 rfl (lv_at hl 2 rfl) ?_
      refine gw_getN hx hb hts in_X8 hown hK (gw_c12 hG (j := a) ha) rfl 2 (by decide) (hN.1 _ q564 rfl) (v := .int (σ 17 a)) rfl dX1_hasConflict_33 ?_
      refine lv_ishr hx hb dX1_hasConflict_36 ?_
      refine lv_iconst (v := 1) hx hb dX1_hasConflict_37 (by decide) ?_
      refine lv_iand hx hb dX1_hasConflict_38 ?_
      refine gw_topi (y := σ 28 ((30 * i) + (gw_ix (σ 17 a)))) ((gw_bit_at h17.1).trans (hbit _ h17.2)) ?_
      refine lv_iconst (v := 1) hx hb dX1_hasConflict_39 (by decide) ?_
      refine lv_icmp_ne (tgt := 47) hx hb dX1_hasConflict_40 (by decide) (fun c40 => ?_) (fun c40 => ?_)
      · skip
        refine lv_iconst (v := 0) hx hb dX1_hasConflict_47 (by decide) ?_
        exact W.zret (v := 0) hx hb hr rfl (fun t ht hW => ⟨0, rfl, (if_neg (fun q => q.elim c10 (fun y => y.elim c23 (fun z => c40 ((gw_ne1 (by rw [← hbit _ h17.2]; exact gw_bit_01 _ _)).mpr z))))).symm, ht⟩) (fun q h => by cases h) dX1_hasConflict_48
      · skip
        refine lv_iconst (v := 1) hx hb dX1_hasConflict_43 (by decide) ?_
        refine lv_goto (tgt := 48) hx hb dX1_hasConflict_44 (by decide) ?_
        exact W.zret (v := 1) hx hb hr rfl (fun t ht hW => ⟨1, rfl, (if_pos (.inr (.inr ((gw_ne1 (by rw [← hbit _ h17.2]; exact gw_bit_01 _ _)).mp c40)))).symm, ht⟩) (fun q h => by cases h) dX1_hasConflict_48

set_option maxHeartbeats 4000000 in
set_option maxRecDepth 100000 in
theorem gg_toCome (l : Launch) (D : va_G) (ca : Nat → ClassId) (es : Nat → Nat) (A : Nat → Prop) (ad hd : Nat → Nat → Nat) (σ γ : gw_S) (ord : List Nat) (a : Nat) (ha : a < gw_n σ 15) (h23 : σ 23 a = nI (gw_ix (σ 23 a))) (h3 : gw_ix (σ 23 a) ≤ 3) : Met l yX8_toCome (ws_ yX8_toCome cX8_toCome 3 (some .int)) ({ frames := 1, cells := 0, slots := 0, locals := 12 }) (va_Pc [.ref (ad 12 a)] (gw_gP D ca es A ad hd σ γ ord (gw_nu σ))) (vp_Si (fun r => r = gw_rf σ a (3 - gw_ix (σ 23 a)) (gw_ix (σ 23 a)) 0)) 0 0 (fun _ => False) := by
  refine Met.ofW (cc := cX8_toCome) (maxL := 3) (ret := (some .int)) (by decide) rfl ?_
  intro p e s m args below meth c s₁ B hml hv
  obtain ⟨rfl, hG, hK, hE, hN, hA⟩ := hv
  have hx := B.exec
  have hb := B.bytes
  have hr := B.returns
  have hts := atoms_spec (ws := ws_ yX8_toCome cX8_toCome 3 (some .int)) B.pre
  have hts : ∀ w ∈ lw_all, w.before _ s = true := fun w h => hts w (List.mem_cons_of_mem _ h)
  have hown : s.vm.findClass RX8 = some m.cls := findClass_of_methodNamed B.named
  have hlocks := B.notSynchronized
  have hS : va_S A s.heap s.heap [] := va_S.rf
  have hl := lv_entry ([.ref (ad 12 a)]) (n := 3) (Nat.le_of_ble_eq_true rfl)
  rw [lg_entry_eq]
  generalize (lg_sl ([.ref (ad 12 a)]) ++ List.replicate (3 - (lg_sl ([.ref (ad 12 a)])).length) Slot.unset).toArray = ls at hl ⊢
  have hl : lv_has ls 3 [(0, .ref (ad 12 a))] := hl
  refine lv_iconst (v := 0) hx hb dX8_toCome_0 (by decide) ?_
  refine lv_istore_n (lv' := [(1, .int 0), (0, .ref (ad 12 a))]) hx hb dX8_toCome_1 rfl hl (by decide) rfl (fun ls hl => ?_)
  refine lv_aload_n hx hb dX8_toCome_2 rfl (lv_at hl 1 rfl) ?_
  refine gw_get hx hb hts in_X8 hown hK (gw_c12 hG (j := a) ha) rfl 9 (by decide) (hts _ q577) (v := .int (σ 23 a)) rfl dX8_toCome_3 ?_
  refine gw_topi (y := nI (gw_ix (σ 23 a))) h23 ?_
  refine lv_istore_n (lv' := [(2, .int (nI (gw_ix (σ 23 a)))), (1, .int 0), (0, .ref (ad 12 a))]) hx hb dX8_toCome_6 rfl hl (by decide) rfl (fun ls hl => ?_)
  have lp7 : ∀ (n7 : Nat) (k : Nat) (acc : Int32), (k + n7 = 3) → (gw_rf σ a n7 k acc = gw_rf σ a (3 - gw_ix (σ 23 a)) (gw_ix (σ 23 a)) 0) → ∀ ls : Array Slot, lv_has ls 3 [(0, .ref (ad 12 a)), (1, .int acc), (2, .int (nI k))] → W p l e (headSpec (ws_ yX8_toCome cX8_toCome 3 (some .int)) ({ frames := 1, cells := 0, slots := 0, locals := 12 })).room s m ([.ref (ad 12 a)] : List Value).toArray below meth c s.heap [] 0 0 (MQ below (vp_Si (fun r => r = gw_rf σ a (3 - gw_ix (σ 23 a)) (gw_ix (σ 23 a)) 0)) ([.ref (ad 12 a)] : List Value).toArray s 0 0 (fun _ => False)) (F0 m 7 ls []) := by
    intro n7
    induction n7 with
    | zero =>
      intro k acc hk hR ls hl
      refine lv_iload_n hx hb dX8_toCome_7 rfl (lv_at hl 2 rfl) ?_
      refine lv_iconst (v := 3) hx hb dX8_toCome_8 (by decide) ?_
      refine lv_icmp_ge (tgt := 27) hx hb dX8_toCome_9 (by decide) (fun _ => ?_) (fun c_ => absurd (gw_ge3 (by omega)) c_)
      refine lv_iload_n hx hb dX8_toCome_27 rfl (lv_at hl 1 rfl) ?_
      exact W.iret (v := acc) hx hb hr (fun t ht hW => ⟨acc, rfl, hR, ht⟩) (fun q h => by cases h) dX8_toCome_28
    | succ n7 ih7 =>
      intro k acc hk hR ls hl
      refine lv_iload_n hx hb dX8_toCome_7 rfl (lv_at hl 2 rfl) ?_
      refine lv_iconst (v := 3) hx hb dX8_toCome_8 (by decide) ?_
      refine lv_icmp_ge (tgt := 27) hx hb dX8_toCome_9 (by decide) (fun c_ => absurd c_ (gw_nge3 (by omega))) (fun _ => ?_)
      refine lv_iload_n hx hb dX8_toCome_12 rfl (lv_at hl 1 rfl) ?_
      refine lv_aload_n hx hb dX8_toCome_13 rfl (lv_at hl 0 rfl) ?_
      refine gw_get hx hb hts in_X8 hown hK (gw_c12 hG (j := a) ha) rfl 4 (by decide) (hts _ q567) (v := .ref (ad 13 a)) rfl dX8_toCome_14 ?_
      refine lv_iload_n hx hb dX8_toCome_17 rfl (lv_at hl 2 rfl) ?_
      refine gw_askld (i := k) (j := a) hx hb hK hG ha (by omega) dX8_toCome_18 (v := σ 19 ((3 * a) + k)) rfl ?_
      refine lv_iadd hx hb dX8_toCome_19 ?_
      refine lv_istore_n (lv' := [(1, .int (acc + (σ 19 ((3 * a) + k)))), (0, .ref (ad 12 a)), (2, .int (nI k))]) hx hb dX8_toCome_20 rfl hl (by decide) rfl (fun ls hl => ?_)
      refine lv_iinc (v := nI (k + 1)) (lv' := [(2, .int (nI (k + 1))), (1, .int (acc + (σ 19 ((3 * a) + k)))), (0, .ref (ad 12 a))]) hx hb dX8_toCome_21 hl (k := 2) rfl (gw_inc _) (by decide) rfl (fun ls hl => ?_)
      refine lv_goto (tgt := 7) hx hb dX8_toCome_24 (by decide) ?_
      exact ih7 (k + 1) (acc + (σ 19 ((3 * a) + k))) (by omega) (by rw [← hR]; rfl) ls (lv_sub hl [2, 1, 0] rfl)
  exact lp7 (3 - gw_ix (σ 23 a)) (gw_ix (σ 23 a)) 0 (by omega) rfl ls (lv_sub hl [2, 1, 0] rfl)

set_option maxHeartbeats 4000000 in
set_option maxRecDepth 100000 in
theorem gg_reviewCount (l : Launch) (D : va_G) (ca : Nat → ClassId) (es : Nat → Nat) (A : Nat → Prop) (ad hd : Nat → Nat → Nat) (σ γ : gw_S) (ord : List Nat) (a : Nat) (hJ : gw_J σ) (ha : a < gw_n σ 15) : Met l yX8_reviewCount (ws_ yX8_reviewCount cX8_reviewCount 3 (some .int)) ({ frames := 1, cells := 0, slots := 0, locals := 12 }) (va_Pc [.ref (ad 12 a)] (gw_gP D ca es A ad hd σ γ ord (gw_nu σ))) (vp_Si (fun r => r = gw_rv σ a 10 0 0)) 0 0 (fun _ => False) := by
  refine Met.ofW (cc := cX8_reviewCount) (maxL := 3) (ret := (some .int)) (by decide) rfl ?_
  intro p e s m args below meth c s₁ B hml hv
  obtain ⟨rfl, hG, hK, hE, hN, hA⟩ := hv
  have hx := B.exec
  have hb := B.bytes
  have hr := B.returns
  have hts := atoms_spec (ws := ws_ yX8_reviewCount cX8_reviewCount 3 (some .int)) B.pre
  have hts : ∀ w ∈ lw_all, w.before _ s = true := fun w h => hts w (List.mem_cons_of_mem _ h)
  have hown : s.vm.findClass RX8 = some m.cls := findClass_of_methodNamed B.named
  have hlocks := B.notSynchronized
  have hS : va_S A s.heap s.heap [] := va_S.rf
  have hl := lv_entry ([.ref (ad 12 a)]) (n := 3) (Nat.le_of_ble_eq_true rfl)
  rw [lg_entry_eq]
  generalize (lg_sl ([.ref (ad 12 a)]) ++ List.replicate (3 - (lg_sl ([.ref (ad 12 a)])).length) Slot.unset).toArray = ls at hl ⊢
  have hl : lv_has ls 3 [(0, .ref (ad 12 a))] := hl
  refine lv_iconst (v := 0) hx hb dX8_reviewCount_0 (by decide) ?_
  refine lv_istore_n (lv' := [(1, .int 0), (0, .ref (ad 12 a))]) hx hb dX8_reviewCount_1 rfl hl (by decide) rfl (fun ls hl => ?_)
  refine lv_iconst (v := 0) hx hb dX8_reviewCount_2 (by decide) ?_
  refine lv_istore_n (lv' := [(2, .int 0), (1, .int 0), (0, .ref (ad 12 a))]) hx hb dX8_reviewCount_3 rfl hl (by decide) rfl (fun ls hl => ?_)
  have lp4 : ∀ (n4 : Nat) (k : Nat) (acc : Int32), (k + n4 = 10) → (gw_rv σ a n4 k acc = gw_rv σ a 10 0 0) → ∀ ls : Array Slot, lv_has ls 3 [(0, .ref (ad 12 a)), (1, .int acc), (2, .int (nI k))] → W p l e (headSpec (ws_ yX8_reviewCount cX8_reviewCount 3 (some .int)) ({ frames := 1, cells := 0, slots := 0, locals := 12 })).room s m ([.ref (ad 12 a)] : List Value).toArray below meth c s.heap [] 0 0 (MQ below (vp_Si (fun r => r = gw_rv σ a 10 0 0)) ([.ref (ad 12 a)] : List Value).toArray s 0 0 (fun _ => False)) (F0 m 4 ls []) := by
    intro n4
    induction n4 with
    | zero =>
      intro k acc hk hR ls hl
      refine lv_iload_n hx hb dX8_reviewCount_4 rfl (lv_at hl 2 rfl) ?_
      refine lv_bipush (v := 10) hx hb dX8_reviewCount_5 (by decide) ?_
      refine lv_icmp_ge (tgt := 29) hx hb dX8_reviewCount_7 (by decide) (fun _ => ?_) (fun c_ => absurd (gw_ge10 (by omega)) c_)
      refine lv_iload_n hx hb dX8_reviewCount_29 rfl (lv_at hl 1 rfl) ?_
      exact W.iret (v := acc) hx hb hr (fun t ht hW => ⟨acc, rfl, hR, ht⟩) (fun q h => by cases h) dX8_reviewCount_30
    | succ n4 ih4 =>
      intro k acc hk hR ls hl
      refine lv_iload_n hx hb dX8_reviewCount_4 rfl (lv_at hl 2 rfl) ?_
      refine lv_bipush (v := 10) hx hb dX8_reviewCount_5 (by decide) ?_
      refine lv_icmp_ge (tgt := 29) hx hb dX8_reviewCount_7 (by decide) (fun c_ => absurd c_ (gw_nge10 (by omega))) (fun _ => ?_)
      refine lv_aload_n hx hb dX8_reviewCount_10 rfl (lv_at hl 0 rfl) ?_
      refine gw_get hx hb hts in_X8 hown hK (gw_c12 hG (j := a) ha) rfl 5 (by decide) (hts _ q569) (v := .ref (ad 14 a)) rfl dX8_reviewCount_11 ?_
      refine lv_iload_n hx hb dX8_reviewCount_14 rfl (lv_at hl 2 rfl) ?_
      refine gw_revld (i := k) (j := a) hx hb hK hG ha (by have := hJ.b15; omega) (by omega) dX8_reviewCount_15 (v := σ 30 ((24 * k) + a)) rfl ?_
      refine lv_iconst (v := -1) hx hb dX8_reviewCount_16 (by decide) ?_
      refine lv_icmp_eq (tgt := 23) hx hb dX8_reviewCount_17 (by decide) (fun c17 => ?_) (fun c17 => ?_)
      · skip
        refine lv_iinc (v := nI (k + 1)) (lv' := [(2, .int (nI (k + 1))), (0, .ref (ad 12 a)), (1, .int acc)]) hx hb dX8_reviewCount_23 hl (k := 2) rfl (gw_inc _) (by decide) rfl (fun ls hl => ?_)
        refine lv_goto (tgt := 4) hx hb dX8_reviewCount_26 (by decide) ?_
        exact ih4 (k + 1) acc (by omega) (by rw [← hR]; simp [gw_rv, (eq_true c17)]) ls (lv_sub hl [1, 2, 0] rfl)
      · skip
        refine lv_iinc (v := acc + 1) (lv' := [(1, .int (acc + 1)), (0, .ref (ad 12 a)), (2, .int (nI k))]) hx hb dX8_reviewCount_20 hl (k := 1) rfl rfl (by decide) rfl (fun ls hl => ?_)
        refine lv_iinc (v := nI (k + 1)) (lv' := [(2, .int (nI (k + 1))), (1, .int (acc + 1)), (0, .ref (ad 12 a))]) hx hb dX8_reviewCount_23 hl (k := 2) rfl (gw_inc _) (by decide) rfl (fun ls hl => ?_)
        refine lv_goto (tgt := 4) hx hb dX8_reviewCount_26 (by decide) ?_
        exact ih4 (k + 1) (acc + 1) (by omega) (by rw [← hR]; simp [gw_rv, c17]) ls (lv_sub hl [2, 1, 0] rfl)
  exact lp4 10 0 0 (by omega) rfl ls (lv_sub hl [2, 1, 0] rfl)

set_option maxHeartbeats 4000000 in
set_option maxRecDepth 100000 in
theorem gg_alikeOf (l : Launch) (D : va_G) (ca : Nat → ClassId) (es : Nat → Nat) (A : Nat → Prop) (ad hd : Nat → Nat → Nat) (σ γ : gw_S) (ord : List Nat) (i a : Nat) (hJ : gw_J σ) (hi : i < 10) (ha : a < gw_n σ 15) (h14 : ¬ σ 30 (24 * i + a) = -1) : Met l yX1_alikeOf (ws_ yX1_alikeOf cX1_alikeOf 9 (some .int)) ({ frames := 2, cells := 0, slots := 0, locals := 51 }) (va_Pc [.ref (ad 0 0), .int (nI i), .ref (ad 12 a)] (gw_gP D ca es A ad hd σ γ ord (gw_nu σ))) (vp_Si (fun r => r = gw_al0 σ i a)) 0 0 (fun _ => False) := by
  refine Met.ofW (cc := cX1_alikeOf) (maxL := 9) (ret := (some .int)) (by decide) rfl ?_
  intro p e s m args below meth c s₁ B hml hv
  obtain ⟨rfl, hG, hK, hE, hN, hA⟩ := hv
  have hx := B.exec
  have hb := B.bytes
  have hr := B.returns
  have hts := atoms_spec (ws := ws_ yX1_alikeOf cX1_alikeOf 9 (some .int)) B.pre
  have hts : ∀ w ∈ lw_all, w.before _ s = true := fun w h => hts w (List.mem_cons_of_mem _ h)
  have hown : s.vm.findClass RX1 = some m.cls := findClass_of_methodNamed B.named
  have hlocks := B.notSynchronized
  have hS : va_S A s.heap s.heap [] := va_S.rf
  have hl := lv_entry ([.ref (ad 0 0), .int (nI i), .ref (ad 12 a)]) (n := 9) (Nat.le_of_ble_eq_true rfl)
  rw [lg_entry_eq]
  generalize (lg_sl ([.ref (ad 0 0), .int (nI i), .ref (ad 12 a)]) ++ List.replicate (9 - (lg_sl ([.ref (ad 0 0), .int (nI i), .ref (ad 12 a)])).length) Slot.unset).toArray = ls at hl ⊢
  have hl : lv_has ls 9 [(0, .ref (ad 0 0)), (1, .int (nI i)), (2, .ref (ad 12 a))] := hl
  refine lv_iconst (v := 0) hx hb dX1_alikeOf_0 (by decide) ?_
  refine lv_istore_n (lv' := [(3, .int 0), (0, .ref (ad 0 0)), (1, .int (nI i)), (2, .ref (ad 12 a))]) hx hb dX1_alikeOf_1 rfl hl (by decide) rfl (fun ls hl => ?_)
  refine lv_iconst (v := 0) hx hb dX1_alikeOf_2 (by decide) ?_
  refine lv_istore (lv' := [(4, .int 0), (3, .int 0), (0, .ref (ad 0 0)), (1, .int (nI i)), (2, .ref (ad 12 a))]) hx hb dX1_alikeOf_3 hl (by decide) rfl (fun ls hl => ?_)
  refine lv_bipush (v := 100) hx hb dX1_alikeOf_5 (by decide) ?_
  refine lv_istore (lv' := [(5, .int 100), (4, .int 0), (3, .int 0), (0, .ref (ad 0 0)), (1, .int (nI i)), (2, .ref (ad 12 a))]) hx hb dX1_alikeOf_7 hl (by decide) rfl (fun ls hl => ?_)
  refine lv_iconst (v := 0) hx hb dX1_alikeOf_9 (by decide) ?_
  refine lv_istore (lv' := [(6, .int 0), (5, .int 100), (4, .int 0), (3, .int 0), (0, .ref (ad 0 0)), (1, .int (nI i)), (2, .ref (ad 12 a))]) hx hb dX1_alikeOf_10 hl (by decide) rfl (fun ls hl => ?_)
  refine lv_iconst (v := 0) hx hb dX1_alikeOf_12 (by decide) ?_
  refine lv_istore (lv' := [(7, .int 0), (6, .int 0), (5, .int 100), (4, .int 0), (3, .int 0), (0, .ref (ad 0 0)), (1, .int (nI i)), (2, .ref (ad 12 a))]) hx hb dX1_alikeOf_13 hl (by decide) rfl (fun ls hl => ?_)
  have lp15 : ∀ (n15 : Nat) (k : Nat) (s1 : Int32) (s2 : Int32) (s3 : Int32) (s4 : Int32), (k + n15 = gw_n σ 15) → (gw_al σ i a n15 k s1 s2 s3 s4 = gw_al σ i a (gw_n σ 15) 0 0 0 100 0) → ∀ ls : Array Slot, lv_has ls 9 [(0, .ref (ad 0 0)), (1, .int (nI i)), (2, .ref (ad 12 a)), (3, .int s1), (4, .int s2), (5, .int s3), (6, .int s4), (7, .int (nI k))] → W p l e (headSpec (ws_ yX1_alikeOf cX1_alikeOf 9 (some .int)) ({ frames := 2, cells := 0, slots := 0, locals := 51 })).room s m ([.ref (ad 0 0), .int (nI i), .ref (ad 12 a)] : List Value).toArray below meth c s.heap [] 0 0 (MQ below (vp_Si (fun r => r = gw_al0 σ i a)) ([.ref (ad 0 0), .int (nI i), .ref (ad 12 a)] : List Value).toArray s 0 0 (fun _ => False)) (F0 m 15 ls []) := by
    intro n15
    induction n15 with
    | zero =>
      intro k s1 s2 s3 s4 hk hR ls hl
      refine lv_iload hx hb dX1_alikeOf_15 (lv_at hl 7 rfl) ?_
      refine lv_aload_n hx hb dX1_alikeOf_17 rfl (lv_at hl 0 rfl) ?_
      refine gw_get hx hb hts in_X1 hown hK (gw_c0 hG) rfl 13 (by decide) (hts _ q113) (v := .int (σ 15 0)) rfl dX1_alikeOf_18 ?_
      refine lv_icmp_ge (tgt := 100) hx hb dX1_alikeOf_21 (by decide) (fun _ => ?_) (fun c_ => absurd (gw_ge hJ.n15 (by omega) (by have := hJ.b15; have := hJ.b25; have := hJ.b7; omega)) c_)
      refine lv_iload hx hb dX1_alikeOf_100 (lv_at hl 6 rfl) ?_
      refine lv_iload hx hb dX1_alikeOf_102 (lv_at hl 5 rfl) ?_
      refine lv_icmp_ne (tgt := 113) hx hb dX1_alikeOf_104 (by decide) (fun c104 => ?_) (fun c104 => ?_)
      · skip
        have hnz : ¬ s2 = 0 := by have z := gw_al_n (σ := σ) (r := i) ha hJ.b15 h14; rw [← hR] at z; exact z
        refine lv_sipush (v := 500) hx hb dX1_alikeOf_113 (by decide) ?_
        refine lv_aload_n hx hb dX1_alikeOf_116 rfl (lv_at hl 2 rfl) ?_
        refine gw_getN hx hb hts in_X8 hown hK (gw_c12 hG (j := a) ha) rfl 5 (by decide) (hN.1 _ q570 rfl) (v := .ref (ad 14 a)) rfl dX1_alikeOf_117 ?_
        refine lv_iload_n hx hb dX1_alikeOf_120 rfl (lv_at hl 1 rfl) ?_
        refine gw_revld (i := i) (j := a) hx hb hK hG ha (by have := hJ.b15; omega) hi dX1_alikeOf_121 (v := σ 30 ((24 * i) + a)) rfl ?_
        refine lv_iload_n hx hb dX1_alikeOf_122 rfl (lv_at hl 3 rfl) ?_
        refine lv_iload hx hb dX1_alikeOf_123 (lv_at hl 4 rfl) ?_
        refine lv_idiv hx hb dX1_alikeOf_125 hnz ?_
        refine lv_isub hx hb dX1_alikeOf_126 ?_
        refine lv_sipush (v := 1000) hx hb dX1_alikeOf_127 (by decide) ?_
        refine lv_imul hx hb dX1_alikeOf_130 ?_
        refine lv_iload hx hb dX1_alikeOf_131 (lv_at hl 6 rfl) ?_
        refine lv_iload hx hb dX1_alikeOf_133 (lv_at hl 5 rfl) ?_
        refine lv_isub hx hb dX1_alikeOf_135 ?_
        refine lv_idiv hx hb dX1_alikeOf_136 (gw_subne c104) ?_
        refine lv_iadd hx hb dX1_alikeOf_137 ?_
        exact W.iret (v := 500 + ((((σ 30 ((24 * i) + a)) - (s1 / s2)) * 1000) / (s4 - s3))) hx hb hr (fun t ht hW => ⟨(500 + ((((σ 30 ((24 * i) + a)) - (s1 / s2)) * 1000) / (s4 - s3))), rfl, (by simp only [gw_al0, ← hR]; simp [gw_al, gw_alF, c104]), ht⟩) (fun q h => by cases h) dX1_alikeOf_138
      · skip
        refine lv_sipush (v := 500) hx hb dX1_alikeOf_107 (by decide) ?_
        refine lv_goto (tgt := 138) hx hb dX1_alikeOf_110 (by decide) ?_
        exact W.iret (v := 500) hx hb hr (fun t ht hW => ⟨500, rfl, (by simp only [gw_al0, ← hR]; simp [gw_al, gw_alF, (eq_true c104)]), ht⟩) (fun q h => by cases h) dX1_alikeOf_138
    | succ n15 ih15 =>
      intro k s1 s2 s3 s4 hk hR ls hl
      refine lv_iload hx hb dX1_alikeOf_15 (lv_at hl 7 rfl) ?_
      refine lv_aload_n hx hb dX1_alikeOf_17 rfl (lv_at hl 0 rfl) ?_
      refine gw_get hx hb hts in_X1 hown hK (gw_c0 hG) rfl 13 (by decide) (hts _ q113) (v := .int (σ 15 0)) rfl dX1_alikeOf_18 ?_
      refine lv_icmp_ge (tgt := 100) hx hb dX1_alikeOf_21 (by decide) (fun c_ => absurd c_ (gw_nge hJ.n15 (by omega) (by have := hJ.b15; have := hJ.b25; have := hJ.b7; omega))) (fun _ => ?_)
      refine lv_aload_n hx hb dX1_alikeOf_24 rfl (lv_at hl 0 rfl) ?_
      refine gw_get hx hb hts in_X1 hown hK (gw_c0 hG) rfl 11 (by decide) (hts _ q111) (v := .ref (ad 5 0)) rfl dX1_alikeOf_25 ?_
      refine lv_iload hx hb dX1_alikeOf_28 (lv_at hl 7 rfl) ?_
      refine gw_qld (i := k) hx hb hK rfl (gw_c5 hG) (by decide) (by have := hJ.b15; omega) dX1_alikeOf_30 (v := .ref (ad 12 k)) (gw_ifs (by show k < gw_n σ 15; omega)) ?_
      refine gw_getN hx hb hts in_X8 hown hK (gw_c12 hG (j := k) (by show k < gw_n σ 15; omega)) rfl 1 (by decide) (hN.1 _ q562 rfl) (v := .int (σ 16 k)) rfl dX1_alikeOf_31 ?_
      refine lv_aload_n hx hb dX1_alikeOf_34 rfl (lv_at hl 2 rfl) ?_
      refine gw_getN hx hb hts in_X8 hown hK (gw_c12 hG (j := a) ha) rfl 1 (by decide) (hN.1 _ q562 rfl) (v := .int (σ 16 a)) rfl dX1_alikeOf_35 ?_
      refine lv_icmp_ne (tgt := 56) hx hb dX1_alikeOf_38 (by decide) (fun c38 => ?_) (fun c38 => ?_)
      · skip
        refine lv_iconst (v := -1) hx hb dX1_alikeOf_56 (by decide) ?_
        refine lv_istore (lv' := [(8, .int (-1)), (0, .ref (ad 0 0)), (1, .int (nI i)), (2, .ref (ad 12 a)), (3, .int s1), (4, .int s2), (5, .int s3), (6, .int s4), (7, .int (nI k))]) hx hb dX1_alikeOf_57 hl (by decide) rfl (fun ls hl => ?_)
        refine lv_iload hx hb dX1_alikeOf_59 (lv_at hl 0 rfl) ?_
        refine lv_iconst (v := -1) hx hb dX1_alikeOf_61 (by decide) ?_
        refine lv_icmp_ne (tgt := 68) hx hb dX1_alikeOf_62 (by decide) (fun c_ => absurd c_ (by decide)) (fun _ => ?_)
        refine lv_goto (tgt := 94) hx hb dX1_alikeOf_65 (by decide) ?_
        refine lv_iinc (v := nI (k + 1)) (lv' := [(7, .int (nI (k + 1))), (8, .int (-1)), (0, .ref (ad 0 0)), (1, .int (nI i)), (2, .ref (ad 12 a)), (3, .int s1), (4, .int s2), (5, .int s3), (6, .int s4)]) hx hb dX1_alikeOf_94 hl (k := 8) rfl (gw_inc _) (by decide) rfl (fun ls hl => ?_)
        refine lv_goto (tgt := 15) hx hb dX1_alikeOf_97 (by decide) ?_
        exact ih15 (k + 1) s1 s2 s3 s4 (by omega) (by rw [← hR]; simp [gw_al, c38]) ls (lv_sub hl [2, 3, 4, 5, 6, 7, 8, 0] rfl)
      · skip
        refine lv_aload_n hx hb dX1_alikeOf_41 rfl (lv_at hl 0 rfl) ?_
        refine gw_get hx hb hts in_X1 hown hK (gw_c0 hG) rfl 11 (by decide) (hts _ q111) (v := .ref (ad 5 0)) rfl dX1_alikeOf_42 ?_
        refine lv_iload hx hb dX1_alikeOf_45 (lv_at hl 7 rfl) ?_
        refine gw_qld (i := k) hx hb hK rfl (gw_c5 hG) (by decide) (by have := hJ.b15; omega) dX1_alikeOf_47 (v := .ref (ad 12 k)) (gw_ifs (by show k < gw_n σ 15; omega)) ?_
        refine gw_getN hx hb hts in_X8 hown hK (gw_c12 hG (j := k) (by show k < gw_n σ 15; omega)) rfl 5 (by decide) (hN.1 _ q570 rfl) (v := .ref (ad 14 k)) rfl dX1_alikeOf_48 ?_
        refine lv_iload_n hx hb dX1_alikeOf_51 rfl (lv_at hl 1 rfl) ?_
        refine gw_revld (i := i) (j := k) hx hb hK hG (by show k < gw_n σ 15; omega) (by have := hJ.b15; omega) hi dX1_alikeOf_52 (v := σ 30 ((24 * i) + k)) rfl ?_
        refine lv_goto (tgt := 57) hx hb dX1_alikeOf_53 (by decide) ?_
        refine lv_istore (lv' := [(8, .int (σ 30 ((24 * i) + k))), (0, .ref (ad 0 0)), (1, .int (nI i)), (2, .ref (ad 12 a)), (3, .int s1), (4, .int s2), (5, .int s3), (6, .int s4), (7, .int (nI k))]) hx hb dX1_alikeOf_57 hl (by decide) rfl (fun ls hl => ?_)
        refine lv_iload hx hb dX1_alikeOf_59 (lv_at hl 0 rfl) ?_
        refine lv_iconst (v := -1) hx hb dX1_alikeOf_61 (by decide) ?_
        refine lv_icmp_ne (tgt := 68) hx hb dX1_alikeOf_62 (by decide) (fun c62 => ?_) (fun c62 => ?_)
        · skip
          refine lv_iload_n hx hb dX1_alikeOf_68 rfl (lv_at hl 4 rfl) ?_
          refine lv_iload hx hb dX1_alikeOf_69 (lv_at hl 0 rfl) ?_
          refine lv_iadd hx hb dX1_alikeOf_71 ?_
          refine lv_istore_n (lv' := [(3, .int (s1 + (σ 30 ((24 * i) + k)))), (8, .int (σ 30 ((24 * i) + k))), (0, .ref (ad 0 0)), (1, .int (nI i)), (2, .ref (ad 12 a)), (4, .int s2), (5, .int s3), (6, .int s4), (7, .int (nI k))]) hx hb dX1_alikeOf_72 rfl hl (by decide) rfl (fun ls hl => ?_)
          refine lv_iinc (v := s2 + 1) (lv' := [(4, .int (s2 + 1)), (3, .int (s1 + (σ 30 ((24 * i) + k)))), (8, .int (σ 30 ((24 * i) + k))), (0, .ref (ad 0 0)), (1, .int (nI i)), (2, .ref (ad 12 a)), (5, .int s3), (6, .int s4), (7, .int (nI k))]) hx hb dX1_alikeOf_73 hl (k := 5) rfl rfl (by decide) rfl (fun ls hl => ?_)
          refine lv_iload hx hb dX1_alikeOf_76 (lv_at hl 6 rfl) ?_
          refine lv_iload hx hb dX1_alikeOf_78 (lv_at hl 2 rfl) ?_
          refine va_mmin hx hb (hml.trans hl.1.symm) hown (hts _ q669) (hts _ q670) (hts _ q60) (hts _ q671) (Nat.le_of_ble_eq_true rfl) (Nat.le_of_ble_eq_true rfl) (Nat.zero_le _) (Nat.zero_le _) dX1_alikeOf_80 ?_
          refine lv_istore (lv' := [(5, .int (if σ 30 ((24 * i) + k) < s3 then σ 30 ((24 * i) + k) else s3)), (4, .int (s2 + 1)), (3, .int (s1 + (σ 30 ((24 * i) + k)))), (8, .int (σ 30 ((24 * i) + k))), (0, .ref (ad 0 0)), (1, .int (nI i)), (2, .ref (ad 12 a)), (6, .int s4), (7, .int (nI k))]) hx hb dX1_alikeOf_83 hl (by decide) rfl (fun ls hl => ?_)
          refine lv_iload hx hb dX1_alikeOf_85 (lv_at hl 7 rfl) ?_
          refine lv_iload hx hb dX1_alikeOf_87 (lv_at hl 3 rfl) ?_
          refine va_mmax hx hb (hml.trans hl.1.symm) hown (hts _ q672) (hts _ q673) (hts _ q60) (hts _ q674) (Nat.le_of_ble_eq_true rfl) (Nat.le_of_ble_eq_true rfl) (Nat.zero_le _) (Nat.zero_le _) dX1_alikeOf_89 ?_
          refine lv_istore (lv' := [(6, .int (if s4 < σ 30 ((24 * i) + k) then σ 30 ((24 * i) + k) else s4)), (5, .int (if σ 30 ((24 * i) + k) < s3 then σ 30 ((24 * i) + k) else s3)), (4, .int (s2 + 1)), (3, .int (s1 + (σ 30 ((24 * i) + k)))), (8, .int (σ 30 ((24 * i) + k))), (0, .ref (ad 0 0)), (1, .int (nI i)), (2, .ref (ad 12 a)), (7, .int (nI k))]) hx hb dX1_alikeOf_92 hl (by decide) rfl (fun ls hl => ?_)
          refine lv_iinc (v := nI (k + 1)) (lv' := [(7, .int (nI (k + 1))), (6, .int (if s4 < σ 30 ((24 * i) + k) then σ 30 ((24 * i) + k) else s4)), (5, .int (if σ 30 ((24 * i) + k) < s3 then σ 30 ((24 * i) + k) else s3)), (4, .int (s2 + 1)), (3, .int (s1 + (σ 30 ((24 * i) + k)))), (8, .int (σ 30 ((24 * i) + k))), (0, .ref (ad 0 0)), (1, .int (nI i)), (2, .ref (ad 12 a))]) hx hb dX1_alikeOf_94 hl (k := 8) rfl (gw_inc _) (by decide) rfl (fun ls hl => ?_)
          refine lv_goto (tgt := 15) hx hb dX1_alikeOf_97 (by decide) ?_
          exact ih15 (k + 1) (s1 + (σ 30 ((24 * i) + k))) (s2 + 1) (if σ 30 ((24 * i) + k) < s3 then σ 30 ((24 * i) + k) else s3) (if s4 < σ 30 ((24 * i) + k) then σ 30 ((24 * i) + k) else s4) (by omega) (by rw [← hR]; simp [gw_al, (eq_true c38), c62]) ls (lv_sub hl [6, 7, 8, 4, 3, 2, 1, 0] rfl)
        · skip
          refine lv_goto (tgt := 94) hx hb dX1_alikeOf_65 (by decide) ?_
          refine lv_iinc (v := nI (k + 1)) (lv' := [(7, .int (nI (k + 1))), (8, .int (σ 30 ((24 * i) + k))), (0, .ref (ad 0 0)), (1, .int (nI i)), (2, .ref (ad 12 a)), (3, .int s1), (4, .int s2), (5, .int s3), (6, .int s4)]) hx hb dX1_alikeOf_94 hl (k := 8) rfl (gw_inc _) (by decide) rfl (fun ls hl => ?_)
          refine lv_goto (tgt := 15) hx hb dX1_alikeOf_97 (by decide) ?_
          exact ih15 (k + 1) s1 s2 s3 s4 (by omega) (by rw [← hR]; simp [gw_al, (eq_true c38), (eq_true c62)]) ls (lv_sub hl [2, 3, 4, 5, 6, 7, 8, 0] rfl)
  exact lp15 (gw_n σ 15) 0 0 0 100 0 (by omega) rfl ls (lv_sub hl [5, 6, 7, 4, 3, 2, 1, 0] rfl)

set_option maxHeartbeats 4000000 in
set_option maxRecDepth 100000 in
theorem gg_scoreOf (l : Launch) (D : va_G) (ca : Nat → ClassId) (es : Nat → Nat) (A : Nat → Prop) (ad hd : Nat → Nat → Nat) (σ γ : gw_S) (ord : List Nat) (a : Nat) (hJ : gw_J σ) (ha : a < gw_n σ 15) (hrv : gw_rv σ a 10 0 0 = gw_reviews σ a) : Met l yX1_scoreOf (ws_ yX1_scoreOf cX1_scoreOf 5 (some .int)) ({ frames := 3, cells := 0, slots := 0, locals := 79 }) (va_Pc [.ref (ad 0 0), .ref (ad 12 a)] (gw_gP D ca es A ad hd σ γ ord (gw_nu σ))) (vp_Si (fun r => r = gw_score σ a)) 0 0 (fun _ => False) := by
  refine Met.ofW (cc := cX1_scoreOf) (maxL := 5) (ret := (some .int)) (by decide) rfl ?_
  intro p e s m args below meth c s₁ B hml hv
  obtain ⟨rfl, hG, hK, hE, hN, hA⟩ := hv
  have hx := B.exec
  have hb := B.bytes
  have hr := B.returns
  have hts := atoms_spec (ws := ws_ yX1_scoreOf cX1_scoreOf 5 (some .int)) B.pre
  have hts : ∀ w ∈ lw_all, w.before _ s = true := fun w h => hts w (List.mem_cons_of_mem _ h)
  have hown : s.vm.findClass RX1 = some m.cls := findClass_of_methodNamed B.named
  have hlocks := B.notSynchronized
  have hS : va_S A s.heap s.heap [] := va_S.rf
  have hl := lv_entry ([.ref (ad 0 0), .ref (ad 12 a)]) (n := 5) (Nat.le_of_ble_eq_true rfl)
  rw [lg_entry_eq]
  generalize (lg_sl ([.ref (ad 0 0), .ref (ad 12 a)]) ++ List.replicate (5 - (lg_sl ([.ref (ad 0 0), .ref (ad 12 a)])).length) Slot.unset).toArray = ls at hl ⊢
  have hl : lv_has ls 5 [(0, .ref (ad 0 0)), (1, .ref (ad 12 a))] := hl
  refine lv_aload_n hx hb dX1_scoreOf_0 rfl (lv_at hl 1 rfl) ?_
  refine gw_scalli (va_Run.run (va_runV (As := []) (rest := []) ⟨hx, hb, hml, hown, hts⟩ (gg_reviewCount l D ca es A ad hd σ γ ord a hJ ha) (cwV 0 hts (lw_V q686 q687 q688 q59 q689) rfl rfl rfl (by decide +kernel) ⟨Nat.le_of_ble_eq_true rfl, Nat.le_of_ble_eq_true rfl⟩) (gw_grecv [] gw_gPb (gw_c12 hG (j := a) ha) rfl hK (fun U hU hW => gw_gat hU hW hG hK hE hN hA hS)) rfl rfl hl.1 rfl (lv_room (Nat.le_of_ble_eq_true rfl)) dX1_scoreOf_1 ⟨Nat.le_of_ble_eq_true rfl, Nat.le_of_ble_eq_true rfl⟩)) ?_
  refine gw_topi (y := gw_reviews σ a) hrv ?_
  refine lv_istore_n (lv' := [(2, .int (gw_reviews σ a)), (0, .ref (ad 0 0)), (1, .ref (ad 12 a))]) hx hb dX1_scoreOf_4 rfl hl (by decide) rfl (fun ls hl => ?_)
  refine lv_iload_n hx hb dX1_scoreOf_5 rfl (lv_at hl 0 rfl) ?_
  refine lv_iconst (v := 2) hx hb dX1_scoreOf_6 (by decide) ?_
  refine lv_icmp_ge (tgt := 14) hx hb dX1_scoreOf_7 (by decide) (fun c7 => ?_) (fun c7 => ?_)
  · skip
    refine lv_iconst (v := 0) hx hb dX1_scoreOf_14 (by decide) ?_
    refine lv_istore_n (lv' := [(3, .int 0), (2, .int (gw_reviews σ a)), (0, .ref (ad 0 0)), (1, .ref (ad 12 a))]) hx hb dX1_scoreOf_15 rfl hl (by decide) rfl (fun ls hl => ?_)
    refine lv_iconst (v := 0) hx hb dX1_scoreOf_16 (by decide) ?_
    refine lv_istore (lv' := [(4, .int 0), (3, .int 0), (2, .int (gw_reviews σ a)), (0, .ref (ad 0 0)), (1, .ref (ad 12 a))]) hx hb dX1_scoreOf_17 hl (by decide) rfl (fun ls hl => ?_)
    have lp19 : ∀ (n19 : Nat) (k : Nat) (acc : Int32), (k + n19 = gw_n σ 25) → (gw_sc σ a n19 k acc = gw_sc σ a (gw_n σ 25) 0 0) → ∀ ls : Array Slot, lv_has ls 5 [(0, .ref (ad 0 0)), (1, .ref (ad 12 a)), (2, .int (gw_reviews σ a)), (3, .int acc), (4, .int (nI k))] → W p l e (headSpec (ws_ yX1_scoreOf cX1_scoreOf 5 (some .int)) ({ frames := 3, cells := 0, slots := 0, locals := 79 })).room s m ([.ref (ad 0 0), .ref (ad 12 a)] : List Value).toArray below meth c s.heap [] 0 0 (MQ below (vp_Si (fun r => r = gw_score σ a)) ([.ref (ad 0 0), .ref (ad 12 a)] : List Value).toArray s 0 0 (fun _ => False)) (F0 m 19 ls []) := by
      intro n19
      induction n19 with
      | zero =>
        intro k acc hk hR ls hl
        refine lv_iload hx hb dX1_scoreOf_19 (lv_at hl 4 rfl) ?_
        refine lv_aload_n hx hb dX1_scoreOf_21 rfl (lv_at hl 0 rfl) ?_
        refine gw_get hx hb hts in_X1 hown hK (gw_c0 hG) rfl 19 (by decide) (hts _ q119) (v := .int (σ 25 0)) rfl dX1_scoreOf_22 ?_
        refine lv_icmp_ge (tgt := 55) hx hb dX1_scoreOf_25 (by decide) (fun _ => ?_) (fun c_ => absurd (gw_ge hJ.n25 (by omega) (by have := hJ.b15; have := hJ.b25; have := hJ.b7; omega)) c_)
        refine lv_iload_n hx hb dX1_scoreOf_55 rfl (lv_at hl 3 rfl) ?_
        refine lv_iload_n hx hb dX1_scoreOf_56 rfl (lv_at hl 2 rfl) ?_
        refine lv_idiv hx hb dX1_scoreOf_57 (fun z => absurd c7 (by rw [z]; decide)) ?_
        exact W.iret (v := acc / (gw_reviews σ a)) hx hb hr (fun t ht hW => ⟨(acc / (gw_reviews σ a)), rfl, (by rw [gw_score, if_neg (Int32.not_lt.mpr c7)]; exact congrArg (· / gw_reviews σ a) hR), ht⟩) (fun q h => by cases h) dX1_scoreOf_58
      | succ n19 ih19 =>
        intro k acc hk hR ls hl
        refine lv_iload hx hb dX1_scoreOf_19 (lv_at hl 4 rfl) ?_
        refine lv_aload_n hx hb dX1_scoreOf_21 rfl (lv_at hl 0 rfl) ?_
        refine gw_get hx hb hts in_X1 hown hK (gw_c0 hG) rfl 19 (by decide) (hts _ q119) (v := .int (σ 25 0)) rfl dX1_scoreOf_22 ?_
        refine lv_icmp_ge (tgt := 55) hx hb dX1_scoreOf_25 (by decide) (fun c_ => absurd c_ (gw_nge hJ.n25 (by omega) (by have := hJ.b15; have := hJ.b25; have := hJ.b7; omega))) (fun _ => ?_)
        refine lv_aload_n hx hb dX1_scoreOf_28 rfl (lv_at hl 1 rfl) ?_
        refine gw_getN hx hb hts in_X8 hown hK (gw_c12 hG (j := a) ha) rfl 5 (by decide) (hN.1 _ q570 rfl) (v := .ref (ad 14 a)) rfl dX1_scoreOf_29 ?_
        refine lv_iload hx hb dX1_scoreOf_32 (lv_at hl 4 rfl) ?_
        refine gw_revld (i := k) (j := a) hx hb hK hG ha (by have := hJ.b15; omega) (by have := hJ.b25; omega) dX1_scoreOf_34 (v := σ 30 ((24 * k) + a)) rfl ?_
        refine lv_iconst (v := -1) hx hb dX1_scoreOf_35 (by decide) ?_
        refine lv_icmp_eq (tgt := 49) hx hb dX1_scoreOf_36 (by decide) (fun c36 => ?_) (fun c36 => ?_)
        · skip
          refine lv_iinc (v := nI (k + 1)) (lv' := [(4, .int (nI (k + 1))), (0, .ref (ad 0 0)), (1, .ref (ad 12 a)), (2, .int (gw_reviews σ a)), (3, .int acc)]) hx hb dX1_scoreOf_49 hl (k := 4) rfl (gw_inc _) (by decide) rfl (fun ls hl => ?_)
          refine lv_goto (tgt := 19) hx hb dX1_scoreOf_52 (by decide) ?_
          exact ih19 (k + 1) acc (by omega) (by rw [← hR]; simp [gw_sc, c36]) ls (lv_sub hl [1, 2, 3, 4, 0] rfl)
        · skip
          refine lv_iload_n hx hb dX1_scoreOf_39 rfl (lv_at hl 3 rfl) ?_
          refine lv_aload_n hx hb dX1_scoreOf_40 rfl (lv_at hl 0 rfl) ?_
          refine lv_iload hx hb dX1_scoreOf_41 (lv_at hl 4 rfl) ?_
          refine lv_aload_n hx hb dX1_scoreOf_43 rfl (lv_at hl 1 rfl) ?_
          refine gw_scalli (va_Run.run (va_runV (As := [.int (nI k), .ref (ad 12 a)]) (rest := [.int acc]) ⟨hx, hb, hml, hown, hts⟩ (gg_alikeOf l D ca es A ad hd σ γ ord k a hJ (by have := hJ.b25; omega) ha c36) (cwV 2 hts (lw_V q665 q667 qs18 q42 q668) rfl rfl rfl (by decide +kernel) ⟨Nat.le_of_ble_eq_true rfl, Nat.le_of_ble_eq_true rfl⟩) (gw_grecv [.int (nI k), .ref (ad 12 a)] gw_gPb (gw_c0 hG) rfl hK (fun U hU hW => gw_gat hU hW hG hK hE hN hA hS)) rfl rfl hl.1 rfl (lv_room (Nat.le_of_ble_eq_true rfl)) dX1_scoreOf_44 ⟨Nat.le_of_ble_eq_true rfl, Nat.le_of_ble_eq_true rfl⟩)) ?_
          refine gw_topi (y := gw_alikeOf σ k a) (if_neg c36).symm ?_
          refine lv_iadd hx hb dX1_scoreOf_47 ?_
          refine lv_istore_n (lv' := [(3, .int (acc + (gw_alikeOf σ k a))), (0, .ref (ad 0 0)), (1, .ref (ad 12 a)), (2, .int (gw_reviews σ a)), (4, .int (nI k))]) hx hb dX1_scoreOf_48 rfl hl (by decide) rfl (fun ls hl => ?_)
          refine lv_iinc (v := nI (k + 1)) (lv' := [(4, .int (nI (k + 1))), (3, .int (acc + (gw_alikeOf σ k a))), (0, .ref (ad 0 0)), (1, .ref (ad 12 a)), (2, .int (gw_reviews σ a))]) hx hb dX1_scoreOf_49 hl (k := 4) rfl (gw_inc _) (by decide) rfl (fun ls hl => ?_)
          refine lv_goto (tgt := 19) hx hb dX1_scoreOf_52 (by decide) ?_
          exact ih19 (k + 1) (acc + (gw_alikeOf σ k a)) (by omega) (by rw [← hR]; simp [gw_sc, c36]) ls (lv_sub hl [2, 3, 4, 1, 0] rfl)
    exact lp19 (gw_n σ 25) 0 0 (by omega) rfl ls (lv_sub hl [3, 4, 2, 1, 0] rfl)
  · skip
    refine lv_ldcw (v := -1000000) hx hb hown (hts _ q664) dX1_scoreOf_10 ?_
    exact W.iret (v := -1000000) hx hb hr (fun t ht hW => ⟨(-1000000), rfl, (by rw [gw_score, if_pos (Int32.not_le.mp c7)]), ht⟩) (fun q h => by cases h) dX1_scoreOf_13

set_option maxHeartbeats 4000000 in
set_option maxRecDepth 100000 in
theorem gg_standsAhead (l : Launch) (D : va_G) (ca : Nat → ClassId) (es : Nat → Nat) (A : Nat → Prop) (ad hd : Nat → Nat → Nat) (σ γ : gw_S) (ord : List Nat) (a b : Nat) (hJ : gw_J σ) (ha : a < gw_n σ 15) (hb0 : b < gw_n σ 15) (hrv : ∀ j, j < gw_n σ 15 → gw_rv σ j 10 0 0 = gw_reviews σ j) (hsa : gw_sb (gw_score σ a)) (hsb : gw_sb (gw_score σ b)) : Met l yX1_standsAhead (ws_ yX1_standsAhead cX1_standsAhead 4 (some .boolean)) ({ frames := 4, cells := 0, slots := 0, locals := 103 }) (va_Pc [.ref (ad 0 0), .ref (ad 12 a), .ref (ad 12 b)] (gw_gP D ca es A ad hd σ γ ord (gw_nu σ))) (vp_Si (fun r => r = if gw_ahead σ a b then 1 else 0)) 0 0 (fun _ => False) := by
  refine Met.ofW (cc := cX1_standsAhead) (maxL := 4) (ret := (some .boolean)) (by decide) rfl ?_
  intro p e s m args below meth c s₁ B hml hv
  obtain ⟨rfl, hG, hK, hE, hN, hA⟩ := hv
  have hx := B.exec
  have hb := B.bytes
  have hr := B.returns
  have hts := atoms_spec (ws := ws_ yX1_standsAhead cX1_standsAhead 4 (some .boolean)) B.pre
  have hts : ∀ w ∈ lw_all, w.before _ s = true := fun w h => hts w (List.mem_cons_of_mem _ h)
  have hown : s.vm.findClass RX1 = some m.cls := findClass_of_methodNamed B.named
  have hlocks := B.notSynchronized
  have hS : va_S A s.heap s.heap [] := va_S.rf
  have hl := lv_entry ([.ref (ad 0 0), .ref (ad 12 a), .ref (ad 12 b)]) (n := 4) (Nat.le_of_ble_eq_true rfl)
  rw [lg_entry_eq]
  generalize (lg_sl ([.ref (ad 0 0), .ref (ad 12 a), .ref (ad 12 b)]) ++ List.replicate (4 - (lg_sl ([.ref (ad 0 0), .ref (ad 12 a), .ref (ad 12 b)])).length) Slot.unset).toArray = ls at hl ⊢
  have hl : lv_has ls 4 [(0, .ref (ad 0 0)), (1, .ref (ad 12 a)), (2, .ref (ad 12 b))] := hl
  have hA24 : a < 2147483648 := by have := hJ.b15; omega
  have hB24 : b < 2147483648 := by have := hJ.b15; omega
  refine lv_aload_n hx hb dX1_standsAhead_0 rfl (lv_at hl 0 rfl) ?_
  refine lv_aload_n hx hb dX1_standsAhead_1 rfl (lv_at hl 1 rfl) ?_
  refine gw_scalli (va_Run.run (va_runV (As := [.ref (ad 12 a)]) (rest := []) ⟨hx, hb, hml, hown, hts⟩ (gg_scoreOf l D ca es A ad hd σ γ ord a hJ ha (hrv _ ha)) (cwV 1 hts (lw_V q682 q684 qs19 q42 q685) rfl rfl rfl (by decide +kernel) ⟨Nat.le_of_ble_eq_true rfl, Nat.le_of_ble_eq_true rfl⟩) (gw_grecv [.ref (ad 12 a)] gw_gPb (gw_c0 hG) rfl hK (fun U hU hW => gw_gat hU hW hG hK hE hN hA hS)) rfl rfl hl.1 rfl (lv_room (Nat.le_of_ble_eq_true rfl)) dX1_standsAhead_2 ⟨Nat.le_of_ble_eq_true rfl, Nat.le_of_ble_eq_true rfl⟩)) ?_
  refine lv_aload_n hx hb dX1_standsAhead_5 rfl (lv_at hl 0 rfl) ?_
  refine lv_aload_n hx hb dX1_standsAhead_6 rfl (lv_at hl 2 rfl) ?_
  refine gw_scalli (va_Run.run (va_runV (As := [.ref (ad 12 b)]) (rest := [.int (gw_score σ a)]) ⟨hx, hb, hml, hown, hts⟩ (gg_scoreOf l D ca es A ad hd σ γ ord b hJ hb0 (hrv _ hb0)) (cwV 1 hts (lw_V q682 q684 qs19 q42 q685) rfl rfl rfl (by decide +kernel) ⟨Nat.le_of_ble_eq_true rfl, Nat.le_of_ble_eq_true rfl⟩) (gw_grecv [.ref (ad 12 b)] gw_gPb (gw_c0 hG) rfl hK (fun U hU hW => gw_gat hU hW hG hK hE hN hA hS)) rfl rfl hl.1 rfl (lv_room (Nat.le_of_ble_eq_true rfl)) dX1_standsAhead_7 ⟨Nat.le_of_ble_eq_true rfl, Nat.le_of_ble_eq_true rfl⟩)) ?_
  refine lv_isub hx hb dX1_standsAhead_10 ?_
  refine lv_istore_n (lv' := [(3, .int ((gw_score σ a) - (gw_score σ b))), (0, .ref (ad 0 0)), (1, .ref (ad 12 a)), (2, .ref (ad 12 b))]) hx hb dX1_standsAhead_11 rfl hl (by decide) rfl (fun ls hl => ?_)
  refine lv_iload_n hx hb dX1_standsAhead_12 rfl (lv_at hl 0 rfl) ?_
  refine lv_if_eq (tgt := 26) hx hb dX1_standsAhead_13 (by decide) (fun c13 => ?_) (fun c13 => ?_)
  · skip
    refine lv_aload_n hx hb dX1_standsAhead_26 rfl (lv_at hl 2 rfl) ?_
    refine gw_getN hx hb hts in_X8 hown hK (gw_c12 hG (j := a) ha) rfl 8 (by decide) (hN.1 _ q576 rfl) (v := .int (σ 21 a)) rfl dX1_standsAhead_27 ?_
    refine lv_aload_n hx hb dX1_standsAhead_30 rfl (lv_at hl 3 rfl) ?_
    refine gw_getN hx hb hts in_X8 hown hK (gw_c12 hG (j := b) hb0) rfl 8 (by decide) (hN.1 _ q576 rfl) (v := .int (σ 21 b)) rfl dX1_standsAhead_31 ?_
    refine lv_icmp_eq (tgt := 56) hx hb dX1_standsAhead_34 (by decide) (fun c34 => ?_) (fun c34 => ?_)
    · skip
      refine lv_aload_n hx hb dX1_standsAhead_56 rfl (lv_at hl 2 rfl) ?_
      refine gw_getN hx hb hts in_X8 hown hK (gw_c12 hG (j := a) ha) rfl 0 (by decide) (hN.1 _ q560 rfl) (v := .int (nI a)) rfl dX1_standsAhead_57 ?_
      refine lv_aload_n hx hb dX1_standsAhead_60 rfl (lv_at hl 3 rfl) ?_
      refine gw_getN hx hb hts in_X8 hown hK (gw_c12 hG (j := b) hb0) rfl 0 (by decide) (hN.1 _ q560 rfl) (v := .int (nI b)) rfl dX1_standsAhead_61 ?_
      refine lv_icmp_ge (tgt := 71) hx hb dX1_standsAhead_64 (by decide) (fun c64 => ?_) (fun c64 => ?_)
      · skip
        refine lv_iconst (v := 0) hx hb dX1_standsAhead_71 (by decide) ?_
        exact W.zret (v := 0) hx hb hr rfl (fun t ht hW => ⟨0, rfl, (by have z := gw_sub0 hsa hsb; exact (if_neg (fun q => q.elim (fun q => by rw [← z.2, c13] at q; exact absurd q (by decide)) (fun q => q.2.elim (fun y => by rw [c34] at y; exact absurd y (Int32.not_lt.mpr (Int32.le_refl _))) (fun y => absurd ((gw_nI_lt hA24 hB24).mpr y.2) (Int32.not_lt.mpr c64))))).symm), ht⟩) (fun q h => by cases h) dX1_standsAhead_72
      · skip
        refine lv_iconst (v := 1) hx hb dX1_standsAhead_67 (by decide) ?_
        refine lv_goto (tgt := 72) hx hb dX1_standsAhead_68 (by decide) ?_
        exact W.zret (v := 1) hx hb hr rfl (fun t ht hW => ⟨1, rfl, (by have z := gw_sub0 hsa hsb; exact (if_pos (.inr ⟨z.1.mp c13, .inr ⟨c34, (gw_nI_lt hA24 hB24).mp (Int32.not_le.mp c64)⟩⟩)).symm), ht⟩) (fun q h => by cases h) dX1_standsAhead_72
    · skip
      refine lv_aload_n hx hb dX1_standsAhead_37 rfl (lv_at hl 2 rfl) ?_
      refine gw_getN hx hb hts in_X8 hown hK (gw_c12 hG (j := a) ha) rfl 8 (by decide) (hN.1 _ q576 rfl) (v := .int (σ 21 a)) rfl dX1_standsAhead_38 ?_
      refine lv_aload_n hx hb dX1_standsAhead_41 rfl (lv_at hl 3 rfl) ?_
      refine gw_getN hx hb hts in_X8 hown hK (gw_c12 hG (j := b) hb0) rfl 8 (by decide) (hN.1 _ q576 rfl) (v := .int (σ 21 b)) rfl dX1_standsAhead_42 ?_
      refine lv_icmp_ge (tgt := 52) hx hb dX1_standsAhead_45 (by decide) (fun c45 => ?_) (fun c45 => ?_)
      · skip
        refine lv_iconst (v := 0) hx hb dX1_standsAhead_52 (by decide) ?_
        refine lv_goto (tgt := 72) hx hb dX1_standsAhead_53 (by decide) ?_
        exact W.zret (v := 0) hx hb hr rfl (fun t ht hW => ⟨0, rfl, (by have z := gw_sub0 hsa hsb; exact (if_neg (fun q => q.elim (fun q => by rw [← z.2, c13] at q; exact absurd q (by decide)) (fun q => q.2.elim (fun y => absurd y (Int32.not_lt.mpr c45)) (fun y => c34 y.1)))).symm), ht⟩) (fun q h => by cases h) dX1_standsAhead_72
      · skip
        refine lv_iconst (v := 1) hx hb dX1_standsAhead_48 (by decide) ?_
        refine lv_goto (tgt := 72) hx hb dX1_standsAhead_49 (by decide) ?_
        exact W.zret (v := 1) hx hb hr rfl (fun t ht hW => ⟨1, rfl, (by have z := gw_sub0 hsa hsb; exact (if_pos (.inr ⟨z.1.mp c13, .inl (Int32.not_le.mp c45)⟩)).symm), ht⟩) (fun q h => by cases h) dX1_standsAhead_72
  · skip
    refine lv_iload_n hx hb dX1_standsAhead_16 rfl (lv_at hl 0 rfl) ?_
    refine lv_if_le (tgt := 24) hx hb dX1_standsAhead_17 (by decide) (fun c17 => ?_) (fun c17 => ?_)
    · skip
      refine lv_iconst (v := 0) hx hb dX1_standsAhead_24 (by decide) ?_
      exact W.zret (v := 0) hx hb hr rfl (fun t ht hW => ⟨0, rfl, (by have z := gw_sub0 hsa hsb; exact (if_neg (fun q => q.elim (fun q => absurd (z.2.mpr q) (Int32.not_lt.mpr c17)) (fun q => c13 (z.1.mpr q.1)))).symm), ht⟩) (fun q h => by cases h) dX1_standsAhead_25
    · skip
      refine lv_iconst (v := 1) hx hb dX1_standsAhead_20 (by decide) ?_
      refine lv_goto (tgt := 25) hx hb dX1_standsAhead_21 (by decide) ?_
      exact W.zret (v := 1) hx hb hr rfl (fun t ht hW => ⟨1, rfl, (by have z := gw_sub0 hsa hsb; exact (if_pos (.inl (z.2.mp (Int32.not_le.mp c17)))).symm), ht⟩) (fun q h => by cases h) dX1_standsAhead_25

set_option maxHeartbeats 4000000 in
set_option maxRecDepth 100000 in
theorem gg_firstOf0 (l : Launch) (D : va_G) (ca : Nat → ClassId) (es : Nat → Nat) (A : Nat → Prop) (ad hd : Nat → Nat → Nat) (σ γ : gw_S) (ord : List Nat) (i : Nat) (hi : i < 6) (hg : γ 0 i = 0) : Met l yX1_firstOf (ws_ yX1_firstOf cX1_firstOf 2 (some (.object "Grantworks$Application"))) ({ frames := 1, cells := 0, slots := 0, locals := 12 }) (va_Pc [.ref (ad 0 0), .int (nI i)] (gw_gP D ca es A ad hd σ γ ord (gw_nu σ))) (va_Sq (fun r => r = none)) 0 0 (fun _ => False) := by
  refine Met.ofW (cc := cX1_firstOf) (maxL := 2) (ret := (some (.object "Grantworks$Application"))) (by decide) rfl ?_
  intro p e s m args below meth c s₁ B hml hv
  obtain ⟨rfl, hG, hK, hE, hN, hA⟩ := hv
  have hx := B.exec
  have hb := B.bytes
  have hr := B.returns
  have hts := atoms_spec (ws := ws_ yX1_firstOf cX1_firstOf 2 (some (.object "Grantworks$Application"))) B.pre
  have hts : ∀ w ∈ lw_all, w.before _ s = true := fun w h => hts w (List.mem_cons_of_mem _ h)
  have hown : s.vm.findClass RX1 = some m.cls := findClass_of_methodNamed B.named
  have hlocks := B.notSynchronized
  have hS : va_S A s.heap s.heap [] := va_S.rf
  have hl := lv_entry ([.ref (ad 0 0), .int (nI i)]) (n := 2) (Nat.le_of_ble_eq_true rfl)
  rw [lg_entry_eq]
  generalize (lg_sl ([.ref (ad 0 0), .int (nI i)]) ++ List.replicate (2 - (lg_sl ([.ref (ad 0 0), .int (nI i)])).length) Slot.unset).toArray = ls at hl ⊢
  have hl : lv_has ls 2 [(0, .ref (ad 0 0)), (1, .int (nI i))] := hl
  refine lv_aload_n hx hb dX1_firstOf_0 rfl (lv_at hl 0 rfl) ?_
  refine gw_get hx hb hts in_X1 hown hK (gw_c0 hG) rfl 8 (by decide) (hts _ q108) (v := .ref (ad 6 4)) rfl dX1_firstOf_1 ?_
  refine lv_iload_n hx hb dX1_firstOf_4 rfl (lv_at hl 1 rfl) ?_
  refine gw_gald 4 (n := 6) (j := i) hx hb hK hG (by decide) rfl rfl (by decide) hi dX1_firstOf_5 (v := γ 0 i) rfl ?_
  refine lv_if_ne (tgt := 13) hx hb dX1_firstOf_6 (by decide) (fun c_ => absurd c_ (fun q : ¬ γ 0 i = 0 => q hg)) (fun _ => ?_)
  refine lv_null hx hb dX1_firstOf_9 ?_
  refine lv_goto (tgt := 27) hx hb dX1_firstOf_10 (by decide) ?_
  exact W.aret (v := va_rf (none)) hx hb hr (.inl ⟨_, rfl⟩) (va_rf_or _) (fun t ht hW => ⟨none, rfl, rfl, ht⟩) (fun q h => by cases h) dX1_firstOf_27

set_option maxHeartbeats 4000000 in
set_option maxRecDepth 100000 in
theorem gg_firstOf1 (l : Launch) (D : va_G) (ca : Nat → ClassId) (es : Nat → Nat) (A : Nat → Prop) (ad hd : Nat → Nat → Nat) (σ γ : gw_S) (ord : List Nat) (i a : Nat) (hi : i < 6) (hg : ¬ γ 0 i = 0) (h1 : γ 1 (24 * i) = nI a) (ha : a < gw_n σ 15) (hJ : gw_J σ) : Met l yX1_firstOf (ws_ yX1_firstOf cX1_firstOf 2 (some (.object "Grantworks$Application"))) ({ frames := 1, cells := 0, slots := 0, locals := 12 }) (va_Pc [.ref (ad 0 0), .int (nI i)] (gw_gP D ca es A ad hd σ γ ord (gw_nu σ))) (va_Sq (fun r => r = some (ad 12 a))) 0 0 (fun _ => False) := by
  refine Met.ofW (cc := cX1_firstOf) (maxL := 2) (ret := (some (.object "Grantworks$Application"))) (by decide) rfl ?_
  intro p e s m args below meth c s₁ B hml hv
  obtain ⟨rfl, hG, hK, hE, hN, hA⟩ := hv
  have hx := B.exec
  have hb := B.bytes
  have hr := B.returns
  have hts := atoms_spec (ws := ws_ yX1_firstOf cX1_firstOf 2 (some (.object "Grantworks$Application"))) B.pre
  have hts : ∀ w ∈ lw_all, w.before _ s = true := fun w h => hts w (List.mem_cons_of_mem _ h)
  have hown : s.vm.findClass RX1 = some m.cls := findClass_of_methodNamed B.named
  have hlocks := B.notSynchronized
  have hS : va_S A s.heap s.heap [] := va_S.rf
  have hl := lv_entry ([.ref (ad 0 0), .int (nI i)]) (n := 2) (Nat.le_of_ble_eq_true rfl)
  rw [lg_entry_eq]
  generalize (lg_sl ([.ref (ad 0 0), .int (nI i)]) ++ List.replicate (2 - (lg_sl ([.ref (ad 0 0), .int (nI i)])).length) Slot.unset).toArray = ls at hl ⊢
  have hl : lv_has ls 2 [(0, .ref (ad 0 0)), (1, .int (nI i))] := hl
  refine lv_aload_n hx hb dX1_firstOf_0 rfl (lv_at hl 0 rfl) ?_
  refine gw_get hx hb hts in_X1 hown hK (gw_c0 hG) rfl 8 (by decide) (hts _ q108) (v := .ref (ad 6 4)) rfl dX1_firstOf_1 ?_
  refine lv_iload_n hx hb dX1_firstOf_4 rfl (lv_at hl 1 rfl) ?_
  refine gw_gald 4 (n := 6) (j := i) hx hb hK hG (by decide) rfl rfl (by decide) hi dX1_firstOf_5 (v := γ 0 i) rfl ?_
  refine lv_if_ne (tgt := 13) hx hb dX1_firstOf_6 (by decide) (fun _ => ?_) (fun c_ => absurd c_ hg)
  refine lv_aload_n hx hb dX1_firstOf_13 rfl (lv_at hl 0 rfl) ?_
  refine gw_get hx hb hts in_X1 hown hK (gw_c0 hG) rfl 11 (by decide) (hts _ q111) (v := .ref (ad 5 0)) rfl dX1_firstOf_14 ?_
  refine lv_aload_n hx hb dX1_firstOf_17 rfl (lv_at hl 0 rfl) ?_
  refine gw_get hx hb hts in_X1 hown hK (gw_c0 hG) rfl 9 (by decide) (hts _ q109) (v := .ref (ad 6 5)) rfl dX1_firstOf_18 ?_
  refine lv_bipush (v := 24) hx hb dX1_firstOf_21 (by decide) ?_
  refine lv_iload_n hx hb dX1_firstOf_23 rfl (lv_at hl 1 rfl) ?_
  refine lv_imul hx hb dX1_firstOf_24 ?_
  refine gw_topi (y := nI (24 * i)) (by simp only [gw_lit24, nI_add, pk_mul]) ?_
  refine gw_gald 5 (n := 144) (j := 24 * i) hx hb hK hG (by decide) rfl rfl (by decide) (by omega) dX1_firstOf_25 (v := γ 1 (24 * i)) rfl ?_
  refine gw_topi (y := nI a) h1 ?_
  refine gw_qld (i := a) hx hb hK rfl (gw_c5 hG) (by decide) (by have := hJ.b15; omega) dX1_firstOf_26 (v := .ref (ad 12 a)) (gw_ifs ha) ?_
  exact W.aret (v := va_rf (some (ad 12 a))) hx hb hr (.inl ⟨_, rfl⟩) (va_rf_or _) (fun t ht hW => ⟨(some (ad 12 a)), rfl, rfl, ht⟩) (fun q h => by cases h) dX1_firstOf_27

set_option maxHeartbeats 4000000 in
set_option maxRecDepth 100000 in
theorem gg_checkIndex1 (l : Launch)  : Met l yX1_checkIndex (ws_ yX1_checkIndex cX1_checkIndex 1 none) ({ frames := 1, cells := 0, slots := 0, locals := 12 }) (va_Pc [.int 1] (fun _ => True)) (va_Sv (fun _ => True)) 0 0 (fun _ => False) := by
  refine Met.ofW (cc := cX1_checkIndex) (maxL := 1) (ret := none) (by decide) rfl ?_
  intro p e s m args below meth c s₁ B hml hv
  obtain ⟨rfl, -⟩ := hv
  have hx := B.exec
  have hb := B.bytes
  have hr := B.returns
  have hts := atoms_spec (ws := ws_ yX1_checkIndex cX1_checkIndex 1 none) B.pre
  have hts : ∀ w ∈ lw_all, w.before _ s = true := fun w h => hts w (List.mem_cons_of_mem _ h)
  have hown : s.vm.findClass RX1 = some m.cls := findClass_of_methodNamed B.named
  have hlocks := B.notSynchronized
  have hS : va_S (fun _ => False) s.heap s.heap [] := va_S.rf
  have hl := lv_entry ([.int 1]) (n := 1) (Nat.le_of_ble_eq_true rfl)
  rw [lg_entry_eq]
  generalize (lg_sl ([.int 1]) ++ List.replicate (1 - (lg_sl ([.int 1])).length) Slot.unset).toArray = ls at hl ⊢
  have hl : lv_has ls 1 [(0, .int 1)] := hl
  refine lv_iload_n hx hb dX1_checkIndex_0 rfl (lv_at hl 0 rfl) ?_
  refine lv_if_ne (tgt := 12) hx hb dX1_checkIndex_1 (by decide) (fun _ => ?_) (fun c_ => absurd c_ (by decide))
  exact W.vret hx hb hr (fun t ht hW => ⟨rfl, trivial, ht⟩) (fun q h => by cases h) dX1_checkIndex_12

set_option maxHeartbeats 4000000 in
set_option maxRecDepth 100000 in
theorem gg_checkArgument1 (l : Launch)  : Met l yX1_checkArgument (ws_ yX1_checkArgument cX1_checkArgument 1 none) ({ frames := 1, cells := 0, slots := 0, locals := 12 }) (va_Pc [.int 1] (fun _ => True)) (va_Sv (fun _ => True)) 0 0 (fun _ => False) := by
  refine Met.ofW (cc := cX1_checkArgument) (maxL := 1) (ret := none) (by decide) rfl ?_
  intro p e s m args below meth c s₁ B hml hv
  obtain ⟨rfl, -⟩ := hv
  have hx := B.exec
  have hb := B.bytes
  have hr := B.returns
  have hts := atoms_spec (ws := ws_ yX1_checkArgument cX1_checkArgument 1 none) B.pre
  have hts : ∀ w ∈ lw_all, w.before _ s = true := fun w h => hts w (List.mem_cons_of_mem _ h)
  have hown : s.vm.findClass RX1 = some m.cls := findClass_of_methodNamed B.named
  have hlocks := B.notSynchronized
  have hS : va_S (fun _ => False) s.heap s.heap [] := va_S.rf
  have hl := lv_entry ([.int 1]) (n := 1) (Nat.le_of_ble_eq_true rfl)
  rw [lg_entry_eq]
  generalize (lg_sl ([.int 1]) ++ List.replicate (1 - (lg_sl ([.int 1])).length) Slot.unset).toArray = ls at hl ⊢
  have hl : lv_has ls 1 [(0, .int 1)] := hl
  refine lv_iload_n hx hb dX1_checkArgument_0 rfl (lv_at hl 0 rfl) ?_
  refine lv_if_ne (tgt := 12) hx hb dX1_checkArgument_1 (by decide) (fun _ => ?_) (fun c_ => absurd c_ (by decide))
  exact W.vret hx hb hr (fun t ht hW => ⟨rfl, trivial, ht⟩) (fun q h => by cases h) dX1_checkArgument_12

set_option maxHeartbeats 4000000 in
set_option maxRecDepth 100000 in
theorem gg_checkState1 (l : Launch)  : Met l yX1_checkState (ws_ yX1_checkState cX1_checkState 1 none) ({ frames := 1, cells := 0, slots := 0, locals := 12 }) (va_Pc [.int 1] (fun _ => True)) (va_Sv (fun _ => True)) 0 0 (fun _ => False) := by
  refine Met.ofW (cc := cX1_checkState) (maxL := 1) (ret := none) (by decide) rfl ?_
  intro p e s m args below meth c s₁ B hml hv
  obtain ⟨rfl, -⟩ := hv
  have hx := B.exec
  have hb := B.bytes
  have hr := B.returns
  have hts := atoms_spec (ws := ws_ yX1_checkState cX1_checkState 1 none) B.pre
  have hts : ∀ w ∈ lw_all, w.before _ s = true := fun w h => hts w (List.mem_cons_of_mem _ h)
  have hown : s.vm.findClass RX1 = some m.cls := findClass_of_methodNamed B.named
  have hlocks := B.notSynchronized
  have hS : va_S (fun _ => False) s.heap s.heap [] := va_S.rf
  have hl := lv_entry ([.int 1]) (n := 1) (Nat.le_of_ble_eq_true rfl)
  rw [lg_entry_eq]
  generalize (lg_sl ([.int 1]) ++ List.replicate (1 - (lg_sl ([.int 1])).length) Slot.unset).toArray = ls at hl ⊢
  have hl : lv_has ls 1 [(0, .int 1)] := hl
  refine lv_iload_n hx hb dX1_checkState_0 rfl (lv_at hl 0 rfl) ?_
  refine lv_if_ne (tgt := 12) hx hb dX1_checkState_1 (by decide) (fun _ => ?_) (fun c_ => absurd c_ (by decide))
  exact W.vret hx hb hr (fun t ht hW => ⟨rfl, trivial, ht⟩) (fun q h => by cases h) dX1_checkState_12

set_option maxHeartbeats 4000000 in
set_option maxRecDepth 100000 in
theorem gg_checkThere1 (l : Launch)  : Met l yX1_checkThere (ws_ yX1_checkThere cX1_checkThere 1 none) ({ frames := 1, cells := 0, slots := 0, locals := 12 }) (va_Pc [.int 1] (fun _ => True)) (va_Sv (fun _ => True)) 0 0 (fun _ => False) := by
  refine Met.ofW (cc := cX1_checkThere) (maxL := 1) (ret := none) (by decide) rfl ?_
  intro p e s m args below meth c s₁ B hml hv
  obtain ⟨rfl, -⟩ := hv
  have hx := B.exec
  have hb := B.bytes
  have hr := B.returns
  have hts := atoms_spec (ws := ws_ yX1_checkThere cX1_checkThere 1 none) B.pre
  have hts : ∀ w ∈ lw_all, w.before _ s = true := fun w h => hts w (List.mem_cons_of_mem _ h)
  have hown : s.vm.findClass RX1 = some m.cls := findClass_of_methodNamed B.named
  have hlocks := B.notSynchronized
  have hS : va_S (fun _ => False) s.heap s.heap [] := va_S.rf
  have hl := lv_entry ([.int 1]) (n := 1) (Nat.le_of_ble_eq_true rfl)
  rw [lg_entry_eq]
  generalize (lg_sl ([.int 1]) ++ List.replicate (1 - (lg_sl ([.int 1])).length) Slot.unset).toArray = ls at hl ⊢
  have hl : lv_has ls 1 [(0, .int 1)] := hl
  refine lv_iload_n hx hb dX1_checkThere_0 rfl (lv_at hl 0 rfl) ?_
  refine lv_if_ne (tgt := 12) hx hb dX1_checkThere_1 (by decide) (fun _ => ?_) (fun c_ => absurd c_ (by decide))
  exact W.vret hx hb hr (fun t ht hW => ⟨rfl, trivial, ht⟩) (fun q h => by cases h) dX1_checkThere_12
