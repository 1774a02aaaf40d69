/-! THE CLASS 6 -/
set_option maxRecDepth 100000
set_option maxHeartbeats 4000000 in
set_option maxRecDepth 100000 in
theorem gg_freeAt (l : Launch) (D : va_G) (ca : Nat → ClassId) (es : Nat → Nat) (A : Nat → Prop) (ad hd : Nat → Nat → Nat) (σ γ : gw_S) (ord : List Nat) (f y : Nat) (hf : f < 4) (hy : y < 12) (hKo : gw_Ko γ ord) (hEn : ∀ x, x < gw_n σ 31 → ¬ γ 8 (gw_ix (σ 33 x)) = 0) (h3 : ∀ i, i < 48 → (σ 3 i = -1 ↔ ¬ i ∈ ord)) : Met l yX1_freeAt (ws_ yX1_freeAt cX1_freeAt 4 (some .int)) ({ frames := 3, cells := 1, slots := 2, locals := 99 }) (va_Pc [.ref (ad 0 0), .int (nI f), .int (nI y)] (gw_gP D ca es A ad hd σ γ ord (gw_nu σ))) (va_Qi (fun r (u : (Nat → Nat → Nat) × gw_S) => r = gw_free σ (12 * f + y) ∧ gw_Ext γ u.2 hd u.1) (fun u t => gw_gW D ca es A ad u.1 σ u.2 ord (gw_nu σ) t.heap) A) 1 2 A := by
  refine Met.ofW (cc := cX1_freeAt) (maxL := 4) (ret := (some .int)) (by decide) rfl ?_
  intro p e s m args below meth c s₁ B hml hv
  obtain ⟨rfl, hG, hK, hE, hN, hA⟩ := hv
  have hx := B.exec
  have hb := B.bytes
  have hr := B.returns
  have hts := atoms_spec (ws := ws_ yX1_freeAt cX1_freeAt 4 (some .int)) B.pre
  have hts : ∀ w ∈ lw_all, w.before _ s = true := fun w h => hts w (List.mem_cons_of_mem _ h)
  have hown : s.vm.findClass RX1 = some m.cls := findClass_of_methodNamed B.named
  have hlocks := B.notSynchronized
  have hS : va_S A s.heap s.heap [] := va_S.rf
  have hl := lv_entry ([.ref (ad 0 0), .int (nI f), .int (nI y)]) (n := 4) (Nat.le_of_ble_eq_true rfl)
  rw [lg_entry_eq]
  generalize (lg_sl ([.ref (ad 0 0), .int (nI f), .int (nI y)]) ++ List.replicate (4 - (lg_sl ([.ref (ad 0 0), .int (nI f), .int (nI y)])).length) Slot.unset).toArray = ls at hl ⊢
  have hl : lv_has ls 4 [(0, .ref (ad 0 0)), (1, .int (nI f)), (2, .int (nI y))] := hl
  have hX0 := gw_Ext.rf (γ := γ) (hd := hd)
  refine lv_aload_n hx hb dX1_freeAt_0 rfl (lv_at hl 0 rfl) ?_
  refine gw_get hx hb hts in_X1 hown hK (gw_c0 hG) rfl 0 (by decide) (hts _ q100) (v := .ref (ad 1 0)) rfl dX1_freeAt_1 ?_
  refine lv_aload_n hx hb dX1_freeAt_4 rfl (lv_at hl 0 rfl) ?_
  refine lv_iload_n hx hb dX1_freeAt_5 rfl (lv_at hl 1 rfl) ?_
  refine lv_iload_n hx hb dX1_freeAt_6 rfl (lv_at hl 2 rfl) ?_
  refine va_callr (va_runV (As := [.int (nI f), .int (nI y)]) (rest := [.ref (ad 1 0)]) ⟨hx, hb, hml, hown, hts⟩ (gg_keyOf l D ca es A ad hd σ γ ord f y hf hy hKo hEn) (cwV 2 hts (lw_V q206 q208 qs4 q42 q209) rfl rfl rfl (by decide +kernel) ⟨Nat.le_of_ble_eq_true rfl, Nat.le_of_ble_eq_true rfl⟩) (gw_grecv [.int (nI f), .int (nI y)] gw_gPb (gw_c0 hG) rfl hK (fun U hU hW => gw_gat hU hW hG hK hE hN hA hS)) rfl rfl hl.1 rfl (lv_room (Nat.le_of_ble_eq_true rfl)) dX1_freeAt_7 ⟨Nat.le_of_ble_eq_true rfl, Nat.le_of_ble_eq_true rfl⟩) hS (fun _ _ h => h) (fun _ h => h) (fun u9 ra9 t9 H locs ht9 hA9 hp9 hB9 _ _ hS => ?_)
  obtain ⟨hd, γ⟩ := u9
  obtain ⟨hX, hkN⟩ := hp9
  obtain ⟨rfl, hG⟩ := hB9
  subst ht9
  have hX0 := hX0.tr hX
  have hKo := gw_Ko.ext hKo hX
  have hEn : ∀ x, x < gw_n σ 31 → ¬ γ 8 (gw_ix (σ 33 x)) = 0 := fun x hx => (hX.2.1 _ (hEn x hx)).1
  rcases Classical.em ((12 * f + y) ∈ ord) with h10 | h10
  · skip
    refine gw_scallr (va_Run.run (va_runV (As := [.ref (hd 10 (12 * f + y))]) (rest := []) ⟨hx, hb, hml, hown, hts⟩ (gg_get l D ca es A ad hd σ γ ord (12 * f + y) (by omega) hkN hKo) (cwV 1 hts (lw_V q224 q225 q226 q43 q227) rfl rfl rfl (by decide +kernel) ⟨Nat.le_of_ble_eq_true rfl, Nat.le_of_ble_eq_true rfl⟩) (gw_grecv [.ref (hd 10 (12 * f + y))] gw_gPb (gw_c1 hG) rfl hK (fun U hU hW => gw_gat hU hW hG hK hE hN hA hS)) rfl rfl hl.1 rfl (lv_room (Nat.le_of_ble_eq_true rfl)) dX1_freeAt_10 ⟨Nat.le_of_ble_eq_true rfl, Nat.le_of_ble_eq_true rfl⟩)) ?_
    refine gw_topr (y := .ref (hd 11 (12 * f + y))) (gw_ifs h10) ?_
    refine lv_astore_n (lv' := [(3, .ref (hd 11 (12 * f + y))), (0, .ref (ad 0 0)), (1, .int (nI f)), (2, .int (nI y))]) hx hb dX1_freeAt_13 rfl hl (by decide) rfl (fun ls hl => ?_)
    refine lv_aload_n hx hb dX1_freeAt_14 rfl (lv_at hl 0 rfl) ?_
    refine lv_ifnonnull (tgt := 22) hx hb dX1_freeAt_15 (by decide) ?_
    refine lv_aload_n hx hb dX1_freeAt_22 rfl (lv_at hl 0 rfl) ?_
    refine gw_scalli (va_Run.run (va_runV (As := []) (rest := []) ⟨hx, hb, hml, hown, hts⟩ (gg_free l D ca es A ad hd σ γ ord (12 * f + y) h10) (cwV 0 hts (lw_V q190 q191 q192 q51 q193) rfl rfl rfl (by decide +kernel) ⟨Nat.le_of_ble_eq_true rfl, Nat.le_of_ble_eq_true rfl⟩) (gw_grecv [] gw_gPb (gw_c11 hG (j := 12 * f + y) h10) rfl hK (fun U hU hW => gw_gat hU hW hG hK hE hN hA hS)) rfl rfl hl.1 rfl (lv_room (Nat.le_of_ble_eq_true rfl)) dX1_freeAt_23 ⟨Nat.le_of_ble_eq_true rfl, Nat.le_of_ble_eq_true rfl⟩)) ?_
    refine W.widen (k := 1) (n := 2) (Nat.le_of_ble_eq_true rfl) (Nat.le_of_ble_eq_true rfl) ?_
    exact W.iret (v := σ 4 (12 * f + y) - σ 5 (12 * f + y) - σ 6 (12 * f + y)) hx hb hr (fun t ht hW => ⟨⟨_, (hd, γ), rfl, ⟨(if_neg (fun z => (h3 _ (by omega)).mp z h10)).symm, hX0⟩, by show gw_gW D ca es A ad _ _ _ _ _ t.heap; rw [ht]; exact hG⟩, hS.F ht⟩) hS.2.2 dX1_freeAt_26
  · skip
    refine gw_scallr (va_Run.run (va_runV (As := [.ref (hd 10 (12 * f + y))]) (rest := []) ⟨hx, hb, hml, hown, hts⟩ (gg_get l D ca es A ad hd σ γ ord (12 * f + y) (by omega) hkN hKo) (cwV 1 hts (lw_V q224 q225 q226 q43 q227) rfl rfl rfl (by decide +kernel) ⟨Nat.le_of_ble_eq_true rfl, Nat.le_of_ble_eq_true rfl⟩) (gw_grecv [.ref (hd 10 (12 * f + y))] gw_gPb (gw_c1 hG) rfl hK (fun U hU hW => gw_gat hU hW hG hK hE hN hA hS)) rfl rfl hl.1 rfl (lv_room (Nat.le_of_ble_eq_true rfl)) dX1_freeAt_10 ⟨Nat.le_of_ble_eq_true rfl, Nat.le_of_ble_eq_true rfl⟩)) ?_
    refine gw_topr (y := .null) (gw_ifz h10) ?_
    refine lv_astore_nN (lv' := [(3, .null), (0, .ref (ad 0 0)), (1, .int (nI f)), (2, .int (nI y))]) hx hb dX1_freeAt_13 rfl hl (by decide) rfl (fun ls hl => ?_)
    refine lv_aload_nN hx hb dX1_freeAt_14 rfl (lv_at hl 0 rfl) ?_
    refine lv_ifnonnullN hx hb dX1_freeAt_15 ?_
    refine lv_iconst (v := 0) hx hb dX1_freeAt_18 (by decide) ?_
    refine lv_goto (tgt := 26) hx hb dX1_freeAt_19 (by decide) ?_
    refine W.widen (k := 1) (n := 2) (Nat.le_of_ble_eq_true rfl) (Nat.le_of_ble_eq_true rfl) ?_
    exact W.iret (v := 0) hx hb hr (fun t ht hW => ⟨⟨_, (hd, γ), rfl, ⟨(if_pos ((h3 _ (by omega)).mpr h10)).symm, hX0⟩, by show gw_gW D ca es A ad _ _ _ _ _ t.heap; rw [ht]; exact hG⟩, hS.F ht⟩) hS.2.2 dX1_freeAt_26

set_option maxHeartbeats 4000000 in
set_option maxRecDepth 100000 in
theorem gg_keyFor (l : Launch) (D : va_G) (ca : Nat → ClassId) (es : Nat → Nat) (A : Nat → Prop) (ad hd : Nat → Nat → Nat) (σ γ : gw_S) (ord : List Nat) (a k : Nat) (hJ : gw_J σ) (ha : a < gw_n σ 15) (hk : k < 3) (hKo : gw_Ko γ ord) (hEn : ∀ x, x < gw_n σ 31 → ¬ γ 8 (gw_ix (σ 33 x)) = 0) : Met l yX1_keyFor (ws_ yX1_keyFor cX1_keyFor 3 (some (.object "Grantworks$Key"))) ({ frames := 3, cells := 1, slots := 2, locals := 99 }) (va_Pc [.ref (ad 0 0), .ref (ad 12 a), .int (nI k)] (gw_gP D ca es A ad hd σ γ ord (gw_nu σ))) (va_Qr (fun (u : (Nat → Nat → Nat) × gw_S) => gw_Ext γ u.2 hd u.1 ∧ ¬ u.2 8 (12 * gw_ix (σ 8 (gw_co σ a)) + (gw_ix (σ 11 (gw_co σ a)) + k)) = 0) (fun u ra t => ra = u.1 10 (12 * gw_ix (σ 8 (gw_co σ a)) + (gw_ix (σ 11 (gw_co σ a)) + k)) ∧ gw_gW D ca es A ad u.1 σ u.2 ord (gw_nu σ) t.heap) A) 1 2 A := by
  refine Met.ofW (cc := cX1_keyFor) (maxL := 3) (ret := (some (.object "Grantworks$Key"))) (by decide) rfl ?_
  intro p e s m args below meth c s₁ B hml hv
  obtain ⟨rfl, hG, hK, hE, hN, hA⟩ := hv
  have hx := B.exec
  have hb := B.bytes
  have hr := B.returns
  have hts := atoms_spec (ws := ws_ yX1_keyFor cX1_keyFor 3 (some (.object "Grantworks$Key"))) B.pre
  have hts : ∀ w ∈ lw_all, w.before _ s = true := fun w h => hts w (List.mem_cons_of_mem _ h)
  have hown : s.vm.findClass RX1 = some m.cls := findClass_of_methodNamed B.named
  have hlocks := B.notSynchronized
  have hS : va_S A s.heap s.heap [] := va_S.rf
  have hl := lv_entry ([.ref (ad 0 0), .ref (ad 12 a), .int (nI k)]) (n := 3) (Nat.le_of_ble_eq_true rfl)
  rw [lg_entry_eq]
  generalize (lg_sl ([.ref (ad 0 0), .ref (ad 12 a), .int (nI k)]) ++ List.replicate (3 - (lg_sl ([.ref (ad 0 0), .ref (ad 12 a), .int (nI k)])).length) Slot.unset).toArray = ls at hl ⊢
  have hl : lv_has ls 3 [(0, .ref (ad 0 0)), (1, .ref (ad 12 a)), (2, .int (nI k))] := hl
  have hX0 := gw_Ext.rf (γ := γ) (hd := hd)
  refine lv_aload_n hx hb dX1_keyFor_0 rfl (lv_at hl 0 rfl) ?_
  refine lv_aload_n hx hb dX1_keyFor_1 rfl (lv_at hl 0 rfl) ?_
  refine gw_get hx hb hts in_X1 hown hK (gw_c0 hG) rfl 4 (by decide) (hts _ q104) (v := .ref (ad 6 0)) rfl dX1_keyFor_2 ?_
  refine lv_aload_n hx hb dX1_keyFor_5 rfl (lv_at hl 1 rfl) ?_
  refine gw_getN hx hb hts in_X8 hown hK (gw_c12 hG (j := a) ha) rfl 1 (by decide) (hN.1 _ q562 rfl) (v := .int (σ 16 a)) rfl dX1_keyFor_6 ?_
  refine gw_topi (y := nI (gw_co σ a)) (hJ.a16 ha) ?_
  refine gw_gald 0 (n := 6) (j := gw_co σ a) hx hb hK hG (by decide) rfl rfl (by decide) (by have := hJ.a16b ha; have := hJ.b7; omega) dX1_keyFor_9 (v := σ 8 (gw_co σ a)) rfl ?_
  refine gw_topi (y := nI (gw_ix (σ 8 (gw_co σ a)))) (hJ.c8 (hJ.a16b ha)) ?_
  refine lv_aload_n hx hb dX1_keyFor_10 rfl (lv_at hl 0 rfl) ?_
  refine gw_get hx hb hts in_X1 hown hK (gw_c0 hG) rfl 7 (by decide) (hts _ q107) (v := .ref (ad 6 3)) rfl dX1_keyFor_11 ?_
  refine lv_aload_n hx hb dX1_keyFor_14 rfl (lv_at hl 1 rfl) ?_
  refine gw_getN hx hb hts in_X8 hown hK (gw_c12 hG (j := a) ha) rfl 1 (by decide) (hN.1 _ q562 rfl) (v := .int (σ 16 a)) rfl dX1_keyFor_15 ?_
  refine gw_topi (y := nI (gw_co σ a)) (hJ.a16 ha) ?_
  refine gw_gald 3 (n := 6) (j := gw_co σ a) hx hb hK hG (by decide) rfl rfl (by decide) (by have := hJ.a16b ha; have := hJ.b7; omega) dX1_keyFor_18 (v := σ 11 (gw_co σ a)) rfl ?_
  refine gw_topi (y := nI (gw_ix (σ 11 (gw_co σ a)))) (hJ.c11 (hJ.a16b ha)) ?_
  refine lv_iload_n hx hb dX1_keyFor_19 rfl (lv_at hl 2 rfl) ?_
  refine lv_iadd hx hb dX1_keyFor_20 ?_
  refine gw_topi (y := nI ((gw_ix (σ 11 (gw_co σ a))) + k)) (by simp only [nI_add, pk_mul]) ?_
  refine va_callr (va_runV (As := [.int (nI (gw_ix (σ 8 (gw_co σ a)))), .int (nI ((gw_ix (σ 11 (gw_co σ a))) + k))]) (rest := []) ⟨hx, hb, hml, hown, hts⟩ (gg_keyOf l D ca es A ad hd σ γ ord (gw_ix (σ 8 (gw_co σ a))) ((gw_ix (σ 11 (gw_co σ a))) + k) (Nat.lt_succ_of_le (hJ.c8b (hJ.a16b ha))) (by have := hJ.c11b (hJ.a16b ha); omega) hKo hEn) (cwV 2 hts (lw_V q206 q208 qs4 q42 q209) rfl rfl rfl (by decide +kernel) ⟨Nat.le_of_ble_eq_true rfl, Nat.le_of_ble_eq_true rfl⟩) (gw_grecv [.int (nI (gw_ix (σ 8 (gw_co σ a)))), .int (nI ((gw_ix (σ 11 (gw_co σ a))) + k))] gw_gPb (gw_c0 hG) rfl hK (fun U hU hW => gw_gat hU hW hG hK hE hN hA hS)) rfl rfl hl.1 rfl (lv_room (Nat.le_of_ble_eq_true rfl)) dX1_keyFor_21 ⟨Nat.le_of_ble_eq_true rfl, Nat.le_of_ble_eq_true rfl⟩) hS (fun _ _ h => h) (fun _ h => h) (fun u9 ra9 t9 H locs ht9 hA9 hp9 hB9 _ _ hS => ?_)
  obtain ⟨hd, γ⟩ := u9
  obtain ⟨hX, hkN⟩ := hp9
  obtain ⟨rfl, hG⟩ := hB9
  subst ht9
  have hX0 := hX0.tr hX
  have hKo := gw_Ko.ext hKo hX
  have hEn : ∀ x, x < gw_n σ 31 → ¬ γ 8 (gw_ix (σ 33 x)) = 0 := fun x hx => (hX.2.1 _ (hEn x hx)).1
  refine W.widen (k := 1) (n := 2) (Nat.le_of_ble_eq_true rfl) (Nat.le_of_ble_eq_true rfl) ?_
  exact W.aret (v := .ref (hd 10 (12 * (gw_ix (σ 8 (gw_co σ a))) + ((gw_ix (σ 11 (gw_co σ a))) + k)))) hx hb hr (.inl ⟨_, rfl⟩) (.inr ⟨_, rfl⟩) (fun t ht hW => ⟨⟨(hd, γ), _, rfl, ⟨hX0, hkN⟩, rfl, by show gw_gW D ca es A ad _ _ _ _ _ t.heap; rw [ht]; exact hG⟩, hS.F ht⟩) hS.2.2 dX1_keyFor_24

set_option maxHeartbeats 4000000 in
set_option maxRecDepth 100000 in
theorem gg_canComeIn (l : Launch) (D : va_G) (ca : Nat → ClassId) (es : Nat → Nat) (A : Nat → Prop) (ad hd : Nat → Nat → Nat) (σ γ : gw_S) (ord : List Nat) (a : Nat) (hJ : gw_J σ) (ha : a < gw_n σ 15) (hKo : gw_Ko γ ord) (hEn : ∀ x, x < gw_n σ 31 → ¬ γ 8 (gw_ix (σ 33 x)) = 0) (h3 : ∀ i, i < 48 → (σ 3 i = -1 ↔ ¬ i ∈ ord)) : Met l yX1_canComeIn (ws_ yX1_canComeIn cX1_canComeIn 3 (some .boolean)) ({ frames := 4, cells := 3, slots := 6, locals := 122 }) (va_Pc [.ref (ad 0 0), .ref (ad 12 a)] (gw_gP D ca es A ad hd σ γ ord (gw_nu σ))) (va_Qi (fun r (u : (Nat → Nat → Nat) × gw_S) => r = (if gw_can σ a then 1 else 0) ∧ gw_Ext γ u.2 hd u.1) (fun u t => gw_gW D ca es A ad u.1 σ u.2 ord (gw_nu σ) t.heap) A) 3 6 A := by
  refine Met.ofW (cc := cX1_canComeIn) (maxL := 3) (ret := (some .boolean)) (by decide) rfl ?_
  intro p e s m args below meth c s₁ B hml hv
  obtain ⟨rfl, hG, hK, hE, hN, hA⟩ := hv
  have hx := B.exec
  have hb := B.bytes
  have hr := B.returns
  have hts := atoms_spec (ws := ws_ yX1_canComeIn cX1_canComeIn 3 (some .boolean)) B.pre
  have hts : ∀ w ∈ lw_all, w.before _ s = true := fun w h => hts w (List.mem_cons_of_mem _ h)
  have hown : s.vm.findClass RX1 = some m.cls := findClass_of_methodNamed B.named
  have hlocks := B.notSynchronized
  have hS : va_S A s.heap s.heap [] := va_S.rf
  have hl := lv_entry ([.ref (ad 0 0), .ref (ad 12 a)]) (n := 3) (Nat.le_of_ble_eq_true rfl)
  rw [lg_entry_eq]
  generalize (lg_sl ([.ref (ad 0 0), .ref (ad 12 a)]) ++ List.replicate (3 - (lg_sl ([.ref (ad 0 0), .ref (ad 12 a)])).length) Slot.unset).toArray = ls at hl ⊢
  have hl : lv_has ls 3 [(0, .ref (ad 0 0)), (1, .ref (ad 12 a))] := hl
  have hX0 := gw_Ext.rf (γ := γ) (hd := hd)
  refine lv_iconst (v := 0) hx hb dX1_canComeIn_0 (by decide) ?_
  refine lv_istore_n (lv' := [(2, .int 0), (0, .ref (ad 0 0)), (1, .ref (ad 12 a))]) hx hb dX1_canComeIn_1 rfl hl (by decide) rfl (fun ls hl => ?_)
  refine lv_iload_n hx hb dX1_canComeIn_2 rfl (lv_at hl 0 rfl) ?_
  refine lv_iconst (v := 3) hx hb dX1_canComeIn_3 (by decide) ?_
  refine lv_icmp_ge (tgt := 48) hx hb dX1_canComeIn_4 (by decide) (fun c_ => absurd c_ (by decide)) (fun _ => ?_)
  refine lv_aload_n hx hb dX1_canComeIn_7 rfl (lv_at hl 2 rfl) ?_
  refine gw_getN hx hb hts in_X8 hown hK (gw_c12 hG (j := a) ha) rfl 4 (by decide) (hN.1 _ q568 rfl) (v := .ref (ad 13 a)) rfl dX1_canComeIn_8 ?_
  refine lv_iload_n hx hb dX1_canComeIn_11 rfl (lv_at hl 0 rfl) ?_
  refine gw_askld (i := 0) (j := a) hx hb hK hG ha (by decide) dX1_canComeIn_12 (v := σ 19 ((3 * a) + 0)) rfl ?_
  refine lv_aload_n hx hb dX1_canComeIn_13 rfl (lv_at hl 1 rfl) ?_
  refine lv_aload_n hx hb dX1_canComeIn_14 rfl (lv_at hl 1 rfl) ?_
  refine gw_get hx hb hts in_X1 hown hK (gw_c0 hG) rfl 4 (by decide) (hts _ q104) (v := .ref (ad 6 0)) rfl dX1_canComeIn_15 ?_
  refine lv_aload_n hx hb dX1_canComeIn_18 rfl (lv_at hl 2 rfl) ?_
  refine gw_getN hx hb hts in_X8 hown hK (gw_c12 hG (j := a) ha) rfl 1 (by decide) (hN.1 _ q562 rfl) (v := .int (σ 16 a)) rfl dX1_canComeIn_19 ?_
  refine gw_topi (y := nI (gw_co σ a)) (hJ.a16 ha) ?_
  refine gw_gald 0 (n := 6) (j := gw_co σ a) hx hb hK hG (by decide) rfl rfl (by decide) (by have := hJ.a16b ha; have := hJ.b7; omega) dX1_canComeIn_22 (v := σ 8 (gw_co σ a)) rfl ?_
  refine gw_topi (y := nI (gw_ix (σ 8 (gw_co σ a)))) (hJ.c8 (hJ.a16b ha)) ?_
  refine lv_aload_n hx hb dX1_canComeIn_23 rfl (lv_at hl 1 rfl) ?_
  refine gw_get hx hb hts in_X1 hown hK (gw_c0 hG) rfl 7 (by decide) (hts _ q107) (v := .ref (ad 6 3)) rfl dX1_canComeIn_24 ?_
  refine lv_aload_n hx hb dX1_canComeIn_27 rfl (lv_at hl 2 rfl) ?_
  refine gw_getN hx hb hts in_X8 hown hK (gw_c12 hG (j := a) ha) rfl 1 (by decide) (hN.1 _ q562 rfl) (v := .int (σ 16 a)) rfl dX1_canComeIn_28 ?_
  refine gw_topi (y := nI (gw_co σ a)) (hJ.a16 ha) ?_
  refine gw_gald 3 (n := 6) (j := gw_co σ a) hx hb hK hG (by decide) rfl rfl (by decide) (by have := hJ.a16b ha; have := hJ.b7; omega) dX1_canComeIn_31 (v := σ 11 (gw_co σ a)) rfl ?_
  refine gw_topi (y := nI (gw_ix (σ 11 (gw_co σ a)))) (hJ.c11 (hJ.a16b ha)) ?_
  refine lv_iload_n hx hb dX1_canComeIn_32 rfl (lv_at hl 0 rfl) ?_
  refine lv_iadd hx hb dX1_canComeIn_33 ?_
  refine gw_topi (y := nI ((gw_ix (σ 11 (gw_co σ a))) + 0)) (by simp only [gw_lit0, nI_add, pk_mul]) ?_
  refine va_calli (va_runV (As := [.int (nI (gw_ix (σ 8 (gw_co σ a)))), .int (nI ((gw_ix (σ 11 (gw_co σ a))) + 0))]) (rest := [.int (σ 19 ((3 * a) + 0))]) ⟨hx, hb, hml, hown, hts⟩ (gg_freeAt l D ca es A ad hd σ γ ord (gw_ix (σ 8 (gw_co σ a))) ((gw_ix (σ 11 (gw_co σ a))) + 0) (Nat.lt_succ_of_le (hJ.c8b (hJ.a16b ha))) (by have := hJ.c11b (hJ.a16b ha); omega) hKo hEn h3) (cwV 2 hts (lw_V q202 q204 qs3 q42 q205) rfl rfl rfl (by decide +kernel) ⟨Nat.le_of_ble_eq_true rfl, Nat.le_of_ble_eq_true rfl⟩) (gw_grecv [.int (nI (gw_ix (σ 8 (gw_co σ a)))), .int (nI ((gw_ix (σ 11 (gw_co σ a))) + 0))] gw_gPb (gw_c0 hG) rfl hK (fun U hU hW => gw_gat hU hW hG hK hE hN hA hS)) rfl rfl hl.1 rfl (lv_room (Nat.le_of_ble_eq_true rfl)) dX1_canComeIn_34 ⟨Nat.le_of_ble_eq_true rfl, Nat.le_of_ble_eq_true rfl⟩) hS (fun _ _ h => h) (fun _ h => h) (fun r9 u9 t9 H locs ht9 hA9 hp9 hB9 _ _ hS => ?_)
  obtain ⟨hd, γ⟩ := u9
  obtain ⟨rfl, hX⟩ := hp9
  have hG := hB9
  subst ht9
  have hX0 := hX0.tr hX
  have hKo := gw_Ko.ext hKo hX
  have hEn : ∀ x, x < gw_n σ 31 → ¬ γ 8 (gw_ix (σ 33 x)) = 0 := fun x hx => (hX.2.1 _ (hEn x hx)).1
  refine gw_topi (y := gw_free σ (gw_at σ a 0)) (congrArg (gw_free σ) (Nat.add_assoc _ _ _).symm) ?_
  refine lv_icmp_le (tgt := 42) hx hb dX1_canComeIn_37 (by decide) (fun c37 => ?_) (fun c37 => ?_)
  · skip
    refine lv_iinc (v := 1) (lv' := [(2, .int 1), (0, .ref (ad 0 0)), (1, .ref (ad 12 a))]) hx hb dX1_canComeIn_42 hl (k := 0) rfl (by decide) (by decide) rfl (fun ls hl => ?_)
    refine lv_goto (tgt := 2) hx hb dX1_canComeIn_45 (by decide) ?_
    refine lv_iload_n hx hb dX1_canComeIn_2 rfl (lv_at hl 0 rfl) ?_
    refine lv_iconst (v := 3) hx hb dX1_canComeIn_3 (by decide) ?_
    refine lv_icmp_ge (tgt := 48) hx hb dX1_canComeIn_4 (by decide) (fun c_ => absurd c_ (by decide)) (fun _ => ?_)
    refine lv_aload_n hx hb dX1_canComeIn_7 rfl (lv_at hl 2 rfl) ?_
    refine gw_getN hx hb hts in_X8 hown hK (gw_c12 hG (j := a) ha) rfl 4 (by decide) (hN.1 _ q568 rfl) (v := .ref (ad 13 a)) rfl dX1_canComeIn_8 ?_
    refine lv_iload_n hx hb dX1_canComeIn_11 rfl (lv_at hl 0 rfl) ?_
    refine gw_askld (i := 1) (j := a) hx hb hK hG ha (by decide) dX1_canComeIn_12 (v := σ 19 ((3 * a) + 1)) rfl ?_
    refine lv_aload_n hx hb dX1_canComeIn_13 rfl (lv_at hl 1 rfl) ?_
    refine lv_aload_n hx hb dX1_canComeIn_14 rfl (lv_at hl 1 rfl) ?_
    refine gw_get hx hb hts in_X1 hown hK (gw_c0 hG) rfl 4 (by decide) (hts _ q104) (v := .ref (ad 6 0)) rfl dX1_canComeIn_15 ?_
    refine lv_aload_n hx hb dX1_canComeIn_18 rfl (lv_at hl 2 rfl) ?_
    refine gw_getN hx hb hts in_X8 hown hK (gw_c12 hG (j := a) ha) rfl 1 (by decide) (hN.1 _ q562 rfl) (v := .int (σ 16 a)) rfl dX1_canComeIn_19 ?_
    refine gw_topi (y := nI (gw_co σ a)) (hJ.a16 ha) ?_
    refine gw_gald 0 (n := 6) (j := gw_co σ a) hx hb hK hG (by decide) rfl rfl (by decide) (by have := hJ.a16b ha; have := hJ.b7; omega) dX1_canComeIn_22 (v := σ 8 (gw_co σ a)) rfl ?_
    refine gw_topi (y := nI (gw_ix (σ 8 (gw_co σ a)))) (hJ.c8 (hJ.a16b ha)) ?_
    refine lv_aload_n hx hb dX1_canComeIn_23 rfl (lv_at hl 1 rfl) ?_
    refine gw_get hx hb hts in_X1 hown hK (gw_c0 hG) rfl 7 (by decide) (hts _ q107) (v := .ref (ad 6 3)) rfl dX1_canComeIn_24 ?_
    refine lv_aload_n hx hb dX1_canComeIn_27 rfl (lv_at hl 2 rfl) ?_
    refine gw_getN hx hb hts in_X8 hown hK (gw_c12 hG (j := a) ha) rfl 1 (by decide) (hN.1 _ q562 rfl) (v := .int (σ 16 a)) rfl dX1_canComeIn_28 ?_
    refine gw_topi (y := nI (gw_co σ a)) (hJ.a16 ha) ?_
    refine gw_gald 3 (n := 6) (j := gw_co σ a) hx hb hK hG (by decide) rfl rfl (by decide) (by have := hJ.a16b ha; have := hJ.b7; omega) dX1_canComeIn_31 (v := σ 11 (gw_co σ a)) rfl ?_
    refine gw_topi (y := nI (gw_ix (σ 11 (gw_co σ a)))) (hJ.c11 (hJ.a16b ha)) ?_
    refine lv_iload_n hx hb dX1_canComeIn_32 rfl (lv_at hl 0 rfl) ?_
    refine lv_iadd hx hb dX1_canComeIn_33 ?_
    refine gw_topi (y := nI ((gw_ix (σ 11 (gw_co σ a))) + 1)) (by simp only [gw_lit1, nI_add, pk_mul]) ?_
    refine va_calli (va_runV (As := [.int (nI (gw_ix (σ 8 (gw_co σ a)))), .int (nI ((gw_ix (σ 11 (gw_co σ a))) + 1))]) (rest := [.int (σ 19 ((3 * a) + 1))]) ⟨hx, hb, hml, hown, hts⟩ (gg_freeAt l D ca es A ad hd σ γ ord (gw_ix (σ 8 (gw_co σ a))) ((gw_ix (σ 11 (gw_co σ a))) + 1) (Nat.lt_succ_of_le (hJ.c8b (hJ.a16b ha))) (by have := hJ.c11b (hJ.a16b ha); omega) hKo hEn h3) (cwV 2 hts (lw_V q202 q204 qs3 q42 q205) rfl rfl rfl (by decide +kernel) ⟨Nat.le_of_ble_eq_true rfl, Nat.le_of_ble_eq_true rfl⟩) (gw_grecv [.int (nI (gw_ix (σ 8 (gw_co σ a)))), .int (nI ((gw_ix (σ 11 (gw_co σ a))) + 1))] gw_gPb (gw_c0 hG) rfl hK (fun U hU hW => gw_gat hU hW hG hK hE hN hA hS)) rfl rfl hl.1 rfl (lv_room (Nat.le_of_ble_eq_true rfl)) dX1_canComeIn_34 ⟨Nat.le_of_ble_eq_true rfl, Nat.le_of_ble_eq_true rfl⟩) hS (fun _ _ h => h) (fun _ h => h) (fun r9 u9 t9 H locs ht9 hA9 hp9 hB9 _ _ hS => ?_)
    obtain ⟨hd, γ⟩ := u9
    obtain ⟨rfl, hX⟩ := hp9
    have hG := hB9
    subst ht9
    have hX0 := hX0.tr hX
    have hKo := gw_Ko.ext hKo hX
    have hEn : ∀ x, x < gw_n σ 31 → ¬ γ 8 (gw_ix (σ 33 x)) = 0 := fun x hx => (hX.2.1 _ (hEn x hx)).1
    refine gw_topi (y := gw_free σ (gw_at σ a 1)) (congrArg (gw_free σ) (Nat.add_assoc _ _ _).symm) ?_
    refine lv_icmp_le (tgt := 42) hx hb dX1_canComeIn_37 (by decide) (fun c37_1 => ?_) (fun c37_1 => ?_)
    · skip
      refine lv_iinc (v := 2) (lv' := [(2, .int 2), (0, .ref (ad 0 0)), (1, .ref (ad 12 a))]) hx hb dX1_canComeIn_42 hl (k := 0) rfl (by decide) (by decide) rfl (fun ls hl => ?_)
      refine lv_goto (tgt := 2) hx hb dX1_canComeIn_45 (by decide) ?_
      refine lv_iload_n hx hb dX1_canComeIn_2 rfl (lv_at hl 0 rfl) ?_
      refine lv_iconst (v := 3) hx hb dX1_canComeIn_3 (by decide) ?_
      refine lv_icmp_ge (tgt := 48) hx hb dX1_canComeIn_4 (by decide) (fun c_ => absurd c_ (by decide)) (fun _ => ?_)
      refine lv_aload_n hx hb dX1_canComeIn_7 rfl (lv_at hl 2 rfl) ?_
      refine gw_getN hx hb hts in_X8 hown hK (gw_c12 hG (j := a) ha) rfl 4 (by decide) (hN.1 _ q568 rfl) (v := .ref (ad 13 a)) rfl dX1_canComeIn_8 ?_
      refine lv_iload_n hx hb dX1_canComeIn_11 rfl (lv_at hl 0 rfl) ?_
      refine gw_askld (i := 2) (j := a) hx hb hK hG ha (by decide) dX1_canComeIn_12 (v := σ 19 ((3 * a) + 2)) rfl ?_
      refine lv_aload_n hx hb dX1_canComeIn_13 rfl (lv_at hl 1 rfl) ?_
      refine lv_aload_n hx hb dX1_canComeIn_14 rfl (lv_at hl 1 rfl) ?_
      refine gw_get hx hb hts in_X1 hown hK (gw_c0 hG) rfl 4 (by decide) (hts _ q104) (v := .ref (ad 6 0)) rfl dX1_canComeIn_15 ?_
      refine lv_aload_n hx hb dX1_canComeIn_18 rfl (lv_at hl 2 rfl) ?_
      refine gw_getN hx hb hts in_X8 hown hK (gw_c12 hG (j := a) ha) rfl 1 (by decide) (hN.1 _ q562 rfl) (v := .int (σ 16 a)) rfl dX1_canComeIn_19 ?_
      refine gw_topi (y := nI (gw_co σ a)) (hJ.a16 ha) ?_
      refine gw_gald 0 (n := 6) (j := gw_co σ a) hx hb hK hG (by decide) rfl rfl (by decide) (by have := hJ.a16b ha; have := hJ.b7; omega) dX1_canComeIn_22 (v := σ 8 (gw_co σ a)) rfl ?_
      refine gw_topi (y := nI (gw_ix (σ 8 (gw_co σ a)))) (hJ.c8 (hJ.a16b ha)) ?_
      refine lv_aload_n hx hb dX1_canComeIn_23 rfl (lv_at hl 1 rfl) ?_
      refine gw_get hx hb hts in_X1 hown hK (gw_c0 hG) rfl 7 (by decide) (hts _ q107) (v := .ref (ad 6 3)) rfl dX1_canComeIn_24 ?_
      refine lv_aload_n hx hb dX1_canComeIn_27 rfl (lv_at hl 2 rfl) ?_
      refine gw_getN hx hb hts in_X8 hown hK (gw_c12 hG (j := a) ha) rfl 1 (by decide) (hN.1 _ q562 rfl) (v := .int (σ 16 a)) rfl dX1_canComeIn_28 ?_
      refine gw_topi (y := nI (gw_co σ a)) (hJ.a16 ha) ?_
      refine gw_gald 3 (n := 6) (j := gw_co σ a) hx hb hK hG (by decide) rfl rfl (by decide) (by have := hJ.a16b ha; have := hJ.b7; omega) dX1_canComeIn_31 (v := σ 11 (gw_co σ a)) rfl ?_
      refine gw_topi (y := nI (gw_ix (σ 11 (gw_co σ a)))) (hJ.c11 (hJ.a16b ha)) ?_
      refine lv_iload_n hx hb dX1_canComeIn_32 rfl (lv_at hl 0 rfl) ?_
      refine lv_iadd hx hb dX1_canComeIn_33 ?_
      refine gw_topi (y := nI ((gw_ix (σ 11 (gw_co σ a))) + 2)) (by simp only [gw_lit2, nI_add, pk_mul]) ?_
      refine va_calli (va_runV (As := [.int (nI (gw_ix (σ 8 (gw_co σ a)))), .int (nI ((gw_ix (σ 11 (gw_co σ a))) + 2))]) (rest := [.int (σ 19 ((3 * a) + 2))]) ⟨hx, hb, hml, hown, hts⟩ (gg_freeAt l D ca es A ad hd σ γ ord (gw_ix (σ 8 (gw_co σ a))) ((gw_ix (σ 11 (gw_co σ a))) + 2) (Nat.lt_succ_of_le (hJ.c8b (hJ.a16b ha))) (by have := hJ.c11b (hJ.a16b ha); omega) hKo hEn h3) (cwV 2 hts (lw_V q202 q204 qs3 q42 q205) rfl rfl rfl (by decide +kernel) ⟨Nat.le_of_ble_eq_true rfl, Nat.le_of_ble_eq_true rfl⟩) (gw_grecv [.int (nI (gw_ix (σ 8 (gw_co σ a)))), .int (nI ((gw_ix (σ 11 (gw_co σ a))) + 2))] gw_gPb (gw_c0 hG) rfl hK (fun U hU hW => gw_gat hU hW hG hK hE hN hA hS)) rfl rfl hl.1 rfl (lv_room (Nat.le_of_ble_eq_true rfl)) dX1_canComeIn_34 ⟨Nat.le_of_ble_eq_true rfl, Nat.le_of_ble_eq_true rfl⟩) hS (fun _ _ h => h) (fun _ h => h) (fun r9 u9 t9 H locs ht9 hA9 hp9 hB9 _ _ hS => ?_)
      obtain ⟨hd, γ⟩ := u9
      obtain ⟨rfl, hX⟩ := hp9
      have hG := hB9
      subst ht9
      have hX0 := hX0.tr hX
      have hKo := gw_Ko.ext hKo hX
      have hEn : ∀ x, x < gw_n σ 31 → ¬ γ 8 (gw_ix (σ 33 x)) = 0 := fun x hx => (hX.2.1 _ (hEn x hx)).1
      refine gw_topi (y := gw_free σ (gw_at σ a 2)) (congrArg (gw_free σ) (Nat.add_assoc _ _ _).symm) ?_
      refine lv_icmp_le (tgt := 42) hx hb dX1_canComeIn_37 (by decide) (fun c37_2 => ?_) (fun c37_2 => ?_)
      · skip
        refine lv_iinc (v := 3) (lv' := [(2, .int 3), (0, .ref (ad 0 0)), (1, .ref (ad 12 a))]) hx hb dX1_canComeIn_42 hl (k := 0) rfl (by decide) (by decide) rfl (fun ls hl => ?_)
        refine lv_goto (tgt := 2) hx hb dX1_canComeIn_45 (by decide) ?_
        refine lv_iload_n hx hb dX1_canComeIn_2 rfl (lv_at hl 0 rfl) ?_
        refine lv_iconst (v := 3) hx hb dX1_canComeIn_3 (by decide) ?_
        refine lv_icmp_ge (tgt := 48) hx hb dX1_canComeIn_4 (by decide) (fun _ => ?_) (fun c_ => absurd c_ (by decide))
        refine lv_iconst (v := 1) hx hb dX1_canComeIn_48 (by decide) ?_
        refine W.widen (k := 3) (n := 6) (Nat.le_of_ble_eq_true rfl) (Nat.le_of_ble_eq_true rfl) ?_
        exact W.zret (v := 1) hx hb hr rfl (fun t ht hW => ⟨⟨_, (hd, γ), rfl, ⟨(if_pos ⟨c37, c37_1, c37_2⟩).symm, hX0⟩, by show gw_gW D ca es A ad _ _ _ _ _ t.heap; rw [ht]; exact hG⟩, hS.F ht⟩) hS.2.2 dX1_canComeIn_49
      · skip
        refine lv_iconst (v := 0) hx hb dX1_canComeIn_40 (by decide) ?_
        refine W.widen (k := 3) (n := 6) (Nat.le_of_ble_eq_true rfl) (Nat.le_of_ble_eq_true rfl) ?_
        exact W.zret (v := 0) hx hb hr rfl (fun t ht hW => ⟨⟨_, (hd, γ), rfl, ⟨(if_neg (fun z => c37_2 z.2.2)).symm, hX0⟩, by show gw_gW D ca es A ad _ _ _ _ _ t.heap; rw [ht]; exact hG⟩, hS.F ht⟩) hS.2.2 dX1_canComeIn_41
    · skip
      refine lv_iconst (v := 0) hx hb dX1_canComeIn_40 (by decide) ?_
      refine W.widen (k := 3) (n := 6) (Nat.le_of_ble_eq_true rfl) (Nat.le_of_ble_eq_true rfl) ?_
      exact W.zret (v := 0) hx hb hr rfl (fun t ht hW => ⟨⟨_, (hd, γ), rfl, ⟨(if_neg (fun z => c37_1 z.2.1)).symm, hX0⟩, by show gw_gW D ca es A ad _ _ _ _ _ t.heap; rw [ht]; exact hG⟩, hS.F ht⟩) hS.2.2 dX1_canComeIn_41
  · skip
    refine lv_iconst (v := 0) hx hb dX1_canComeIn_40 (by decide) ?_
    refine W.widen (k := 3) (n := 6) (Nat.le_of_ble_eq_true rfl) (Nat.le_of_ble_eq_true rfl) ?_
    exact W.zret (v := 0) hx hb hr rfl (fun t ht hW => ⟨⟨_, (hd, γ), rfl, ⟨(if_neg (fun z => c37 z.1)).symm, hX0⟩, by show gw_gW D ca es A ad _ _ _ _ _ t.heap; rw [ht]; exact hG⟩, hS.F ht⟩) hS.2.2 dX1_canComeIn_41
