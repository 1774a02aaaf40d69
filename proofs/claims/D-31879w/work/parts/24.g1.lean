/-! THE CLASS 1 -/
set_option maxRecDepth 100000
set_option maxHeartbeats 4000000 in
set_option maxRecDepth 100000 in
theorem gg_inRange (l : Launch) (x lo hi : Int64) : Met l yX1_inRange (ws_ yX1_inRange cX1_inRange 6 (some .boolean)) ({ frames := 1, cells := 0, slots := 0, locals := 12 }) (va_Pc [.long x, .long lo, .long hi] (fun _ => True)) (vp_Si (fun r => r = if lo ≤ x ∧ x ≤ hi then 1 else 0)) 0 0 (fun _ => False) := by
  refine Met.ofW (cc := cX1_inRange) (maxL := 6) (ret := (some .boolean)) (by decide) rfl ?_
  intro p e s m args below meth c s₁ B hml hv
  obtain ⟨rfl, -⟩ := hv
  have hx := B.exec
  have hb := B.bytes
  have hr := B.returns
  have hts := atoms_spec (ws := ws_ yX1_inRange cX1_inRange 6 (some .boolean)) B.pre
  have hts : ∀ w ∈ lw_all, w.before _ s = true := fun w h => hts w (List.mem_cons_of_mem _ h)
  have hown : s.vm.findClass RX1 = some m.cls := findClass_of_methodNamed B.named
  have hlocks := B.notSynchronized
  have hS : va_S (fun _ => False) s.heap s.heap [] := va_S.rf
  have hl := lv_entry ([.long x, .long lo, .long hi]) (n := 6) (Nat.le_of_ble_eq_true rfl)
  rw [lg_entry_eq]
  generalize (lg_sl ([.long x, .long lo, .long hi]) ++ List.replicate (6 - (lg_sl ([.long x, .long lo, .long hi])).length) Slot.unset).toArray = ls at hl ⊢
  have hl : lv_has ls 6 [(0, .long x), (2, .long lo), (4, .long hi)] := hl
  refine lv_lload_n hx hb dX1_inRange_0 rfl (lv_at hl 1 rfl) ?_
  refine lv_lload_n hx hb dX1_inRange_1 rfl (lv_at hl 0 rfl) ?_
  refine gw_l_gt (tgt := 17) hx hb dX1_inRange_2 dX1_inRange_3 (by decide) (fun c3 => ?_) (fun c3 => ?_)
  · skip
    refine lv_iconst (v := 0) hx hb dX1_inRange_17 (by decide) ?_
    exact W.zret (v := 0) hx hb hr rfl (fun t ht hW => ⟨0, rfl, (if_neg (fun z => absurd c3 (Int64.not_lt.mpr z.1))).symm, ht⟩) (fun q h => by cases h) dX1_inRange_18
  · skip
    refine lv_lload_n hx hb dX1_inRange_6 rfl (lv_at hl 0 rfl) ?_
    refine lv_lload hx hb dX1_inRange_7 (lv_at hl 2 rfl) ?_
    refine gw_l_gt (tgt := 17) hx hb dX1_inRange_9 dX1_inRange_10 (by decide) (fun c10 => ?_) (fun c10 => ?_)
    · skip
      refine lv_iconst (v := 0) hx hb dX1_inRange_17 (by decide) ?_
      exact W.zret (v := 0) hx hb hr rfl (fun t ht hW => ⟨0, rfl, (if_neg (fun z => absurd c10 (Int64.not_lt.mpr z.2))).symm, ht⟩) (fun q h => by cases h) dX1_inRange_18
    · skip
      refine lv_iconst (v := 1) hx hb dX1_inRange_13 (by decide) ?_
      refine lv_goto (tgt := 18) hx hb dX1_inRange_14 (by decide) ?_
      exact W.zret (v := 1) hx hb hr rfl (fun t ht hW => ⟨1, rfl, (if_pos ⟨Int64.not_lt.mp c3, Int64.not_lt.mp c10⟩).symm, ht⟩) (fun q h => by cases h) dX1_inRange_18

set_option maxHeartbeats 4000000 in
set_option maxRecDepth 100000 in
theorem gg_isPlace (l : Launch) (x y : Int32) : Met l yX1_isPlace (ws_ yX1_isPlace cX1_isPlace 2 (some .boolean)) ({ frames := 2, cells := 0, slots := 0, locals := 37 }) (va_Pc [.int x, .int y] (fun _ => True)) (vp_Si (fun r => r = if (0 ≤ x ∧ x ≤ 3) ∧ (0 ≤ y ∧ y ≤ 11) then 1 else 0)) 0 0 (fun _ => False) := by
  refine Met.ofW (cc := cX1_isPlace) (maxL := 2) (ret := (some .boolean)) (by decide) rfl ?_
  intro p e s m args below meth c s₁ B hml hv
  obtain ⟨rfl, -⟩ := hv
  have hx := B.exec
  have hb := B.bytes
  have hr := B.returns
  have hts := atoms_spec (ws := ws_ yX1_isPlace cX1_isPlace 2 (some .boolean)) B.pre
  have hts : ∀ w ∈ lw_all, w.before _ s = true := fun w h => hts w (List.mem_cons_of_mem _ h)
  have hown : s.vm.findClass RX1 = some m.cls := findClass_of_methodNamed B.named
  have hlocks := B.notSynchronized
  have hS : va_S (fun _ => False) s.heap s.heap [] := va_S.rf
  have hl := lv_entry ([.int x, .int y]) (n := 2) (Nat.le_of_ble_eq_true rfl)
  rw [lg_entry_eq]
  generalize (lg_sl ([.int x, .int y]) ++ List.replicate (2 - (lg_sl ([.int x, .int y])).length) Slot.unset).toArray = ls at hl ⊢
  have hl : lv_has ls 2 [(0, .int x), (1, .int y)] := hl
  refine lv_iload_n hx hb dX1_isPlace_0 rfl (lv_at hl 0 rfl) ?_
  refine lv_i2l (v := x.toInt64) hx hb dX1_isPlace_1 rfl ?_
  refine lv_lconst (v := 0) hx hb dX1_isPlace_2 (by decide) ?_
  refine lv_ldc2 (v := 3) hx hb hown (hts _ q278) dX1_isPlace_3 ?_
  rcases Classical.em (0 ≤ x ∧ x ≤ 3) with h6 | h6
  · skip
    refine gw_scalli (va_Run.run (va_runS (As := [.long x.toInt64, .long 0, .long 3]) (rest := []) ⟨hx, hb, hml, hown, hts⟩ (gg_inRange l x.toInt64 0 3) (va_cwS 3 hts (lw_S q279 q280 q42 q281) rfl rfl rfl (by decide +kernel) ⟨Nat.le_of_ble_eq_true rfl, Nat.le_of_ble_eq_true rfl⟩) gw_spre rfl rfl hl.1 rfl (lv_room (Nat.le_of_ble_eq_true rfl)) dX1_isPlace_6 ⟨Nat.le_of_ble_eq_true rfl, Nat.le_of_ble_eq_true rfl⟩)) ?_
    refine gw_topi (y := 1) (if_pos (gw_rgp (x := x) (by decide) (by decide) h6)) ?_
    refine lv_if_eq (tgt := 28) hx hb dX1_isPlace_9 (by decide) (fun c_ => absurd c_ (by decide)) (fun _ => ?_)
    refine lv_iload_n hx hb dX1_isPlace_12 rfl (lv_at hl 1 rfl) ?_
    refine lv_i2l (v := y.toInt64) hx hb dX1_isPlace_13 rfl ?_
    refine lv_lconst (v := 0) hx hb dX1_isPlace_14 (by decide) ?_
    refine lv_ldc2 (v := 11) hx hb hown (hts _ q282) dX1_isPlace_15 ?_
    rcases Classical.em (0 ≤ y ∧ y ≤ 11) with h18 | h18
    · skip
      refine gw_scalli (va_Run.run (va_runS (As := [.long y.toInt64, .long 0, .long 11]) (rest := []) ⟨hx, hb, hml, hown, hts⟩ (gg_inRange l y.toInt64 0 11) (va_cwS 3 hts (lw_S q279 q280 q42 q281) rfl rfl rfl (by decide +kernel) ⟨Nat.le_of_ble_eq_true rfl, Nat.le_of_ble_eq_true rfl⟩) gw_spre rfl rfl hl.1 rfl (lv_room (Nat.le_of_ble_eq_true rfl)) dX1_isPlace_18 ⟨Nat.le_of_ble_eq_true rfl, Nat.le_of_ble_eq_true rfl⟩)) ?_
      refine gw_topi (y := 1) (if_pos (gw_rgp (x := y) (by decide) (by decide) h18)) ?_
      refine lv_if_eq (tgt := 28) hx hb dX1_isPlace_21 (by decide) (fun c_ => absurd c_ (by decide)) (fun _ => ?_)
      refine lv_iconst (v := 1) hx hb dX1_isPlace_24 (by decide) ?_
      refine lv_goto (tgt := 29) hx hb dX1_isPlace_25 (by decide) ?_
      exact W.zret (v := 1) hx hb hr rfl (fun t ht hW => ⟨1, rfl, (by simp only [h6, h18, and_true, true_and, and_false, false_and, and_self, or_true, true_or, or_false, false_or, not_true_eq_false, not_false_eq_true, if_true, if_false, ↓reduceIte]; try rfl), ht⟩) (fun q h => by cases h) dX1_isPlace_29
    · skip
      refine gw_scalli (va_Run.run (va_runS (As := [.long y.toInt64, .long 0, .long 11]) (rest := []) ⟨hx, hb, hml, hown, hts⟩ (gg_inRange l y.toInt64 0 11) (va_cwS 3 hts (lw_S q279 q280 q42 q281) rfl rfl rfl (by decide +kernel) ⟨Nat.le_of_ble_eq_true rfl, Nat.le_of_ble_eq_true rfl⟩) gw_spre rfl rfl hl.1 rfl (lv_room (Nat.le_of_ble_eq_true rfl)) dX1_isPlace_18 ⟨Nat.le_of_ble_eq_true rfl, Nat.le_of_ble_eq_true rfl⟩)) ?_
      refine gw_topi (y := 0) (if_neg (gw_rgn (x := y) (by decide) (by decide) h18)) ?_
      refine lv_if_eq (tgt := 28) hx hb dX1_isPlace_21 (by decide) (fun _ => ?_) (fun c_ => absurd c_ (by decide))
      refine lv_iconst (v := 0) hx hb dX1_isPlace_28 (by decide) ?_
      exact W.zret (v := 0) hx hb hr rfl (fun t ht hW => ⟨0, rfl, (by simp only [h6, h18, and_true, true_and, and_false, false_and, and_self, or_true, true_or, or_false, false_or, not_true_eq_false, not_false_eq_true, if_true, if_false, ↓reduceIte]; try rfl), ht⟩) (fun q h => by cases h) dX1_isPlace_29
  · skip
    refine gw_scalli (va_Run.run (va_runS (As := [.long x.toInt64, .long 0, .long 3]) (rest := []) ⟨hx, hb, hml, hown, hts⟩ (gg_inRange l x.toInt64 0 3) (va_cwS 3 hts (lw_S q279 q280 q42 q281) rfl rfl rfl (by decide +kernel) ⟨Nat.le_of_ble_eq_true rfl, Nat.le_of_ble_eq_true rfl⟩) gw_spre rfl rfl hl.1 rfl (lv_room (Nat.le_of_ble_eq_true rfl)) dX1_isPlace_6 ⟨Nat.le_of_ble_eq_true rfl, Nat.le_of_ble_eq_true rfl⟩)) ?_
    refine gw_topi (y := 0) (if_neg (gw_rgn (x := x) (by decide) (by decide) h6)) ?_
    refine lv_if_eq (tgt := 28) hx hb dX1_isPlace_9 (by decide) (fun _ => ?_) (fun c_ => absurd c_ (by decide))
    refine lv_iconst (v := 0) hx hb dX1_isPlace_28 (by decide) ?_
    exact W.zret (v := 0) hx hb hr rfl (fun t ht hW => ⟨0, rfl, (by simp only [h6, and_true, true_and, and_false, false_and, and_self, or_true, true_or, or_false, false_or, not_true_eq_false, not_false_eq_true, if_true, if_false, ↓reduceIte]; try rfl), ht⟩) (fun q h => by cases h) dX1_isPlace_29

set_option maxHeartbeats 4000000 in
set_option maxRecDepth 100000 in
theorem gg_isFull (l : Launch) (D : va_G) (ca : Nat → ClassId) (es : Nat → Nat) (A : Nat → Prop) (ad hd : Nat → Nat → Nat) (σ γ : gw_S) (ord : List Nat)  : Met l yX1_isFull (ws_ yX1_isFull cX1_isFull 1 (some .boolean)) ({ frames := 1, cells := 0, slots := 0, locals := 12 }) (va_Pc [.ref (ad 0 0)] (gw_gP D ca es A ad hd σ γ ord (gw_nu σ))) (vp_Si (fun r => r = if 300 < σ 31 0 then 1 else 0)) 0 0 (fun _ => False) := by
  refine Met.ofW (cc := cX1_isFull) (maxL := 1) (ret := (some .boolean)) (by decide) rfl ?_
  intro p e s m args below meth c s₁ B hml hv
  obtain ⟨rfl, hG, hK, hE, hN, hA⟩ := hv
  have hx := B.exec
  have hb := B.bytes
  have hr := B.returns
  have hts := atoms_spec (ws := ws_ yX1_isFull cX1_isFull 1 (some .boolean)) B.pre
  have hts : ∀ w ∈ lw_all, w.before _ s = true := fun w h => hts w (List.mem_cons_of_mem _ h)
  have hown : s.vm.findClass RX1 = some m.cls := findClass_of_methodNamed B.named
  have hlocks := B.notSynchronized
  have hS : va_S A s.heap s.heap [] := va_S.rf
  have hl := lv_entry ([.ref (ad 0 0)]) (n := 1) (Nat.le_of_ble_eq_true rfl)
  rw [lg_entry_eq]
  generalize (lg_sl ([.ref (ad 0 0)]) ++ List.replicate (1 - (lg_sl ([.ref (ad 0 0)])).length) Slot.unset).toArray = ls at hl ⊢
  have hl : lv_has ls 1 [(0, .ref (ad 0 0))] := hl
  refine lv_aload_n hx hb dX1_isFull_0 rfl (lv_at hl 0 rfl) ?_
  refine gw_get hx hb hts in_X1 hown hK (gw_c0 hG) rfl 3 (by decide) (hts _ q103) (v := .int (σ 31 0)) rfl dX1_isFull_1 ?_
  refine lv_sipush (v := 300) hx hb dX1_isFull_4 (by decide) ?_
  refine lv_icmp_le (tgt := 14) hx hb dX1_isFull_7 (by decide) (fun c7 => ?_) (fun c7 => ?_)
  · skip
    refine lv_iconst (v := 0) hx hb dX1_isFull_14 (by decide) ?_
    exact W.zret (v := 0) hx hb hr rfl (fun t ht hW => ⟨0, rfl, (if_neg (Int32.not_lt.mpr c7)).symm, ht⟩) (fun q h => by cases h) dX1_isFull_15
  · skip
    refine lv_iconst (v := 1) hx hb dX1_isFull_10 (by decide) ?_
    refine lv_goto (tgt := 15) hx hb dX1_isFull_11 (by decide) ?_
    exact W.zret (v := 1) hx hb hr rfl (fun t ht hW => ⟨1, rfl, (if_pos (Int32.not_le.mp c7)).symm, ht⟩) (fun q h => by cases h) dX1_isFull_15

set_option maxHeartbeats 4000000 in
set_option maxRecDepth 100000 in
theorem gg_isCall (l : Launch) (D : va_G) (ca : Nat → ClassId) (es : Nat → Nat) (A : Nat → Prop) (ad hd : Nat → Nat → Nat) (σ γ : gw_S) (ord : List Nat) (x : Int32) : Met l yX1_isCall (ws_ yX1_isCall cX1_isCall 2 (some .boolean)) ({ frames := 2, cells := 0, slots := 0, locals := 37 }) (va_Pc [.ref (ad 0 0), .int x] (gw_gP D ca es A ad hd σ γ ord (gw_nu σ))) (vp_Si (fun r => r = if gw_isC σ x then 1 else 0)) 0 0 (fun _ => False) := by
  refine Met.ofW (cc := cX1_isCall) (maxL := 2) (ret := (some .boolean)) (by decide) rfl ?_
  intro p e s m args below meth c s₁ B hml hv
  obtain ⟨rfl, hG, hK, hE, hN, hA⟩ := hv
  have hx := B.exec
  have hb := B.bytes
  have hr := B.returns
  have hts := atoms_spec (ws := ws_ yX1_isCall cX1_isCall 2 (some .boolean)) B.pre
  have hts : ∀ w ∈ lw_all, w.before _ s = true := fun w h => hts w (List.mem_cons_of_mem _ h)
  have hown : s.vm.findClass RX1 = some m.cls := findClass_of_methodNamed B.named
  have hlocks := B.notSynchronized
  have hS : va_S A s.heap s.heap [] := va_S.rf
  have hl := lv_entry ([.ref (ad 0 0), .int x]) (n := 2) (Nat.le_of_ble_eq_true rfl)
  rw [lg_entry_eq]
  generalize (lg_sl ([.ref (ad 0 0), .int x]) ++ List.replicate (2 - (lg_sl ([.ref (ad 0 0), .int x])).length) Slot.unset).toArray = ls at hl ⊢
  have hl : lv_has ls 2 [(0, .ref (ad 0 0)), (1, .int x)] := hl
  refine lv_iload_n hx hb dX1_isCall_0 rfl (lv_at hl 1 rfl) ?_
  refine lv_i2l (v := x.toInt64) hx hb dX1_isCall_1 rfl ?_
  refine lv_lconst (v := 0) hx hb dX1_isCall_2 (by decide) ?_
  refine lv_aload_n hx hb dX1_isCall_3 rfl (lv_at hl 0 rfl) ?_
  refine gw_get hx hb hts in_X1 hown hK (gw_c0 hG) rfl 12 (by decide) (hts _ q112) (v := .int (σ 7 0)) rfl dX1_isCall_4 ?_
  refine lv_iconst (v := 1) hx hb dX1_isCall_7 (by decide) ?_
  refine lv_isub hx hb dX1_isCall_8 ?_
  refine lv_i2l (v := ((σ 7 0) - 1).toInt64) hx hb dX1_isCall_9 rfl ?_
  rcases Classical.em (0 ≤ x ∧ x ≤ (σ 7 0) - 1) with h10 | h10
  · skip
    refine gw_scalli (va_Run.run (va_runS (As := [.long x.toInt64, .long 0, .long (((σ 7 0) - 1).toInt64)]) (rest := []) ⟨hx, hb, hml, hown, hts⟩ (gg_inRange l x.toInt64 0 (((σ 7 0) - 1).toInt64)) (va_cwS 3 hts (lw_S q279 q280 q42 q281) rfl rfl rfl (by decide +kernel) ⟨Nat.le_of_ble_eq_true rfl, Nat.le_of_ble_eq_true rfl⟩) gw_spre rfl rfl hl.1 rfl (lv_room (Nat.le_of_ble_eq_true rfl)) dX1_isCall_10 ⟨Nat.le_of_ble_eq_true rfl, Nat.le_of_ble_eq_true rfl⟩)) ?_
    refine gw_topi (y := 1) (if_pos (gw_rgp (x := x) (by decide) rfl h10)) ?_
    exact W.zret (v := 1) hx hb hr rfl (fun t ht hW => ⟨1, rfl, (if_pos h10).symm, ht⟩) (fun q h => by cases h) dX1_isCall_13
  · skip
    refine gw_scalli (va_Run.run (va_runS (As := [.long x.toInt64, .long 0, .long (((σ 7 0) - 1).toInt64)]) (rest := []) ⟨hx, hb, hml, hown, hts⟩ (gg_inRange l x.toInt64 0 (((σ 7 0) - 1).toInt64)) (va_cwS 3 hts (lw_S q279 q280 q42 q281) rfl rfl rfl (by decide +kernel) ⟨Nat.le_of_ble_eq_true rfl, Nat.le_of_ble_eq_true rfl⟩) gw_spre rfl rfl hl.1 rfl (lv_room (Nat.le_of_ble_eq_true rfl)) dX1_isCall_10 ⟨Nat.le_of_ble_eq_true rfl, Nat.le_of_ble_eq_true rfl⟩)) ?_
    refine gw_topi (y := 0) (if_neg (gw_rgn (x := x) (by decide) rfl h10)) ?_
    exact W.zret (v := 0) hx hb hr rfl (fun t ht hW => ⟨0, rfl, (if_neg h10).symm, ht⟩) (fun q h => by cases h) dX1_isCall_13

set_option maxHeartbeats 4000000 in
set_option maxRecDepth 100000 in
theorem gg_isApplication (l : Launch) (D : va_G) (ca : Nat → ClassId) (es : Nat → Nat) (A : Nat → Prop) (ad hd : Nat → Nat → Nat) (σ γ : gw_S) (ord : List Nat) (x : Int32) : Met l yX1_isApplication (ws_ yX1_isApplication cX1_isApplication 2 (some .boolean)) ({ frames := 2, cells := 0, slots := 0, locals := 37 }) (va_Pc [.ref (ad 0 0), .int x] (gw_gP D ca es A ad hd σ γ ord (gw_nu σ))) (vp_Si (fun r => r = if gw_isA σ x then 1 else 0)) 0 0 (fun _ => False) := by
  refine Met.ofW (cc := cX1_isApplication) (maxL := 2) (ret := (some .boolean)) (by decide) rfl ?_
  intro p e s m args below meth c s₁ B hml hv
  obtain ⟨rfl, hG, hK, hE, hN, hA⟩ := hv
  have hx := B.exec
  have hb := B.bytes
  have hr := B.returns
  have hts := atoms_spec (ws := ws_ yX1_isApplication cX1_isApplication 2 (some .boolean)) B.pre
  have hts : ∀ w ∈ lw_all, w.before _ s = true := fun w h => hts w (List.mem_cons_of_mem _ h)
  have hown : s.vm.findClass RX1 = some m.cls := findClass_of_methodNamed B.named
  have hlocks := B.notSynchronized
  have hS : va_S A s.heap s.heap [] := va_S.rf
  have hl := lv_entry ([.ref (ad 0 0), .int x]) (n := 2) (Nat.le_of_ble_eq_true rfl)
  rw [lg_entry_eq]
  generalize (lg_sl ([.ref (ad 0 0), .int x]) ++ List.replicate (2 - (lg_sl ([.ref (ad 0 0), .int x])).length) Slot.unset).toArray = ls at hl ⊢
  have hl : lv_has ls 2 [(0, .ref (ad 0 0)), (1, .int x)] := hl
  refine lv_iload_n hx hb dX1_isApplication_0 rfl (lv_at hl 1 rfl) ?_
  refine lv_i2l (v := x.toInt64) hx hb dX1_isApplication_1 rfl ?_
  refine lv_lconst (v := 0) hx hb dX1_isApplication_2 (by decide) ?_
  refine lv_aload_n hx hb dX1_isApplication_3 rfl (lv_at hl 0 rfl) ?_
  refine gw_get hx hb hts in_X1 hown hK (gw_c0 hG) rfl 13 (by decide) (hts _ q113) (v := .int (σ 15 0)) rfl dX1_isApplication_4 ?_
  refine lv_iconst (v := 1) hx hb dX1_isApplication_7 (by decide) ?_
  refine lv_isub hx hb dX1_isApplication_8 ?_
  refine lv_i2l (v := ((σ 15 0) - 1).toInt64) hx hb dX1_isApplication_9 rfl ?_
  rcases Classical.em (0 ≤ x ∧ x ≤ (σ 15 0) - 1) with h10 | h10
  · skip
    refine gw_scalli (va_Run.run (va_runS (As := [.long x.toInt64, .long 0, .long (((σ 15 0) - 1).toInt64)]) (rest := []) ⟨hx, hb, hml, hown, hts⟩ (gg_inRange l x.toInt64 0 (((σ 15 0) - 1).toInt64)) (va_cwS 3 hts (lw_S q279 q280 q42 q281) rfl rfl rfl (by decide +kernel) ⟨Nat.le_of_ble_eq_true rfl, Nat.le_of_ble_eq_true rfl⟩) gw_spre rfl rfl hl.1 rfl (lv_room (Nat.le_of_ble_eq_true rfl)) dX1_isApplication_10 ⟨Nat.le_of_ble_eq_true rfl, Nat.le_of_ble_eq_true rfl⟩)) ?_
    refine gw_topi (y := 1) (if_pos (gw_rgp (x := x) (by decide) rfl h10)) ?_
    exact W.zret (v := 1) hx hb hr rfl (fun t ht hW => ⟨1, rfl, (if_pos h10).symm, ht⟩) (fun q h => by cases h) dX1_isApplication_13
  · skip
    refine gw_scalli (va_Run.run (va_runS (As := [.long x.toInt64, .long 0, .long (((σ 15 0) - 1).toInt64)]) (rest := []) ⟨hx, hb, hml, hown, hts⟩ (gg_inRange l x.toInt64 0 (((σ 15 0) - 1).toInt64)) (va_cwS 3 hts (lw_S q279 q280 q42 q281) rfl rfl rfl (by decide +kernel) ⟨Nat.le_of_ble_eq_true rfl, Nat.le_of_ble_eq_true rfl⟩) gw_spre rfl rfl hl.1 rfl (lv_room (Nat.le_of_ble_eq_true rfl)) dX1_isApplication_10 ⟨Nat.le_of_ble_eq_true rfl, Nat.le_of_ble_eq_true rfl⟩)) ?_
    refine gw_topi (y := 0) (if_neg (gw_rgn (x := x) (by decide) rfl h10)) ?_
    exact W.zret (v := 0) hx hb hr rfl (fun t ht hW => ⟨0, rfl, (if_neg h10).symm, ht⟩) (fun q h => by cases h) dX1_isApplication_13

set_option maxHeartbeats 4000000 in
set_option maxRecDepth 100000 in
theorem gg_isReviewer (l : Launch) (D : va_G) (ca : Nat → ClassId) (es : Nat → Nat) (A : Nat → Prop) (ad hd : Nat → Nat → Nat) (σ γ : gw_S) (ord : List Nat) (x : Int32) : Met l yX1_isReviewer (ws_ yX1_isReviewer cX1_isReviewer 2 (some .boolean)) ({ frames := 2, cells := 0, slots := 0, locals := 37 }) (va_Pc [.ref (ad 0 0), .int x] (gw_gP D ca es A ad hd σ γ ord (gw_nu σ))) (vp_Si (fun r => r = if gw_isR σ x then 1 else 0)) 0 0 (fun _ => False) := by
  refine Met.ofW (cc := cX1_isReviewer) (maxL := 2) (ret := (some .boolean)) (by decide) rfl ?_
  intro p e s m args below meth c s₁ B hml hv
  obtain ⟨rfl, hG, hK, hE, hN, hA⟩ := hv
  have hx := B.exec
  have hb := B.bytes
  have hr := B.returns
  have hts := atoms_spec (ws := ws_ yX1_isReviewer cX1_isReviewer 2 (some .boolean)) B.pre
  have hts : ∀ w ∈ lw_all, w.before _ s = true := fun w h => hts w (List.mem_cons_of_mem _ h)
  have hown : s.vm.findClass RX1 = some m.cls := findClass_of_methodNamed B.named
  have hlocks := B.notSynchronized
  have hS : va_S A s.heap s.heap [] := va_S.rf
  have hl := lv_entry ([.ref (ad 0 0), .int x]) (n := 2) (Nat.le_of_ble_eq_true rfl)
  rw [lg_entry_eq]
  generalize (lg_sl ([.ref (ad 0 0), .int x]) ++ List.replicate (2 - (lg_sl ([.ref (ad 0 0), .int x])).length) Slot.unset).toArray = ls at hl ⊢
  have hl : lv_has ls 2 [(0, .ref (ad 0 0)), (1, .int x)] := hl
  refine lv_iload_n hx hb dX1_isReviewer_0 rfl (lv_at hl 1 rfl) ?_
  refine lv_i2l (v := x.toInt64) hx hb dX1_isReviewer_1 rfl ?_
  refine lv_lconst (v := 0) hx hb dX1_isReviewer_2 (by decide) ?_
  refine lv_aload_n hx hb dX1_isReviewer_3 rfl (lv_at hl 0 rfl) ?_
  refine gw_get hx hb hts in_X1 hown hK (gw_c0 hG) rfl 19 (by decide) (hts _ q119) (v := .int (σ 25 0)) rfl dX1_isReviewer_4 ?_
  refine lv_iconst (v := 1) hx hb dX1_isReviewer_7 (by decide) ?_
  refine lv_isub hx hb dX1_isReviewer_8 ?_
  refine lv_i2l (v := ((σ 25 0) - 1).toInt64) hx hb dX1_isReviewer_9 rfl ?_
  rcases Classical.em (0 ≤ x ∧ x ≤ (σ 25 0) - 1) with h10 | h10
  · skip
    refine gw_scalli (va_Run.run (va_runS (As := [.long x.toInt64, .long 0, .long (((σ 25 0) - 1).toInt64)]) (rest := []) ⟨hx, hb, hml, hown, hts⟩ (gg_inRange l x.toInt64 0 (((σ 25 0) - 1).toInt64)) (va_cwS 3 hts (lw_S q279 q280 q42 q281) rfl rfl rfl (by decide +kernel) ⟨Nat.le_of_ble_eq_true rfl, Nat.le_of_ble_eq_true rfl⟩) gw_spre rfl rfl hl.1 rfl (lv_room (Nat.le_of_ble_eq_true rfl)) dX1_isReviewer_10 ⟨Nat.le_of_ble_eq_true rfl, Nat.le_of_ble_eq_true rfl⟩)) ?_
    refine gw_topi (y := 1) (if_pos (gw_rgp (x := x) (by decide) rfl h10)) ?_
    exact W.zret (v := 1) hx hb hr rfl (fun t ht hW => ⟨1, rfl, (if_pos h10).symm, ht⟩) (fun q h => by cases h) dX1_isReviewer_13
  · skip
    refine gw_scalli (va_Run.run (va_runS (As := [.long x.toInt64, .long 0, .long (((σ 25 0) - 1).toInt64)]) (rest := []) ⟨hx, hb, hml, hown, hts⟩ (gg_inRange l x.toInt64 0 (((σ 25 0) - 1).toInt64)) (va_cwS 3 hts (lw_S q279 q280 q42 q281) rfl rfl rfl (by decide +kernel) ⟨Nat.le_of_ble_eq_true rfl, Nat.le_of_ble_eq_true rfl⟩) gw_spre rfl rfl hl.1 rfl (lv_room (Nat.le_of_ble_eq_true rfl)) dX1_isReviewer_10 ⟨Nat.le_of_ble_eq_true rfl, Nat.le_of_ble_eq_true rfl⟩)) ?_
    refine gw_topi (y := 0) (if_neg (gw_rgn (x := x) (by decide) rfl h10)) ?_
    exact W.zret (v := 0) hx hb hr rfl (fun t ht hW => ⟨0, rfl, (if_neg h10).symm, ht⟩) (fun q h => by cases h) dX1_isReviewer_13

set_option maxHeartbeats 4000000 in
set_option maxRecDepth 100000 in
theorem gg_isOpen (l : Launch) (D : va_G) (ca : Nat → ClassId) (es : Nat → Nat) (A : Nat → Prop) (ad hd : Nat → Nat → Nat) (σ γ : gw_S) (ord : List Nat) (i : Nat) (hi : i < 6) : Met l yX1_isOpen (ws_ yX1_isOpen cX1_isOpen 2 (some .boolean)) ({ frames := 2, cells := 0, slots := 0, locals := 37 }) (va_Pc [.ref (ad 0 0), .int (nI i)] (gw_gP D ca es A ad hd σ γ ord (gw_nu σ))) (vp_Si (fun r => r = if gw_open σ i then 1 else 0)) 0 0 (fun _ => False) := by
  refine Met.ofW (cc := cX1_isOpen) (maxL := 2) (ret := (some .boolean)) (by decide) rfl ?_
  intro p e s m args below meth c s₁ B hml hv
  obtain ⟨rfl, hG, hK, hE, hN, hA⟩ := hv
  have hx := B.exec
  have hb := B.bytes
  have hr := B.returns
  have hts := atoms_spec (ws := ws_ yX1_isOpen cX1_isOpen 2 (some .boolean)) B.pre
  have hts : ∀ w ∈ lw_all, w.before _ s = true := fun w h => hts w (List.mem_cons_of_mem _ h)
  have hown : s.vm.findClass RX1 = some m.cls := findClass_of_methodNamed B.named
  have hlocks := B.notSynchronized
  have hS : va_S A s.heap s.heap [] := va_S.rf
  have hl := lv_entry ([.ref (ad 0 0), .int (nI i)]) (n := 2) (Nat.le_of_ble_eq_true rfl)
  rw [lg_entry_eq]
  generalize (lg_sl ([.ref (ad 0 0), .int (nI i)]) ++ List.replicate (2 - (lg_sl ([.ref (ad 0 0), .int (nI i)])).length) Slot.unset).toArray = ls at hl ⊢
  have hl : lv_has ls 2 [(0, .ref (ad 0 0)), (1, .int (nI i))] := hl
  refine lv_aload_n hx hb dX1_isOpen_0 rfl (lv_at hl 0 rfl) ?_
  refine gw_get hx hb hts in_X1 hown hK (gw_c0 hG) rfl 14 (by decide) (hts _ q114) (v := .int (σ 1 0)) rfl dX1_isOpen_1 ?_
  refine lv_i2l (v := (σ 1 0).toInt64) hx hb dX1_isOpen_4 rfl ?_
  refine lv_aload_n hx hb dX1_isOpen_5 rfl (lv_at hl 0 rfl) ?_
  refine gw_get hx hb hts in_X1 hown hK (gw_c0 hG) rfl 5 (by decide) (hts _ q105) (v := .ref (ad 6 1)) rfl dX1_isOpen_6 ?_
  refine lv_iload_n hx hb dX1_isOpen_9 rfl (lv_at hl 1 rfl) ?_
  refine gw_gald 1 (n := 6) (j := i) hx hb hK hG (by decide) rfl rfl (by decide) hi dX1_isOpen_10 (v := σ 9 i) rfl ?_
  refine lv_i2l (v := (σ 9 i).toInt64) hx hb dX1_isOpen_11 rfl ?_
  refine lv_aload_n hx hb dX1_isOpen_12 rfl (lv_at hl 0 rfl) ?_
  refine gw_get hx hb hts in_X1 hown hK (gw_c0 hG) rfl 6 (by decide) (hts _ q106) (v := .ref (ad 6 2)) rfl dX1_isOpen_13 ?_
  refine lv_iload_n hx hb dX1_isOpen_16 rfl (lv_at hl 1 rfl) ?_
  refine gw_gald 2 (n := 6) (j := i) hx hb hK hG (by decide) rfl rfl (by decide) hi dX1_isOpen_17 (v := σ 10 i) rfl ?_
  refine lv_i2l (v := (σ 10 i).toInt64) hx hb dX1_isOpen_18 rfl ?_
  rcases Classical.em (σ 9 i ≤ σ 1 0 ∧ σ 1 0 ≤ σ 10 i) with h19 | h19
  · skip
    refine gw_scalli (va_Run.run (va_runS (As := [.long ((σ 1 0).toInt64), .long ((σ 9 i).toInt64), .long ((σ 10 i).toInt64)]) (rest := []) ⟨hx, hb, hml, hown, hts⟩ (gg_inRange l ((σ 1 0).toInt64) ((σ 9 i).toInt64) ((σ 10 i).toInt64)) (va_cwS 3 hts (lw_S q279 q280 q42 q281) rfl rfl rfl (by decide +kernel) ⟨Nat.le_of_ble_eq_true rfl, Nat.le_of_ble_eq_true rfl⟩) gw_spre rfl rfl hl.1 rfl (lv_room (Nat.le_of_ble_eq_true rfl)) dX1_isOpen_19 ⟨Nat.le_of_ble_eq_true rfl, Nat.le_of_ble_eq_true rfl⟩)) ?_
    refine gw_topi (y := 1) (if_pos (gw_rgp (x := σ 1 0) rfl rfl h19)) ?_
    exact W.zret (v := 1) hx hb hr rfl (fun t ht hW => ⟨1, rfl, (if_pos h19).symm, ht⟩) (fun q h => by cases h) dX1_isOpen_22
  · skip
    refine gw_scalli (va_Run.run (va_runS (As := [.long ((σ 1 0).toInt64), .long ((σ 9 i).toInt64), .long ((σ 10 i).toInt64)]) (rest := []) ⟨hx, hb, hml, hown, hts⟩ (gg_inRange l ((σ 1 0).toInt64) ((σ 9 i).toInt64) ((σ 10 i).toInt64)) (va_cwS 3 hts (lw_S q279 q280 q42 q281) rfl rfl rfl (by decide +kernel) ⟨Nat.le_of_ble_eq_true rfl, Nat.le_of_ble_eq_true rfl⟩) gw_spre rfl rfl hl.1 rfl (lv_room (Nat.le_of_ble_eq_true rfl)) dX1_isOpen_19 ⟨Nat.le_of_ble_eq_true rfl, Nat.le_of_ble_eq_true rfl⟩)) ?_
    refine gw_topi (y := 0) (if_neg (gw_rgn (x := σ 1 0) rfl rfl h19)) ?_
    exact W.zret (v := 0) hx hb hr rfl (fun t ht hW => ⟨0, rfl, (if_neg h19).symm, ht⟩) (fun q h => by cases h) dX1_isOpen_22

set_option maxHeartbeats 4000000 in
set_option maxRecDepth 100000 in
theorem gg_free (l : Launch) (D : va_G) (ca : Nat → ClassId) (es : Nat → Nat) (A : Nat → Prop) (ad hd : Nat → Nat → Nat) (σ γ : gw_S) (ord : List Nat) (j : Nat) (hj : j ∈ ord) : Met l yX5_free (ws_ yX5_free cX5_free 1 (some .int)) ({ frames := 1, cells := 0, slots := 0, locals := 12 }) (va_Pc [.ref (hd 11 j)] (gw_gP D ca es A ad hd σ γ ord (gw_nu σ))) (vp_Si (fun r => r = ((σ 4 j) - (σ 5 j)) - (σ 6 j))) 0 0 (fun _ => False) := by
  refine Met.ofW (cc := cX5_free) (maxL := 1) (ret := (some .int)) (by decide) rfl ?_
  intro p e s m args below meth c s₁ B hml hv
  obtain ⟨rfl, hG, hK, hE, hN, hA⟩ := hv
  have hx := B.exec
  have hb := B.bytes
  have hr := B.returns
  have hts := atoms_spec (ws := ws_ yX5_free cX5_free 1 (some .int)) B.pre
  have hts : ∀ w ∈ lw_all, w.before _ s = true := fun w h => hts w (List.mem_cons_of_mem _ h)
  have hown : s.vm.findClass RX5 = some m.cls := findClass_of_methodNamed B.named
  have hlocks := B.notSynchronized
  have hS : va_S A s.heap s.heap [] := va_S.rf
  have hl := lv_entry ([.ref (hd 11 j)]) (n := 1) (Nat.le_of_ble_eq_true rfl)
  rw [lg_entry_eq]
  generalize (lg_sl ([.ref (hd 11 j)]) ++ List.replicate (1 - (lg_sl ([.ref (hd 11 j)])).length) Slot.unset).toArray = ls at hl ⊢
  have hl : lv_has ls 1 [(0, .ref (hd 11 j))] := hl
  refine lv_aload_n hx hb dX5_free_0 rfl (lv_at hl 0 rfl) ?_
  refine gw_get hx hb hts in_X5 hown hK (gw_c11 hG (j := j) hj) rfl 4 (by decide) (hts _ q393) (v := .int (σ 4 j)) rfl dX5_free_1 ?_
  refine lv_aload_n hx hb dX5_free_4 rfl (lv_at hl 0 rfl) ?_
  refine gw_get hx hb hts in_X5 hown hK (gw_c11 hG (j := j) hj) rfl 5 (by decide) (hts _ q395) (v := .int (σ 5 j)) rfl dX5_free_5 ?_
  refine lv_isub hx hb dX5_free_8 ?_
  refine lv_aload_n hx hb dX5_free_9 rfl (lv_at hl 0 rfl) ?_
  refine gw_get hx hb hts in_X5 hown hK (gw_c11 hG (j := j) hj) rfl 6 (by decide) (hts _ q397) (v := .int (σ 6 j)) rfl dX5_free_10 ?_
  refine lv_isub hx hb dX5_free_13 ?_
  exact W.iret (v := ((σ 4 j) - (σ 5 j)) - (σ 6 j)) hx hb hr (fun t ht hW => ⟨(((σ 4 j) - (σ 5 j)) - (σ 6 j)), rfl, rfl, ht⟩) (fun q h => by cases h) dX5_free_14

set_option maxHeartbeats 4000000 in
set_option maxRecDepth 100000 in
theorem gg_hashCode (l : Launch) (D : va_G) (ca : Nat → ClassId) (es : Nat → Nat) (A : Nat → Prop) (ad hd : Nat → Nat → Nat) (σ γ : gw_S) (ord : List Nat) (j : Nat) (hj : j < 48) (hkj : ¬ γ 8 j = 0) : Met l yX4_hashCode (ws_ yX4_hashCode cX4_hashCode 1 (some .int)) ({ frames := 1, cells := 0, slots := 0, locals := 12 }) (va_Pc [.ref (hd 10 j)] (gw_gP D ca es A ad hd σ γ ord (gw_nu σ))) (vp_Si (fun r => r = nI ((7 * (j % 12)) + (31 * (j / 12))))) 0 0 (fun _ => False) := by
  refine Met.ofW (cc := cX4_hashCode) (maxL := 1) (ret := (some .int)) (by decide) rfl ?_
  intro p e s m args below meth c s₁ B hml hv
  obtain ⟨rfl, hG, hK, hE, hN, hA⟩ := hv
  have hx := B.exec
  have hb := B.bytes
  have hr := B.returns
  have hts := atoms_spec (ws := ws_ yX4_hashCode cX4_hashCode 1 (some .int)) B.pre
  have hts : ∀ w ∈ lw_all, w.before _ s = true := fun w h => hts w (List.mem_cons_of_mem _ h)
  have hown : s.vm.findClass RX4 = some m.cls := findClass_of_methodNamed B.named
  have hlocks := B.notSynchronized
  have hS : va_S A s.heap s.heap [] := va_S.rf
  have hl := lv_entry ([.ref (hd 10 j)]) (n := 1) (Nat.le_of_ble_eq_true rfl)
  rw [lg_entry_eq]
  generalize (lg_sl ([.ref (hd 10 j)]) ++ List.replicate (1 - (lg_sl ([.ref (hd 10 j)])).length) Slot.unset).toArray = ls at hl ⊢
  have hl : lv_has ls 1 [(0, .ref (hd 10 j))] := hl
  refine lv_bipush (v := 7) hx hb dX4_hashCode_0 (by decide) ?_
  refine lv_aload_n hx hb dX4_hashCode_2 rfl (lv_at hl 0 rfl) ?_
  refine gw_get hx hb hts in_X4 hown hK (gw_c10 hG (j := j) hj hkj) rfl 1 (by decide) (hts _ q217) (v := .int (nI (j % 12))) rfl dX4_hashCode_3 ?_
  refine lv_imul hx hb dX4_hashCode_6 ?_
  refine gw_topi (y := nI (7 * (j % 12))) (by simp only [gw_lit7, nI_add, pk_mul]) ?_
  refine lv_bipush (v := 31) hx hb dX4_hashCode_7 (by decide) ?_
  refine lv_aload_n hx hb dX4_hashCode_9 rfl (lv_at hl 0 rfl) ?_
  refine gw_get hx hb hts in_X4 hown hK (gw_c10 hG (j := j) hj hkj) rfl 0 (by decide) (hts _ q215) (v := .int (nI (j / 12))) rfl dX4_hashCode_10 ?_
  refine lv_imul hx hb dX4_hashCode_13 ?_
  refine gw_topi (y := nI (31 * (j / 12))) (by simp only [gw_lit31, nI_add, pk_mul]) ?_
  refine lv_iadd hx hb dX4_hashCode_14 ?_
  refine gw_topi (y := nI ((7 * (j % 12)) + (31 * (j / 12)))) (by simp only [nI_add, pk_mul]) ?_
  exact W.iret (v := nI ((7 * (j % 12)) + (31 * (j / 12)))) hx hb hr (fun t ht hW => ⟨(nI ((7 * (j % 12)) + (31 * (j / 12)))), rfl, rfl, ht⟩) (fun q h => by cases h) dX4_hashCode_15

set_option maxHeartbeats 4000000 in
set_option maxRecDepth 100000 in
theorem gg_equals (l : Launch) (D : va_G) (ca : Nat → ClassId) (es : Nat → Nat) (A : Nat → Prop) (ad hd : Nat → Nat → Nat) (σ γ : gw_S) (ord : List Nat) (i j : Nat) (hi : i < 48) (hki : ¬ γ 8 i = 0) (hj : j < 48) (hkj : ¬ γ 8 j = 0) : Met l yX4_equals (ws_ yX4_equals cX4_equals 3 (some .boolean)) ({ frames := 1, cells := 0, slots := 0, locals := 12 }) (va_Pc [.ref (hd 10 i), .ref (hd 10 j)] (gw_gP D ca es A ad hd σ γ ord (gw_nu σ))) (vp_Si (fun r => r = if i = j then 1 else 0)) 0 0 (fun _ => False) := by
  refine Met.ofW (cc := cX4_equals) (maxL := 3) (ret := (some .boolean)) (by decide) rfl ?_
  intro p e s m args below meth c s₁ B hml hv
  obtain ⟨rfl, hG, hK, hE, hN, hA⟩ := hv
  have hx := B.exec
  have hb := B.bytes
  have hr := B.returns
  have hts := atoms_spec (ws := ws_ yX4_equals cX4_equals 3 (some .boolean)) B.pre
  have hts : ∀ w ∈ lw_all, w.before _ s = true := fun w h => hts w (List.mem_cons_of_mem _ h)
  have hown : s.vm.findClass RX4 = some m.cls := findClass_of_methodNamed B.named
  have hlocks := B.notSynchronized
  have hS : va_S A s.heap s.heap [] := va_S.rf
  have hl := lv_entry ([.ref (hd 10 i), .ref (hd 10 j)]) (n := 3) (Nat.le_of_ble_eq_true rfl)
  rw [lg_entry_eq]
  generalize (lg_sl ([.ref (hd 10 i), .ref (hd 10 j)]) ++ List.replicate (3 - (lg_sl ([.ref (hd 10 i), .ref (hd 10 j)])).length) Slot.unset).toArray = ls at hl ⊢
  have hl : lv_has ls 3 [(0, .ref (hd 10 i)), (1, .ref (hd 10 j))] := hl
  refine lv_aload_n hx hb dX4_equals_0 rfl (lv_at hl 1 rfl) ?_
  refine va_instS hx hb hown (hts _ q236) (hK.1 3 _ rfl).2 (va_recv hK (gw_P1 (gw_c10 hG (j := j) hj hkj)) (q0 := 0) (ci := 3) rfl rfl) dX4_equals_1 ?_
  refine lv_if_eq (tgt := 38) hx hb dX4_equals_4 (by decide) (fun c_ => absurd c_ (by decide)) (fun _ => ?_)
  refine lv_aload_n hx hb dX4_equals_7 rfl (lv_at hl 1 rfl) ?_
  refine va_castS hx hb hown (hts _ q236) (hK.1 3 _ rfl).2 (va_recv hK (gw_P1 (gw_c10 hG (j := j) hj hkj)) (q0 := 0) (ci := 3) rfl rfl) dX4_equals_8 ?_
  refine lv_astore_n (lv' := [(2, .ref (hd 10 j)), (0, .ref (hd 10 i)), (1, .ref (hd 10 j))]) hx hb dX4_equals_11 rfl hl (by decide) rfl (fun ls hl => ?_)
  refine lv_aload_n hx hb dX4_equals_12 rfl (lv_at hl 0 rfl) ?_
  refine gw_get hx hb hts in_X4 hown hK (gw_c10 hG (j := j) hj hkj) rfl 0 (by decide) (hts _ q215) (v := .int (nI (j / 12))) rfl dX4_equals_13 ?_
  refine lv_aload_n hx hb dX4_equals_16 rfl (lv_at hl 1 rfl) ?_
  refine gw_get hx hb hts in_X4 hown hK (gw_c10 hG (j := i) hi hki) rfl 0 (by decide) (hts _ q215) (v := .int (nI (i / 12))) rfl dX4_equals_17 ?_
  refine lv_icmp_ne (tgt := 38) hx hb dX4_equals_20 (by decide) (fun c20 => ?_) (fun c20 => ?_)
  · skip
    refine lv_iconst (v := 0) hx hb dX4_equals_38 (by decide) ?_
    exact W.zret (v := 0) hx hb hr rfl (fun t ht hW => ⟨0, rfl, (if_neg (fun z => c20 (by rw [z]))).symm, ht⟩) (fun q h => by cases h) dX4_equals_39
  · skip
    refine lv_aload_n hx hb dX4_equals_23 rfl (lv_at hl 0 rfl) ?_
    refine gw_get hx hb hts in_X4 hown hK (gw_c10 hG (j := j) hj hkj) rfl 1 (by decide) (hts _ q217) (v := .int (nI (j % 12))) rfl dX4_equals_24 ?_
    refine lv_aload_n hx hb dX4_equals_27 rfl (lv_at hl 1 rfl) ?_
    refine gw_get hx hb hts in_X4 hown hK (gw_c10 hG (j := i) hi hki) rfl 1 (by decide) (hts _ q217) (v := .int (nI (i % 12))) rfl dX4_equals_28 ?_
    refine lv_icmp_ne (tgt := 38) hx hb dX4_equals_31 (by decide) (fun c31 => ?_) (fun c31 => ?_)
    · skip
      refine lv_iconst (v := 0) hx hb dX4_equals_38 (by decide) ?_
      exact W.zret (v := 0) hx hb hr rfl (fun t ht hW => ⟨0, rfl, (if_neg (fun z => c31 (by rw [z]))).symm, ht⟩) (fun q h => by cases h) dX4_equals_39
    · skip
      refine lv_iconst (v := 1) hx hb dX4_equals_34 (by decide) ?_
      refine lv_goto (tgt := 39) hx hb dX4_equals_35 (by decide) ?_
      exact W.zret (v := 1) hx hb hr rfl (fun t ht hW => ⟨1, rfl, (if_pos (((gw_k_eq hj hi).mp ⟨c20, c31⟩).symm)).symm, ht⟩) (fun q h => by cases h) dX4_equals_39

set_option maxHeartbeats 4000000 in
set_option maxRecDepth 100000 in
theorem gg_get (l : Launch) (D : va_G) (ca : Nat → ClassId) (es : Nat → Nat) (A : Nat → Prop) (ad hd : Nat → Nat → Nat) (σ γ : gw_S) (ord : List Nat) (j : Nat) (hj : j < 48) (hkj : ¬ γ 8 j = 0) (hKo : gw_Ko γ ord) : Met l yX2_get (ws_ yX2_get cX2_get 3 (some (.object "Grantworks$Account"))) ({ frames := 2, cells := 0, slots := 0, locals := 34 }) (va_Pc [.ref (ad 1 0), .ref (hd 10 j)] (gw_gP D ca es A ad hd σ γ ord (gw_nu σ))) (va_Sq (fun r => r = if j ∈ ord then some (hd 11 j) else none)) 0 0 (fun _ => False) := by
  refine Met.ofW (cc := cX2_get) (maxL := 3) (ret := (some (.object "Grantworks$Account"))) (by decide) rfl ?_
  intro p e s m args below meth c s₁ B hml hv
  obtain ⟨rfl, hG, hK, hE, hN, hA⟩ := hv
  have hx := B.exec
  have hb := B.bytes
  have hr := B.returns
  have hts := atoms_spec (ws := ws_ yX2_get cX2_get 3 (some (.object "Grantworks$Account"))) B.pre
  have hts : ∀ w ∈ lw_all, w.before _ s = true := fun w h => hts w (List.mem_cons_of_mem _ h)
  have hown : s.vm.findClass RX2 = some m.cls := findClass_of_methodNamed B.named
  have hlocks := B.notSynchronized
  have hS : va_S A s.heap s.heap [] := va_S.rf
  have hl := lv_entry ([.ref (ad 1 0), .ref (hd 10 j)]) (n := 3) (Nat.le_of_ble_eq_true rfl)
  rw [lg_entry_eq]
  generalize (lg_sl ([.ref (ad 1 0), .ref (hd 10 j)]) ++ List.replicate (3 - (lg_sl ([.ref (ad 1 0), .ref (hd 10 j)])).length) Slot.unset).toArray = ls at hl ⊢
  have hl : lv_has ls 3 [(0, .ref (ad 1 0)), (1, .ref (hd 10 j))] := hl
  refine lv_aload_n hx hb dX2_get_0 rfl (lv_at hl 0 rfl) ?_
  refine gw_get hx hb hts in_X2 hown hK (gw_c1 hG) rfl 0 (by decide) (hts _ q80) (v := .ref (ad 4 0)) rfl dX2_get_1 ?_
  refine lv_aload_n hx hb dX2_get_4 rfl (lv_at hl 1 rfl) ?_
  refine gw_scalli (va_Run.run (va_runV (As := []) (rest := [.ref (ad 4 0)]) ⟨hx, hb, hml, hown, hts⟩ (gg_hashCode l D ca es A ad hd σ γ ord j hj hkj) (cwV 0 hts (lw_V q228 q229 q230 q49 q231) rfl rfl rfl (by decide +kernel) ⟨Nat.le_of_ble_eq_true rfl, Nat.le_of_ble_eq_true rfl⟩) (gw_grecv [] gw_gPb (gw_c10 hG (j := j) hj hkj) rfl hK (fun U hU hW => gw_gat hU hW hG hK hE hN hA hS)) rfl rfl hl.1 rfl (lv_room (Nat.le_of_ble_eq_true rfl)) dX2_get_5 ⟨Nat.le_of_ble_eq_true rfl, Nat.le_of_ble_eq_true rfl⟩)) ?_
  refine lv_aload_n hx hb dX2_get_8 rfl (lv_at hl 0 rfl) ?_
  refine gw_get hx hb hts in_X2 hown hK (gw_c1 hG) rfl 0 (by decide) (hts _ q80) (v := .ref (ad 4 0)) rfl dX2_get_9 ?_
  refine gw_alen (n := 16) hx hb hK rfl (gw_c4 hG) dX2_get_12 (v := 16) rfl ?_
  refine lv_irem hx hb dX2_get_13 (by decide) ?_
  refine gw_topi (y := nI (gw_hs j)) (gw_hs_rem hj) ?_
  refine gw_qld (i := gw_hs j) hx hb hK rfl (gw_c4 hG) (by decide) (gw_hs16 j) dX2_get_14 (v := va_rf ((gw_bk ord (gw_hs j)).head?.map (hd 11))) rfl ?_
  refine gw_astore_n (lv' := [(2, va_rf ((gw_bk ord (gw_hs j)).head?.map (hd 11))), (0, .ref (ad 1 0)), (1, .ref (hd 10 j))]) hx hb dX2_get_15 rfl hl (by decide) rfl (fun ls hl => ?_)
  have lp16 : ∀ (n16 : Nat) (L : List Nat) (pre : List Nat), (L.length = n16) → (gw_bk ord (gw_hs j) = pre ++ L) → (¬ j ∈ pre) → ∀ ls : Array Slot, lv_has ls 3 [(0, .ref (ad 1 0)), (1, .ref (hd 10 j)), (2, va_rf (L.head?.map (hd 11)))] → W p l e (headSpec (ws_ yX2_get cX2_get 3 (some (.object "Grantworks$Account"))) ({ frames := 2, cells := 0, slots := 0, locals := 34 })).room s m ([.ref (ad 1 0), .ref (hd 10 j)] : List Value).toArray below meth c s.heap [] 0 0 (MQ below (va_Sq (fun r => r = if j ∈ ord then some (hd 11 j) else none)) ([.ref (ad 1 0), .ref (hd 10 j)] : List Value).toArray s 0 0 (fun _ => False)) (F0 m 16 ls []) := by
    intro n16
    induction n16 with
    | zero =>
      intro L pre hn hR hp ls hl
      obtain rfl : L = [] := List.length_eq_zero_iff.mp hn
      have hl : lv_has ls 3 [(0, .ref (ad 1 0)), (1, .ref (hd 10 j)), (2, .null)] := hl
      refine lv_aload_nN hx hb dX2_get_16 rfl (lv_at hl 2 rfl) ?_
      refine lv_ifnullN (tgt := 39) hx hb dX2_get_17 (by decide) ?_
      refine lv_aload_nN hx hb dX2_get_39 rfl (lv_at hl 2 rfl) ?_
      exact W.aret (v := va_rf (none)) hx hb hr (.inl ⟨_, rfl⟩) (va_rf_or _) (fun t ht hW => ⟨none, rfl, (if_neg (fun z => hp (by have q := (gw_bk_mem (k := gw_hs j)).mpr ⟨z, rfl⟩; rw [hR] at q; simpa using q))).symm, ht⟩) (fun q h => by cases h) dX2_get_40
    | succ n16 ih16 =>
      intro L pre hn hR hp ls hl
      obtain ⟨i, L1, rfl⟩ : ∃ i L1, L = i :: L1 := by cases L with | nil => cases hn | cons i L1 => exact ⟨i, L1, rfl⟩
      have hi := gw_bk_i hR
      have hl : lv_has ls 3 [(0, .ref (ad 1 0)), (1, .ref (hd 10 j)), (2, .ref (hd 11 i))] := hl
      refine lv_aload_n hx hb dX2_get_16 rfl (lv_at hl 2 rfl) ?_
      refine lv_ifnull hx hb dX2_get_17 ?_
      refine lv_aload_n hx hb dX2_get_20 rfl (lv_at hl 2 rfl) ?_
      refine gw_getN hx hb hts in_X5 hown hK (gw_c11 hG (j := i) hi) rfl 0 (by decide) (hN.1 _ q386 rfl) (v := .ref (hd 10 i)) rfl dX2_get_21 ?_
      refine lv_aload_n hx hb dX2_get_24 rfl (lv_at hl 1 rfl) ?_
      rcases Classical.em (i = j) with h25 | h25
      · skip
        refine gw_scalli (va_Run.run (va_runV (As := [.ref (hd 10 j)]) (rest := []) ⟨hx, hb, hml, hown, hts⟩ (gg_equals l D ca es A ad hd σ γ ord i j (hKo.2 _ hi).1 (hKo.2 _ hi).2 hj hkj) (cwV 1 hts (lw_V q232 q233 q234 q49 q235) rfl rfl rfl (by decide +kernel) ⟨Nat.le_of_ble_eq_true rfl, Nat.le_of_ble_eq_true rfl⟩) (gw_grecv [.ref (hd 10 j)] gw_gPb (gw_c10 hG (j := i) (hKo.2 _ hi).1 (hKo.2 _ hi).2) rfl hK (fun U hU hW => gw_gat hU hW hG hK hE hN hA hS)) rfl rfl hl.1 rfl (lv_room (Nat.le_of_ble_eq_true rfl)) dX2_get_25 ⟨Nat.le_of_ble_eq_true rfl, Nat.le_of_ble_eq_true rfl⟩)) ?_
        refine gw_topi (y := 1) (if_pos h25) ?_
        refine lv_if_ne (tgt := 39) hx hb dX2_get_28 (by decide) (fun _ => ?_) (fun c_ => absurd c_ (by decide))
        refine lv_aload_n hx hb dX2_get_39 rfl (lv_at hl 2 rfl) ?_
        exact W.aret (v := va_rf (some (hd 11 i))) hx hb hr (.inl ⟨_, rfl⟩) (va_rf_or _) (fun t ht hW => ⟨(some (hd 11 i)), rfl, (by subst h25; exact (if_pos hi).symm), ht⟩) (fun q h => by cases h) dX2_get_40
      · skip
        refine gw_scalli (va_Run.run (va_runV (As := [.ref (hd 10 j)]) (rest := []) ⟨hx, hb, hml, hown, hts⟩ (gg_equals l D ca es A ad hd σ γ ord i j (hKo.2 _ hi).1 (hKo.2 _ hi).2 hj hkj) (cwV 1 hts (lw_V q232 q233 q234 q49 q235) rfl rfl rfl (by decide +kernel) ⟨Nat.le_of_ble_eq_true rfl, Nat.le_of_ble_eq_true rfl⟩) (gw_grecv [.ref (hd 10 j)] gw_gPb (gw_c10 hG (j := i) (hKo.2 _ hi).1 (hKo.2 _ hi).2) rfl hK (fun U hU hW => gw_gat hU hW hG hK hE hN hA hS)) rfl rfl hl.1 rfl (lv_room (Nat.le_of_ble_eq_true rfl)) dX2_get_25 ⟨Nat.le_of_ble_eq_true rfl, Nat.le_of_ble_eq_true rfl⟩)) ?_
        refine gw_topi (y := 0) (if_neg h25) ?_
        refine lv_if_ne (tgt := 39) hx hb dX2_get_28 (by decide) (fun c_ => absurd c_ (by decide)) (fun _ => ?_)
        refine lv_aload_n hx hb dX2_get_31 rfl (lv_at hl 2 rfl) ?_
        refine gw_getN hx hb hts in_X5 hown hK (gw_c11 hG (j := i) hi) rfl 3 (by decide) (hN.1 _ q392 rfl) (v := va_rf ((gw_ns ord i).map (hd 11))) rfl dX2_get_32 ?_
        refine gw_astore_n (lv' := [(2, va_rf ((gw_ns ord i).map (hd 11))), (0, .ref (ad 1 0)), (1, .ref (hd 10 j))]) hx hb dX2_get_35 rfl hl (by decide) rfl (fun ls hl => ?_)
        refine lv_goto (tgt := 16) hx hb dX2_get_36 (by decide) ?_
        have e9 := gw_ns_at hKo.1 hR
        rw [e9] at hl
        exact ih16 L1 (pre ++ [i]) (by simpa using hn) (by rw [hR]; simp) (by simp only [List.mem_append, List.mem_singleton, not_or]; exact ⟨hp, fun z => h25 z.symm⟩) ls (lv_sub hl [1, 2, 0] rfl)
  exact lp16 ((gw_bk ord (gw_hs j)).length) (gw_bk ord (gw_hs j)) ([]) rfl rfl (by simp) ls (lv_sub hl [1, 2, 0] rfl)

set_option maxHeartbeats 4000000 in
set_option maxRecDepth 100000 in
theorem gg_kindOf0 (l : Launch) (D : va_G) (ca : Nat → ClassId) (es : Nat → Nat) (A : Nat → Prop) (ad hd : Nat → Nat → Nat) (σ γ : gw_S) (ord : List Nat) (j : Nat) (hj : j < gw_n σ 31) (hk : σ 32 j = 0) : Met l yX1_kindOf (ws_ yX1_kindOf cX1_kindOf 1 (some .int)) ({ frames := 1, cells := 0, slots := 0, locals := 12 }) (va_Pc [.ref (hd 15 j)] (gw_gP D ca es A ad hd σ γ ord (gw_nu σ))) (vp_Si (fun r => r = σ 32 j)) 0 0 (fun _ => False) := by
  refine Met.ofW (cc := cX1_kindOf) (maxL := 1) (ret := (some .int)) (by decide) rfl ?_
  intro p e s m args below meth c s₁ B hml hv
  obtain ⟨rfl, hG, hK, hE, hN, hA⟩ := hv
  have hx := B.exec
  have hb := B.bytes
  have hr := B.returns
  have hts := atoms_spec (ws := ws_ yX1_kindOf cX1_kindOf 1 (some .int)) B.pre
  have hts : ∀ w ∈ lw_all, w.before _ s = true := fun w h => hts w (List.mem_cons_of_mem _ h)
  have hown : s.vm.findClass RX1 = some m.cls := findClass_of_methodNamed B.named
  have hlocks := B.notSynchronized
  have hS : va_S A s.heap s.heap [] := va_S.rf
  have hl := lv_entry ([.ref (hd 15 j)]) (n := 1) (Nat.le_of_ble_eq_true rfl)
  rw [lg_entry_eq]
  generalize (lg_sl ([.ref (hd 15 j)]) ++ List.replicate (1 - (lg_sl ([.ref (hd 15 j)])).length) Slot.unset).toArray = ls at hl ⊢
  have hl : lv_has ls 1 [(0, .ref (hd 15 j))] := hl
  refine lv_aload_n hx hb dX1_kindOf_0 rfl (lv_at hl 0 rfl) ?_
  refine va_instS hx hb hown (hts _ q186) (hK.1 5 _ rfl).2 (va_recv hK (gw_P1 (gw_e0 hG (j := j) hj hk)) (q0 := 0) (ci := 5) rfl rfl) dX1_kindOf_1 ?_
  refine lv_if_eq (tgt := 11) hx hb dX1_kindOf_4 (by decide) (fun c_ => absurd c_ (by decide)) (fun _ => ?_)
  refine lv_iconst (v := 0) hx hb dX1_kindOf_7 (by decide) ?_
  refine lv_goto (tgt := 34) hx hb dX1_kindOf_8 (by decide) ?_
  exact W.iret (v := 0) hx hb hr (fun t ht hW => ⟨0, rfl, hk.symm, ht⟩) (fun q h => by cases h) dX1_kindOf_34

set_option maxHeartbeats 4000000 in
set_option maxRecDepth 100000 in
theorem gg_kindOf1 (l : Launch) (D : va_G) (ca : Nat → ClassId) (es : Nat → Nat) (A : Nat → Prop) (ad hd : Nat → Nat → Nat) (σ γ : gw_S) (ord : List Nat) (j : Nat) (hj : j < gw_n σ 31) (hk : σ 32 j = 1) : Met l yX1_kindOf (ws_ yX1_kindOf cX1_kindOf 1 (some .int)) ({ frames := 1, cells := 0, slots := 0, locals := 12 }) (va_Pc [.ref (hd 15 j)] (gw_gP D ca es A ad hd σ γ ord (gw_nu σ))) (vp_Si (fun r => r = σ 32 j)) 0 0 (fun _ => False) := by
  refine Met.ofW (cc := cX1_kindOf) (maxL := 1) (ret := (some .int)) (by decide) rfl ?_
  intro p e s m args below meth c s₁ B hml hv
  obtain ⟨rfl, hG, hK, hE, hN, hA⟩ := hv
  have hx := B.exec
  have hb := B.bytes
  have hr := B.returns
  have hts := atoms_spec (ws := ws_ yX1_kindOf cX1_kindOf 1 (some .int)) B.pre
  have hts : ∀ w ∈ lw_all, w.before _ s = true := fun w h => hts w (List.mem_cons_of_mem _ h)
  have hown : s.vm.findClass RX1 = some m.cls := findClass_of_methodNamed B.named
  have hlocks := B.notSynchronized
  have hS : va_S A s.heap s.heap [] := va_S.rf
  have hl := lv_entry ([.ref (hd 15 j)]) (n := 1) (Nat.le_of_ble_eq_true rfl)
  rw [lg_entry_eq]
  generalize (lg_sl ([.ref (hd 15 j)]) ++ List.replicate (1 - (lg_sl ([.ref (hd 15 j)])).length) Slot.unset).toArray = ls at hl ⊢
  have hl : lv_has ls 1 [(0, .ref (hd 15 j))] := hl
  refine lv_aload_n hx hb dX1_kindOf_0 rfl (lv_at hl 0 rfl) ?_
  refine va_instNo hx hb hown (hts _ q186) hN.2.2.2.2.1 (va_recv hK (gw_P1 (gw_e1 hG (j := j) hj hk)) (q0 := 0) (ci := 6) rfl rfl) dX1_kindOf_1 ?_
  refine lv_if_eq (tgt := 11) hx hb dX1_kindOf_4 (by decide) (fun _ => ?_) (fun c_ => absurd c_ (by decide))
  refine lv_aload_n hx hb dX1_kindOf_11 rfl (lv_at hl 0 rfl) ?_
  refine va_instS hx hb hown (hts _ q187) (hK.1 6 _ rfl).2 (va_recv hK (gw_P1 (gw_e1 hG (j := j) hj hk)) (q0 := 0) (ci := 6) rfl rfl) dX1_kindOf_12 ?_
  refine lv_if_eq (tgt := 22) hx hb dX1_kindOf_15 (by decide) (fun c_ => absurd c_ (by decide)) (fun _ => ?_)
  refine lv_iconst (v := 1) hx hb dX1_kindOf_18 (by decide) ?_
  refine lv_goto (tgt := 34) hx hb dX1_kindOf_19 (by decide) ?_
  exact W.iret (v := 1) hx hb hr (fun t ht hW => ⟨1, rfl, hk.symm, ht⟩) (fun q h => by cases h) dX1_kindOf_34

set_option maxHeartbeats 4000000 in
set_option maxRecDepth 100000 in
theorem gg_kindOf2 (l : Launch) (D : va_G) (ca : Nat → ClassId) (es : Nat → Nat) (A : Nat → Prop) (ad hd : Nat → Nat → Nat) (σ γ : gw_S) (ord : List Nat) (j : Nat) (hj : j < gw_n σ 31) (hk : σ 32 j = 2) : Met l yX1_kindOf (ws_ yX1_kindOf cX1_kindOf 1 (some .int)) ({ frames := 1, cells := 0, slots := 0, locals := 12 }) (va_Pc [.ref (hd 15 j)] (gw_gP D ca es A ad hd σ γ ord (gw_nu σ))) (vp_Si (fun r => r = σ 32 j)) 0 0 (fun _ => False) := by
  refine Met.ofW (cc := cX1_kindOf) (maxL := 1) (ret := (some .int)) (by decide) rfl ?_
  intro p e s m args below meth c s₁ B hml hv
  obtain ⟨rfl, hG, hK, hE, hN, hA⟩ := hv
  have hx := B.exec
  have hb := B.bytes
  have hr := B.returns
  have hts := atoms_spec (ws := ws_ yX1_kindOf cX1_kindOf 1 (some .int)) B.pre
  have hts : ∀ w ∈ lw_all, w.before _ s = true := fun w h => hts w (List.mem_cons_of_mem _ h)
  have hown : s.vm.findClass RX1 = some m.cls := findClass_of_methodNamed B.named
  have hlocks := B.notSynchronized
  have hS : va_S A s.heap s.heap [] := va_S.rf
  have hl := lv_entry ([.ref (hd 15 j)]) (n := 1) (Nat.le_of_ble_eq_true rfl)
  rw [lg_entry_eq]
  generalize (lg_sl ([.ref (hd 15 j)]) ++ List.replicate (1 - (lg_sl ([.ref (hd 15 j)])).length) Slot.unset).toArray = ls at hl ⊢
  have hl : lv_has ls 1 [(0, .ref (hd 15 j))] := hl
  refine lv_aload_n hx hb dX1_kindOf_0 rfl (lv_at hl 0 rfl) ?_
  refine va_instNo hx hb hown (hts _ q186) hN.2.2.2.2.2.2.2.1 (va_recv hK (gw_P1 (gw_e2 hG (j := j) hj hk)) (q0 := 0) (ci := 8) rfl rfl) dX1_kindOf_1 ?_
  refine lv_if_eq (tgt := 11) hx hb dX1_kindOf_4 (by decide) (fun _ => ?_) (fun c_ => absurd c_ (by decide))
  refine lv_aload_n hx hb dX1_kindOf_11 rfl (lv_at hl 0 rfl) ?_
  refine va_instNo hx hb hown (hts _ q187) hN.2.2.2.2.2.2.2.2.1 (va_recv hK (gw_P1 (gw_e2 hG (j := j) hj hk)) (q0 := 0) (ci := 8) rfl rfl) dX1_kindOf_12 ?_
  refine lv_if_eq (tgt := 22) hx hb dX1_kindOf_15 (by decide) (fun _ => ?_) (fun c_ => absurd c_ (by decide))
  refine lv_aload_n hx hb dX1_kindOf_22 rfl (lv_at hl 0 rfl) ?_
  refine va_instS hx hb hown (hts _ q188) (hK.1 8 _ rfl).2 (va_recv hK (gw_P1 (gw_e2 hG (j := j) hj hk)) (q0 := 0) (ci := 8) rfl rfl) dX1_kindOf_23 ?_
  refine lv_if_eq (tgt := 33) hx hb dX1_kindOf_26 (by decide) (fun c_ => absurd c_ (by decide)) (fun _ => ?_)
  refine lv_iconst (v := 2) hx hb dX1_kindOf_29 (by decide) ?_
  refine lv_goto (tgt := 34) hx hb dX1_kindOf_30 (by decide) ?_
  exact W.iret (v := 2) hx hb hr (fun t ht hW => ⟨2, rfl, hk.symm, ht⟩) (fun q h => by cases h) dX1_kindOf_34

set_option maxHeartbeats 4000000 in
set_option maxRecDepth 100000 in
theorem gg_kindOf3 (l : Launch) (D : va_G) (ca : Nat → ClassId) (es : Nat → Nat) (A : Nat → Prop) (ad hd : Nat → Nat → Nat) (σ γ : gw_S) (ord : List Nat) (j : Nat) (hj : j < gw_n σ 31) (hk : σ 32 j = 3) : Met l yX1_kindOf (ws_ yX1_kindOf cX1_kindOf 1 (some .int)) ({ frames := 1, cells := 0, slots := 0, locals := 12 }) (va_Pc [.ref (hd 15 j)] (gw_gP D ca es A ad hd σ γ ord (gw_nu σ))) (vp_Si (fun r => r = σ 32 j)) 0 0 (fun _ => False) := by
  refine Met.ofW (cc := cX1_kindOf) (maxL := 1) (ret := (some .int)) (by decide) rfl ?_
  intro p e s m args below meth c s₁ B hml hv
  obtain ⟨rfl, hG, hK, hE, hN, hA⟩ := hv
  have hx := B.exec
  have hb := B.bytes
  have hr := B.returns
  have hts := atoms_spec (ws := ws_ yX1_kindOf cX1_kindOf 1 (some .int)) B.pre
  have hts : ∀ w ∈ lw_all, w.before _ s = true := fun w h => hts w (List.mem_cons_of_mem _ h)
  have hown : s.vm.findClass RX1 = some m.cls := findClass_of_methodNamed B.named
  have hlocks := B.notSynchronized
  have hS : va_S A s.heap s.heap [] := va_S.rf
  have hl := lv_entry ([.ref (hd 15 j)]) (n := 1) (Nat.le_of_ble_eq_true rfl)
  rw [lg_entry_eq]
  generalize (lg_sl ([.ref (hd 15 j)]) ++ List.replicate (1 - (lg_sl ([.ref (hd 15 j)])).length) Slot.unset).toArray = ls at hl ⊢
  have hl : lv_has ls 1 [(0, .ref (hd 15 j))] := hl
  refine lv_aload_n hx hb dX1_kindOf_0 rfl (lv_at hl 0 rfl) ?_
  refine va_instNo hx hb hown (hts _ q186) hN.2.2.2.2.2.2.2.2.2.2.1 (va_recv hK (gw_P1 (gw_e3 hG (j := j) hj hk)) (q0 := 0) (ci := 9) rfl rfl) dX1_kindOf_1 ?_
  refine lv_if_eq (tgt := 11) hx hb dX1_kindOf_4 (by decide) (fun _ => ?_) (fun c_ => absurd c_ (by decide))
  refine lv_aload_n hx hb dX1_kindOf_11 rfl (lv_at hl 0 rfl) ?_
  refine va_instNo hx hb hown (hts _ q187) hN.2.2.2.2.2.2.2.2.2.2.2.1 (va_recv hK (gw_P1 (gw_e3 hG (j := j) hj hk)) (q0 := 0) (ci := 9) rfl rfl) dX1_kindOf_12 ?_
  refine lv_if_eq (tgt := 22) hx hb dX1_kindOf_15 (by decide) (fun _ => ?_) (fun c_ => absurd c_ (by decide))
  refine lv_aload_n hx hb dX1_kindOf_22 rfl (lv_at hl 0 rfl) ?_
  refine va_instNo hx hb hown (hts _ q188) hN.2.2.2.2.2.2.2.2.2.2.2.2 (va_recv hK (gw_P1 (gw_e3 hG (j := j) hj hk)) (q0 := 0) (ci := 9) rfl rfl) dX1_kindOf_23 ?_
  refine lv_if_eq (tgt := 33) hx hb dX1_kindOf_26 (by decide) (fun _ => ?_) (fun c_ => absurd c_ (by decide))
  refine lv_iconst (v := 3) hx hb dX1_kindOf_33 (by decide) ?_
  exact W.iret (v := 3) hx hb hr (fun t ht hW => ⟨3, rfl, hk.symm, ht⟩) (fun q h => by cases h) dX1_kindOf_34

theorem gg_kindOf (l : Launch) (D : va_G) (ca : Nat → ClassId) (es : Nat → Nat) (A : Nat → Prop) (ad hd : Nat → Nat → Nat) (σ γ : gw_S) (ord : List Nat) (j : Nat) (hj : j < gw_n σ 31) (hk : σ 32 j = 0 ∨ σ 32 j = 1 ∨ σ 32 j = 2 ∨ σ 32 j = 3) : Met l yX1_kindOf (ws_ yX1_kindOf cX1_kindOf 1 (some .int)) ({ frames := 1, cells := 0, slots := 0, locals := 12 }) (va_Pc [.ref (hd 15 j)] (gw_gP D ca es A ad hd σ γ ord (gw_nu σ))) (vp_Si (fun r => r = σ 32 j)) 0 0 (fun _ => False) := by
  rcases hk with hk | hk | hk | hk
  · exact gg_kindOf0 l D ca es A ad hd σ γ ord j hj hk
  · exact gg_kindOf1 l D ca es A ad hd σ γ ord j hj hk
  · exact gg_kindOf2 l D ca es A ad hd σ γ ord j hj hk
  · exact gg_kindOf3 l D ca es A ad hd σ γ ord j hj hk

set_option maxHeartbeats 4000000 in
set_option maxRecDepth 100000 in
theorem gg_moneyOf0 (l : Launch) (D : va_G) (ca : Nat → ClassId) (es : Nat → Nat) (A : Nat → Prop) (ad hd : Nat → Nat → Nat) (σ γ : gw_S) (ord : List Nat) (j : Nat) (hj : j < gw_n σ 31) (hk : σ 32 j = 0) : Met l yX1_moneyOf (ws_ yX1_moneyOf cX1_moneyOf 2 (some .int)) ({ frames := 1, cells := 0, slots := 0, locals := 12 }) (va_Pc [.ref (hd 15 j)] (gw_gP D ca es A ad hd σ γ ord (gw_nu σ))) (vp_Si (fun r => r = σ 34 j)) 0 0 (fun _ => False) := by
  refine Met.ofW (cc := cX1_moneyOf) (maxL := 2) (ret := (some .int)) (by decide) rfl ?_
  intro p e s m args below meth c s₁ B hml hv
  obtain ⟨rfl, hG, hK, hE, hN, hA⟩ := hv
  have hx := B.exec
  have hb := B.bytes
  have hr := B.returns
  have hts := atoms_spec (ws := ws_ yX1_moneyOf cX1_moneyOf 2 (some .int)) B.pre
  have hts : ∀ w ∈ lw_all, w.before _ s = true := fun w h => hts w (List.mem_cons_of_mem _ h)
  have hown : s.vm.findClass RX1 = some m.cls := findClass_of_methodNamed B.named
  have hlocks := B.notSynchronized
  have hS : va_S A s.heap s.heap [] := va_S.rf
  have hl := lv_entry ([.ref (hd 15 j)]) (n := 2) (Nat.le_of_ble_eq_true rfl)
  rw [lg_entry_eq]
  generalize (lg_sl ([.ref (hd 15 j)]) ++ List.replicate (2 - (lg_sl ([.ref (hd 15 j)])).length) Slot.unset).toArray = ls at hl ⊢
  have hl : lv_has ls 2 [(0, .ref (hd 15 j))] := hl
  refine lv_aload_n hx hb dX1_moneyOf_0 rfl (lv_at hl 0 rfl) ?_
  refine va_instS hx hb hown (hts _ q186) (hK.1 5 _ rfl).2 (va_recv hK (gw_P1 (gw_e0 hG (j := j) hj hk)) (q0 := 0) (ci := 5) rfl rfl) dX1_moneyOf_1 ?_
  refine lv_if_eq (tgt := 17) hx hb dX1_moneyOf_4 (by decide) (fun c_ => absurd c_ (by decide)) (fun _ => ?_)
  refine lv_aload_n hx hb dX1_moneyOf_7 rfl (lv_at hl 0 rfl) ?_
  refine va_castS hx hb hown (hts _ q186) (hK.1 5 _ rfl).2 (va_recv hK (gw_P1 (gw_e0 hG (j := j) hj hk)) (q0 := 0) (ci := 5) rfl rfl) dX1_moneyOf_8 ?_
  refine lv_astore_n (lv' := [(1, .ref (hd 15 j)), (0, .ref (hd 15 j))]) hx hb dX1_moneyOf_11 rfl hl (by decide) rfl (fun ls hl => ?_)
  refine lv_aload_n hx hb dX1_moneyOf_12 rfl (lv_at hl 0 rfl) ?_
  refine gw_getN hx hb hts in_X6 hown hK (gw_e0 hG (j := j) hj hk) rfl 1 (by decide) (hN.1 _ q422 rfl) (v := .int (σ 34 j)) rfl dX1_moneyOf_13 ?_
  exact W.iret (v := σ 34 j) hx hb hr (fun t ht hW => ⟨(σ 34 j), rfl, rfl, ht⟩) (fun q h => by cases h) dX1_moneyOf_16

set_option maxHeartbeats 4000000 in
set_option maxRecDepth 100000 in
theorem gg_moneyOf1 (l : Launch) (D : va_G) (ca : Nat → ClassId) (es : Nat → Nat) (A : Nat → Prop) (ad hd : Nat → Nat → Nat) (σ γ : gw_S) (ord : List Nat) (j : Nat) (hj : j < gw_n σ 31) (hk : σ 32 j = 1) : Met l yX1_moneyOf (ws_ yX1_moneyOf cX1_moneyOf 2 (some .int)) ({ frames := 1, cells := 0, slots := 0, locals := 12 }) (va_Pc [.ref (hd 15 j)] (gw_gP D ca es A ad hd σ γ ord (gw_nu σ))) (vp_Si (fun r => r = σ 34 j)) 0 0 (fun _ => False) := by
  refine Met.ofW (cc := cX1_moneyOf) (maxL := 2) (ret := (some .int)) (by decide) rfl ?_
  intro p e s m args below meth c s₁ B hml hv
  obtain ⟨rfl, hG, hK, hE, hN, hA⟩ := hv
  have hx := B.exec
  have hb := B.bytes
  have hr := B.returns
  have hts := atoms_spec (ws := ws_ yX1_moneyOf cX1_moneyOf 2 (some .int)) B.pre
  have hts : ∀ w ∈ lw_all, w.before _ s = true := fun w h => hts w (List.mem_cons_of_mem _ h)
  have hown : s.vm.findClass RX1 = some m.cls := findClass_of_methodNamed B.named
  have hlocks := B.notSynchronized
  have hS : va_S A s.heap s.heap [] := va_S.rf
  have hl := lv_entry ([.ref (hd 15 j)]) (n := 2) (Nat.le_of_ble_eq_true rfl)
  rw [lg_entry_eq]
  generalize (lg_sl ([.ref (hd 15 j)]) ++ List.replicate (2 - (lg_sl ([.ref (hd 15 j)])).length) Slot.unset).toArray = ls at hl ⊢
  have hl : lv_has ls 2 [(0, .ref (hd 15 j))] := hl
  refine lv_aload_n hx hb dX1_moneyOf_0 rfl (lv_at hl 0 rfl) ?_
  refine va_instNo hx hb hown (hts _ q186) hN.2.2.2.2.1 (va_recv hK (gw_P1 (gw_e1 hG (j := j) hj hk)) (q0 := 0) (ci := 6) rfl rfl) dX1_moneyOf_1 ?_
  refine lv_if_eq (tgt := 17) hx hb dX1_moneyOf_4 (by decide) (fun _ => ?_) (fun c_ => absurd c_ (by decide))
  refine lv_aload_n hx hb dX1_moneyOf_17 rfl (lv_at hl 0 rfl) ?_
  refine va_instS hx hb hown (hts _ q187) (hK.1 6 _ rfl).2 (va_recv hK (gw_P1 (gw_e1 hG (j := j) hj hk)) (q0 := 0) (ci := 6) rfl rfl) dX1_moneyOf_18 ?_
  refine lv_if_eq (tgt := 34) hx hb dX1_moneyOf_21 (by decide) (fun c_ => absurd c_ (by decide)) (fun _ => ?_)
  refine lv_aload_n hx hb dX1_moneyOf_24 rfl (lv_at hl 0 rfl) ?_
  refine va_castS hx hb hown (hts _ q187) (hK.1 6 _ rfl).2 (va_recv hK (gw_P1 (gw_e1 hG (j := j) hj hk)) (q0 := 0) (ci := 6) rfl rfl) dX1_moneyOf_25 ?_
  refine lv_astore_n (lv' := [(1, .ref (hd 15 j)), (0, .ref (hd 15 j))]) hx hb dX1_moneyOf_28 rfl hl (by decide) rfl (fun ls hl => ?_)
  refine lv_aload_n hx hb dX1_moneyOf_29 rfl (lv_at hl 0 rfl) ?_
  refine gw_getN hx hb hts in_X7 hown hK (gw_e1 hG (j := j) hj hk) rfl 1 (by decide) (hN.1 _ q462 rfl) (v := .int (σ 34 j)) rfl dX1_moneyOf_30 ?_
  exact W.iret (v := σ 34 j) hx hb hr (fun t ht hW => ⟨(σ 34 j), rfl, rfl, ht⟩) (fun q h => by cases h) dX1_moneyOf_33

set_option maxHeartbeats 4000000 in
set_option maxRecDepth 100000 in
theorem gg_moneyOf2 (l : Launch) (D : va_G) (ca : Nat → ClassId) (es : Nat → Nat) (A : Nat → Prop) (ad hd : Nat → Nat → Nat) (σ γ : gw_S) (ord : List Nat) (j : Nat) (hj : j < gw_n σ 31) (hk : σ 32 j = 2) : Met l yX1_moneyOf (ws_ yX1_moneyOf cX1_moneyOf 2 (some .int)) ({ frames := 1, cells := 0, slots := 0, locals := 12 }) (va_Pc [.ref (hd 15 j)] (gw_gP D ca es A ad hd σ γ ord (gw_nu σ))) (vp_Si (fun r => r = σ 34 j)) 0 0 (fun _ => False) := by
  refine Met.ofW (cc := cX1_moneyOf) (maxL := 2) (ret := (some .int)) (by decide) rfl ?_
  intro p e s m args below meth c s₁ B hml hv
  obtain ⟨rfl, hG, hK, hE, hN, hA⟩ := hv
  have hx := B.exec
  have hb := B.bytes
  have hr := B.returns
  have hts := atoms_spec (ws := ws_ yX1_moneyOf cX1_moneyOf 2 (some .int)) B.pre
  have hts : ∀ w ∈ lw_all, w.before _ s = true := fun w h => hts w (List.mem_cons_of_mem _ h)
  have hown : s.vm.findClass RX1 = some m.cls := findClass_of_methodNamed B.named
  have hlocks := B.notSynchronized
  have hS : va_S A s.heap s.heap [] := va_S.rf
  have hl := lv_entry ([.ref (hd 15 j)]) (n := 2) (Nat.le_of_ble_eq_true rfl)
  rw [lg_entry_eq]
  generalize (lg_sl ([.ref (hd 15 j)]) ++ List.replicate (2 - (lg_sl ([.ref (hd 15 j)])).length) Slot.unset).toArray = ls at hl ⊢
  have hl : lv_has ls 2 [(0, .ref (hd 15 j))] := hl
  refine lv_aload_n hx hb dX1_moneyOf_0 rfl (lv_at hl 0 rfl) ?_
  refine va_instNo hx hb hown (hts _ q186) hN.2.2.2.2.2.2.2.1 (va_recv hK (gw_P1 (gw_e2 hG (j := j) hj hk)) (q0 := 0) (ci := 8) rfl rfl) dX1_moneyOf_1 ?_
  refine lv_if_eq (tgt := 17) hx hb dX1_moneyOf_4 (by decide) (fun _ => ?_) (fun c_ => absurd c_ (by decide))
  refine lv_aload_n hx hb dX1_moneyOf_17 rfl (lv_at hl 0 rfl) ?_
  refine va_instNo hx hb hown (hts _ q187) hN.2.2.2.2.2.2.2.2.1 (va_recv hK (gw_P1 (gw_e2 hG (j := j) hj hk)) (q0 := 0) (ci := 8) rfl rfl) dX1_moneyOf_18 ?_
  refine lv_if_eq (tgt := 34) hx hb dX1_moneyOf_21 (by decide) (fun _ => ?_) (fun c_ => absurd c_ (by decide))
  refine lv_aload_n hx hb dX1_moneyOf_34 rfl (lv_at hl 0 rfl) ?_
  refine va_instS hx hb hown (hts _ q188) (hK.1 8 _ rfl).2 (va_recv hK (gw_P1 (gw_e2 hG (j := j) hj hk)) (q0 := 0) (ci := 8) rfl rfl) dX1_moneyOf_35 ?_
  refine lv_if_eq (tgt := 51) hx hb dX1_moneyOf_38 (by decide) (fun c_ => absurd c_ (by decide)) (fun _ => ?_)
  refine lv_aload_n hx hb dX1_moneyOf_41 rfl (lv_at hl 0 rfl) ?_
  refine va_castS hx hb hown (hts _ q188) (hK.1 8 _ rfl).2 (va_recv hK (gw_P1 (gw_e2 hG (j := j) hj hk)) (q0 := 0) (ci := 8) rfl rfl) dX1_moneyOf_42 ?_
  refine lv_astore_n (lv' := [(1, .ref (hd 15 j)), (0, .ref (hd 15 j))]) hx hb dX1_moneyOf_45 rfl hl (by decide) rfl (fun ls hl => ?_)
  refine lv_aload_n hx hb dX1_moneyOf_46 rfl (lv_at hl 0 rfl) ?_
  refine gw_getN hx hb hts in_X9 hown hK (gw_e2 hG (j := j) hj hk) rfl 1 (by decide) (hN.1 _ q719 rfl) (v := .int (σ 34 j)) rfl dX1_moneyOf_47 ?_
  exact W.iret (v := σ 34 j) hx hb hr (fun t ht hW => ⟨(σ 34 j), rfl, rfl, ht⟩) (fun q h => by cases h) dX1_moneyOf_50

set_option maxHeartbeats 4000000 in
set_option maxRecDepth 100000 in
theorem gg_moneyOf3 (l : Launch) (D : va_G) (ca : Nat → ClassId) (es : Nat → Nat) (A : Nat → Prop) (ad hd : Nat → Nat → Nat) (σ γ : gw_S) (ord : List Nat) (j : Nat) (hj : j < gw_n σ 31) (hk : σ 32 j = 3) : Met l yX1_moneyOf (ws_ yX1_moneyOf cX1_moneyOf 2 (some .int)) ({ frames := 1, cells := 0, slots := 0, locals := 12 }) (va_Pc [.ref (hd 15 j)] (gw_gP D ca es A ad hd σ γ ord (gw_nu σ))) (vp_Si (fun r => r = σ 34 j)) 0 0 (fun _ => False) := by
  refine Met.ofW (cc := cX1_moneyOf) (maxL := 2) (ret := (some .int)) (by decide) rfl ?_
  intro p e s m args below meth c s₁ B hml hv
  obtain ⟨rfl, hG, hK, hE, hN, hA⟩ := hv
  have hx := B.exec
  have hb := B.bytes
  have hr := B.returns
  have hts := atoms_spec (ws := ws_ yX1_moneyOf cX1_moneyOf 2 (some .int)) B.pre
  have hts : ∀ w ∈ lw_all, w.before _ s = true := fun w h => hts w (List.mem_cons_of_mem _ h)
  have hown : s.vm.findClass RX1 = some m.cls := findClass_of_methodNamed B.named
  have hlocks := B.notSynchronized
  have hS : va_S A s.heap s.heap [] := va_S.rf
  have hl := lv_entry ([.ref (hd 15 j)]) (n := 2) (Nat.le_of_ble_eq_true rfl)
  rw [lg_entry_eq]
  generalize (lg_sl ([.ref (hd 15 j)]) ++ List.replicate (2 - (lg_sl ([.ref (hd 15 j)])).length) Slot.unset).toArray = ls at hl ⊢
  have hl : lv_has ls 2 [(0, .ref (hd 15 j))] := hl
  refine lv_aload_n hx hb dX1_moneyOf_0 rfl (lv_at hl 0 rfl) ?_
  refine va_instNo hx hb hown (hts _ q186) hN.2.2.2.2.2.2.2.2.2.2.1 (va_recv hK (gw_P1 (gw_e3 hG (j := j) hj hk)) (q0 := 0) (ci := 9) rfl rfl) dX1_moneyOf_1 ?_
  refine lv_if_eq (tgt := 17) hx hb dX1_moneyOf_4 (by decide) (fun _ => ?_) (fun c_ => absurd c_ (by decide))
  refine lv_aload_n hx hb dX1_moneyOf_17 rfl (lv_at hl 0 rfl) ?_
  refine va_instNo hx hb hown (hts _ q187) hN.2.2.2.2.2.2.2.2.2.2.2.1 (va_recv hK (gw_P1 (gw_e3 hG (j := j) hj hk)) (q0 := 0) (ci := 9) rfl rfl) dX1_moneyOf_18 ?_
  refine lv_if_eq (tgt := 34) hx hb dX1_moneyOf_21 (by decide) (fun _ => ?_) (fun c_ => absurd c_ (by decide))
  refine lv_aload_n hx hb dX1_moneyOf_34 rfl (lv_at hl 0 rfl) ?_
  refine va_instNo hx hb hown (hts _ q188) hN.2.2.2.2.2.2.2.2.2.2.2.2 (va_recv hK (gw_P1 (gw_e3 hG (j := j) hj hk)) (q0 := 0) (ci := 9) rfl rfl) dX1_moneyOf_35 ?_
  refine lv_if_eq (tgt := 51) hx hb dX1_moneyOf_38 (by decide) (fun _ => ?_) (fun c_ => absurd c_ (by decide))
  refine lv_aload_n hx hb dX1_moneyOf_51 rfl (lv_at hl 0 rfl) ?_
  refine va_instS hx hb hown (hts _ q189) (hK.1 9 _ rfl).2 (va_recv hK (gw_P1 (gw_e3 hG (j := j) hj hk)) (q0 := 0) (ci := 9) rfl rfl) dX1_moneyOf_52 ?_
  refine lv_if_eq (tgt := 70) hx hb dX1_moneyOf_55 (by decide) (fun c_ => absurd c_ (by decide)) (fun _ => ?_)
  refine lv_aload_n hx hb dX1_moneyOf_58 rfl (lv_at hl 0 rfl) ?_
  refine va_castS hx hb hown (hts _ q189) (hK.1 9 _ rfl).2 (va_recv hK (gw_P1 (gw_e3 hG (j := j) hj hk)) (q0 := 0) (ci := 9) rfl rfl) dX1_moneyOf_59 ?_
  refine lv_astore_n (lv' := [(1, .ref (hd 15 j)), (0, .ref (hd 15 j))]) hx hb dX1_moneyOf_62 rfl hl (by decide) rfl (fun ls hl => ?_)
  refine lv_aload_n hx hb dX1_moneyOf_63 rfl (lv_at hl 0 rfl) ?_
  refine gw_getN hx hb hts in_X10 hown hK (gw_e3 hG (j := j) hj hk) rfl 1 (by decide) (hN.1 _ q741 rfl) (v := .int (σ 34 j)) rfl dX1_moneyOf_64 ?_
  refine lv_goto (tgt := 71) hx hb dX1_moneyOf_67 (by decide) ?_
  exact W.iret (v := σ 34 j) hx hb hr (fun t ht hW => ⟨(σ 34 j), rfl, rfl, ht⟩) (fun q h => by cases h) dX1_moneyOf_71

theorem gg_moneyOf (l : Launch) (D : va_G) (ca : Nat → ClassId) (es : Nat → Nat) (A : Nat → Prop) (ad hd : Nat → Nat → Nat) (σ γ : gw_S) (ord : List Nat) (j : Nat) (hj : j < gw_n σ 31) (hk : σ 32 j = 0 ∨ σ 32 j = 1 ∨ σ 32 j = 2 ∨ σ 32 j = 3) : Met l yX1_moneyOf (ws_ yX1_moneyOf cX1_moneyOf 2 (some .int)) ({ frames := 1, cells := 0, slots := 0, locals := 12 }) (va_Pc [.ref (hd 15 j)] (gw_gP D ca es A ad hd σ γ ord (gw_nu σ))) (vp_Si (fun r => r = σ 34 j)) 0 0 (fun _ => False) := by
  rcases hk with hk | hk | hk | hk
  · exact gg_moneyOf0 l D ca es A ad hd σ γ ord j hj hk
  · exact gg_moneyOf1 l D ca es A ad hd σ γ ord j hj hk
  · exact gg_moneyOf2 l D ca es A ad hd σ γ ord j hj hk
  · exact gg_moneyOf3 l D ca es A ad hd σ γ ord j hj hk

set_option maxHeartbeats 4000000 in
set_option maxRecDepth 100000 in
theorem gg_keyIn0 (l : Launch) (D : va_G) (ca : Nat → ClassId) (es : Nat → Nat) (A : Nat → Prop) (ad hd : Nat → Nat → Nat) (σ γ : gw_S) (ord : List Nat) (j : Nat) (hj : j < gw_n σ 31) (hk : σ 32 j = 0) : Met l yX1_keyIn (ws_ yX1_keyIn cX1_keyIn 2 (some (.object "Grantworks$Key"))) ({ frames := 1, cells := 0, slots := 0, locals := 12 }) (va_Pc [.ref (hd 15 j)] (gw_gP D ca es A ad hd σ γ ord (gw_nu σ))) (va_Sq (fun r => r = some (hd 10 (gw_ix (σ 33 j))))) 0 0 (fun _ => False) := by
  refine Met.ofW (cc := cX1_keyIn) (maxL := 2) (ret := (some (.object "Grantworks$Key"))) (by decide) rfl ?_
  intro p e s m args below meth c s₁ B hml hv
  obtain ⟨rfl, hG, hK, hE, hN, hA⟩ := hv
  have hx := B.exec
  have hb := B.bytes
  have hr := B.returns
  have hts := atoms_spec (ws := ws_ yX1_keyIn cX1_keyIn 2 (some (.object "Grantworks$Key"))) B.pre
  have hts : ∀ w ∈ lw_all, w.before _ s = true := fun w h => hts w (List.mem_cons_of_mem _ h)
  have hown : s.vm.findClass RX1 = some m.cls := findClass_of_methodNamed B.named
  have hlocks := B.notSynchronized
  have hS : va_S A s.heap s.heap [] := va_S.rf
  have hl := lv_entry ([.ref (hd 15 j)]) (n := 2) (Nat.le_of_ble_eq_true rfl)
  rw [lg_entry_eq]
  generalize (lg_sl ([.ref (hd 15 j)]) ++ List.replicate (2 - (lg_sl ([.ref (hd 15 j)])).length) Slot.unset).toArray = ls at hl ⊢
  have hl : lv_has ls 2 [(0, .ref (hd 15 j))] := hl
  refine lv_aload_n hx hb dX1_keyIn_0 rfl (lv_at hl 0 rfl) ?_
  refine va_instS hx hb hown (hts _ q186) (hK.1 5 _ rfl).2 (va_recv hK (gw_P1 (gw_e0 hG (j := j) hj hk)) (q0 := 0) (ci := 5) rfl rfl) dX1_keyIn_1 ?_
  refine lv_if_eq (tgt := 17) hx hb dX1_keyIn_4 (by decide) (fun c_ => absurd c_ (by decide)) (fun _ => ?_)
  refine lv_aload_n hx hb dX1_keyIn_7 rfl (lv_at hl 0 rfl) ?_
  refine va_castS hx hb hown (hts _ q186) (hK.1 5 _ rfl).2 (va_recv hK (gw_P1 (gw_e0 hG (j := j) hj hk)) (q0 := 0) (ci := 5) rfl rfl) dX1_keyIn_8 ?_
  refine lv_astore_n (lv' := [(1, .ref (hd 15 j)), (0, .ref (hd 15 j))]) hx hb dX1_keyIn_11 rfl hl (by decide) rfl (fun ls hl => ?_)
  refine lv_aload_n hx hb dX1_keyIn_12 rfl (lv_at hl 0 rfl) ?_
  refine gw_getN hx hb hts in_X6 hown hK (gw_e0 hG (j := j) hj hk) rfl 0 (by decide) (hN.1 _ q420 rfl) (v := .ref (hd 10 (gw_ix (σ 33 j)))) rfl dX1_keyIn_13 ?_
  exact W.aret (v := va_rf (some (hd 10 (gw_ix (σ 33 j))))) hx hb hr (.inl ⟨_, rfl⟩) (va_rf_or _) (fun t ht hW => ⟨(some (hd 10 (gw_ix (σ 33 j)))), rfl, rfl, ht⟩) (fun q h => by cases h) dX1_keyIn_16

set_option maxHeartbeats 4000000 in
set_option maxRecDepth 100000 in
theorem gg_keyIn1 (l : Launch) (D : va_G) (ca : Nat → ClassId) (es : Nat → Nat) (A : Nat → Prop) (ad hd : Nat → Nat → Nat) (σ γ : gw_S) (ord : List Nat) (j : Nat) (hj : j < gw_n σ 31) (hk : σ 32 j = 1) : Met l yX1_keyIn (ws_ yX1_keyIn cX1_keyIn 2 (some (.object "Grantworks$Key"))) ({ frames := 1, cells := 0, slots := 0, locals := 12 }) (va_Pc [.ref (hd 15 j)] (gw_gP D ca es A ad hd σ γ ord (gw_nu σ))) (va_Sq (fun r => r = some (hd 10 (gw_ix (σ 33 j))))) 0 0 (fun _ => False) := by
  refine Met.ofW (cc := cX1_keyIn) (maxL := 2) (ret := (some (.object "Grantworks$Key"))) (by decide) rfl ?_
  intro p e s m args below meth c s₁ B hml hv
  obtain ⟨rfl, hG, hK, hE, hN, hA⟩ := hv
  have hx := B.exec
  have hb := B.bytes
  have hr := B.returns
  have hts := atoms_spec (ws := ws_ yX1_keyIn cX1_keyIn 2 (some (.object "Grantworks$Key"))) B.pre
  have hts : ∀ w ∈ lw_all, w.before _ s = true := fun w h => hts w (List.mem_cons_of_mem _ h)
  have hown : s.vm.findClass RX1 = some m.cls := findClass_of_methodNamed B.named
  have hlocks := B.notSynchronized
  have hS : va_S A s.heap s.heap [] := va_S.rf
  have hl := lv_entry ([.ref (hd 15 j)]) (n := 2) (Nat.le_of_ble_eq_true rfl)
  rw [lg_entry_eq]
  generalize (lg_sl ([.ref (hd 15 j)]) ++ List.replicate (2 - (lg_sl ([.ref (hd 15 j)])).length) Slot.unset).toArray = ls at hl ⊢
  have hl : lv_has ls 2 [(0, .ref (hd 15 j))] := hl
  refine lv_aload_n hx hb dX1_keyIn_0 rfl (lv_at hl 0 rfl) ?_
  refine va_instNo hx hb hown (hts _ q186) hN.2.2.2.2.1 (va_recv hK (gw_P1 (gw_e1 hG (j := j) hj hk)) (q0 := 0) (ci := 6) rfl rfl) dX1_keyIn_1 ?_
  refine lv_if_eq (tgt := 17) hx hb dX1_keyIn_4 (by decide) (fun _ => ?_) (fun c_ => absurd c_ (by decide))
  refine lv_aload_n hx hb dX1_keyIn_17 rfl (lv_at hl 0 rfl) ?_
  refine va_instS hx hb hown (hts _ q187) (hK.1 6 _ rfl).2 (va_recv hK (gw_P1 (gw_e1 hG (j := j) hj hk)) (q0 := 0) (ci := 6) rfl rfl) dX1_keyIn_18 ?_
  refine lv_if_eq (tgt := 34) hx hb dX1_keyIn_21 (by decide) (fun c_ => absurd c_ (by decide)) (fun _ => ?_)
  refine lv_aload_n hx hb dX1_keyIn_24 rfl (lv_at hl 0 rfl) ?_
  refine va_castS hx hb hown (hts _ q187) (hK.1 6 _ rfl).2 (va_recv hK (gw_P1 (gw_e1 hG (j := j) hj hk)) (q0 := 0) (ci := 6) rfl rfl) dX1_keyIn_25 ?_
  refine lv_astore_n (lv' := [(1, .ref (hd 15 j)), (0, .ref (hd 15 j))]) hx hb dX1_keyIn_28 rfl hl (by decide) rfl (fun ls hl => ?_)
  refine lv_aload_n hx hb dX1_keyIn_29 rfl (lv_at hl 0 rfl) ?_
  refine gw_getN hx hb hts in_X7 hown hK (gw_e1 hG (j := j) hj hk) rfl 0 (by decide) (hN.1 _ q460 rfl) (v := .ref (hd 10 (gw_ix (σ 33 j)))) rfl dX1_keyIn_30 ?_
  exact W.aret (v := va_rf (some (hd 10 (gw_ix (σ 33 j))))) hx hb hr (.inl ⟨_, rfl⟩) (va_rf_or _) (fun t ht hW => ⟨(some (hd 10 (gw_ix (σ 33 j)))), rfl, rfl, ht⟩) (fun q h => by cases h) dX1_keyIn_33

set_option maxHeartbeats 4000000 in
set_option maxRecDepth 100000 in
theorem gg_keyIn2 (l : Launch) (D : va_G) (ca : Nat → ClassId) (es : Nat → Nat) (A : Nat → Prop) (ad hd : Nat → Nat → Nat) (σ γ : gw_S) (ord : List Nat) (j : Nat) (hj : j < gw_n σ 31) (hk : σ 32 j = 2) : Met l yX1_keyIn (ws_ yX1_keyIn cX1_keyIn 2 (some (.object "Grantworks$Key"))) ({ frames := 1, cells := 0, slots := 0, locals := 12 }) (va_Pc [.ref (hd 15 j)] (gw_gP D ca es A ad hd σ γ ord (gw_nu σ))) (va_Sq (fun r => r = some (hd 10 (gw_ix (σ 33 j))))) 0 0 (fun _ => False) := by
  refine Met.ofW (cc := cX1_keyIn) (maxL := 2) (ret := (some (.object "Grantworks$Key"))) (by decide) rfl ?_
  intro p e s m args below meth c s₁ B hml hv
  obtain ⟨rfl, hG, hK, hE, hN, hA⟩ := hv
  have hx := B.exec
  have hb := B.bytes
  have hr := B.returns
  have hts := atoms_spec (ws := ws_ yX1_keyIn cX1_keyIn 2 (some (.object "Grantworks$Key"))) B.pre
  have hts : ∀ w ∈ lw_all, w.before _ s = true := fun w h => hts w (List.mem_cons_of_mem _ h)
  have hown : s.vm.findClass RX1 = some m.cls := findClass_of_methodNamed B.named
  have hlocks := B.notSynchronized
  have hS : va_S A s.heap s.heap [] := va_S.rf
  have hl := lv_entry ([.ref (hd 15 j)]) (n := 2) (Nat.le_of_ble_eq_true rfl)
  rw [lg_entry_eq]
  generalize (lg_sl ([.ref (hd 15 j)]) ++ List.replicate (2 - (lg_sl ([.ref (hd 15 j)])).length) Slot.unset).toArray = ls at hl ⊢
  have hl : lv_has ls 2 [(0, .ref (hd 15 j))] := hl
  refine lv_aload_n hx hb dX1_keyIn_0 rfl (lv_at hl 0 rfl) ?_
  refine va_instNo hx hb hown (hts _ q186) hN.2.2.2.2.2.2.2.1 (va_recv hK (gw_P1 (gw_e2 hG (j := j) hj hk)) (q0 := 0) (ci := 8) rfl rfl) dX1_keyIn_1 ?_
  refine lv_if_eq (tgt := 17) hx hb dX1_keyIn_4 (by decide) (fun _ => ?_) (fun c_ => absurd c_ (by decide))
  refine lv_aload_n hx hb dX1_keyIn_17 rfl (lv_at hl 0 rfl) ?_
  refine va_instNo hx hb hown (hts _ q187) hN.2.2.2.2.2.2.2.2.1 (va_recv hK (gw_P1 (gw_e2 hG (j := j) hj hk)) (q0 := 0) (ci := 8) rfl rfl) dX1_keyIn_18 ?_
  refine lv_if_eq (tgt := 34) hx hb dX1_keyIn_21 (by decide) (fun _ => ?_) (fun c_ => absurd c_ (by decide))
  refine lv_aload_n hx hb dX1_keyIn_34 rfl (lv_at hl 0 rfl) ?_
  refine va_instS hx hb hown (hts _ q188) (hK.1 8 _ rfl).2 (va_recv hK (gw_P1 (gw_e2 hG (j := j) hj hk)) (q0 := 0) (ci := 8) rfl rfl) dX1_keyIn_35 ?_
  refine lv_if_eq (tgt := 51) hx hb dX1_keyIn_38 (by decide) (fun c_ => absurd c_ (by decide)) (fun _ => ?_)
  refine lv_aload_n hx hb dX1_keyIn_41 rfl (lv_at hl 0 rfl) ?_
  refine va_castS hx hb hown (hts _ q188) (hK.1 8 _ rfl).2 (va_recv hK (gw_P1 (gw_e2 hG (j := j) hj hk)) (q0 := 0) (ci := 8) rfl rfl) dX1_keyIn_42 ?_
  refine lv_astore_n (lv' := [(1, .ref (hd 15 j)), (0, .ref (hd 15 j))]) hx hb dX1_keyIn_45 rfl hl (by decide) rfl (fun ls hl => ?_)
  refine lv_aload_n hx hb dX1_keyIn_46 rfl (lv_at hl 0 rfl) ?_
  refine gw_getN hx hb hts in_X9 hown hK (gw_e2 hG (j := j) hj hk) rfl 0 (by decide) (hN.1 _ q717 rfl) (v := .ref (hd 10 (gw_ix (σ 33 j)))) rfl dX1_keyIn_47 ?_
  exact W.aret (v := va_rf (some (hd 10 (gw_ix (σ 33 j))))) hx hb hr (.inl ⟨_, rfl⟩) (va_rf_or _) (fun t ht hW => ⟨(some (hd 10 (gw_ix (σ 33 j)))), rfl, rfl, ht⟩) (fun q h => by cases h) dX1_keyIn_50

set_option maxHeartbeats 4000000 in
set_option maxRecDepth 100000 in
theorem gg_keyIn3 (l : Launch) (D : va_G) (ca : Nat → ClassId) (es : Nat → Nat) (A : Nat → Prop) (ad hd : Nat → Nat → Nat) (σ γ : gw_S) (ord : List Nat) (j : Nat) (hj : j < gw_n σ 31) (hk : σ 32 j = 3) : Met l yX1_keyIn (ws_ yX1_keyIn cX1_keyIn 2 (some (.object "Grantworks$Key"))) ({ frames := 1, cells := 0, slots := 0, locals := 12 }) (va_Pc [.ref (hd 15 j)] (gw_gP D ca es A ad hd σ γ ord (gw_nu σ))) (va_Sq (fun r => r = some (hd 10 (gw_ix (σ 33 j))))) 0 0 (fun _ => False) := by
  refine Met.ofW (cc := cX1_keyIn) (maxL := 2) (ret := (some (.object "Grantworks$Key"))) (by decide) rfl ?_
  intro p e s m args below meth c s₁ B hml hv
  obtain ⟨rfl, hG, hK, hE, hN, hA⟩ := hv
  have hx := B.exec
  have hb := B.bytes
  have hr := B.returns
  have hts := atoms_spec (ws := ws_ yX1_keyIn cX1_keyIn 2 (some (.object "Grantworks$Key"))) B.pre
  have hts : ∀ w ∈ lw_all, w.before _ s = true := fun w h => hts w (List.mem_cons_of_mem _ h)
  have hown : s.vm.findClass RX1 = some m.cls := findClass_of_methodNamed B.named
  have hlocks := B.notSynchronized
  have hS : va_S A s.heap s.heap [] := va_S.rf
  have hl := lv_entry ([.ref (hd 15 j)]) (n := 2) (Nat.le_of_ble_eq_true rfl)
  rw [lg_entry_eq]
  generalize (lg_sl ([.ref (hd 15 j)]) ++ List.replicate (2 - (lg_sl ([.ref (hd 15 j)])).length) Slot.unset).toArray = ls at hl ⊢
  have hl : lv_has ls 2 [(0, .ref (hd 15 j))] := hl
  refine lv_aload_n hx hb dX1_keyIn_0 rfl (lv_at hl 0 rfl) ?_
  refine va_instNo hx hb hown (hts _ q186) hN.2.2.2.2.2.2.2.2.2.2.1 (va_recv hK (gw_P1 (gw_e3 hG (j := j) hj hk)) (q0 := 0) (ci := 9) rfl rfl) dX1_keyIn_1 ?_
  refine lv_if_eq (tgt := 17) hx hb dX1_keyIn_4 (by decide) (fun _ => ?_) (fun c_ => absurd c_ (by decide))
  refine lv_aload_n hx hb dX1_keyIn_17 rfl (lv_at hl 0 rfl) ?_
  refine va_instNo hx hb hown (hts _ q187) hN.2.2.2.2.2.2.2.2.2.2.2.1 (va_recv hK (gw_P1 (gw_e3 hG (j := j) hj hk)) (q0 := 0) (ci := 9) rfl rfl) dX1_keyIn_18 ?_
  refine lv_if_eq (tgt := 34) hx hb dX1_keyIn_21 (by decide) (fun _ => ?_) (fun c_ => absurd c_ (by decide))
  refine lv_aload_n hx hb dX1_keyIn_34 rfl (lv_at hl 0 rfl) ?_
  refine va_instNo hx hb hown (hts _ q188) hN.2.2.2.2.2.2.2.2.2.2.2.2 (va_recv hK (gw_P1 (gw_e3 hG (j := j) hj hk)) (q0 := 0) (ci := 9) rfl rfl) dX1_keyIn_35 ?_
  refine lv_if_eq (tgt := 51) hx hb dX1_keyIn_38 (by decide) (fun _ => ?_) (fun c_ => absurd c_ (by decide))
  refine lv_aload_n hx hb dX1_keyIn_51 rfl (lv_at hl 0 rfl) ?_
  refine va_instS hx hb hown (hts _ q189) (hK.1 9 _ rfl).2 (va_recv hK (gw_P1 (gw_e3 hG (j := j) hj hk)) (q0 := 0) (ci := 9) rfl rfl) dX1_keyIn_52 ?_
  refine lv_if_eq (tgt := 70) hx hb dX1_keyIn_55 (by decide) (fun c_ => absurd c_ (by decide)) (fun _ => ?_)
  refine lv_aload_n hx hb dX1_keyIn_58 rfl (lv_at hl 0 rfl) ?_
  refine va_castS hx hb hown (hts _ q189) (hK.1 9 _ rfl).2 (va_recv hK (gw_P1 (gw_e3 hG (j := j) hj hk)) (q0 := 0) (ci := 9) rfl rfl) dX1_keyIn_59 ?_
  refine lv_astore_n (lv' := [(1, .ref (hd 15 j)), (0, .ref (hd 15 j))]) hx hb dX1_keyIn_62 rfl hl (by decide) rfl (fun ls hl => ?_)
  refine lv_aload_n hx hb dX1_keyIn_63 rfl (lv_at hl 0 rfl) ?_
  refine gw_getN hx hb hts in_X10 hown hK (gw_e3 hG (j := j) hj hk) rfl 0 (by decide) (hN.1 _ q739 rfl) (v := .ref (hd 10 (gw_ix (σ 33 j)))) rfl dX1_keyIn_64 ?_
  refine lv_goto (tgt := 71) hx hb dX1_keyIn_67 (by decide) ?_
  exact W.aret (v := va_rf (some (hd 10 (gw_ix (σ 33 j))))) hx hb hr (.inl ⟨_, rfl⟩) (va_rf_or _) (fun t ht hW => ⟨(some (hd 10 (gw_ix (σ 33 j)))), rfl, rfl, ht⟩) (fun q h => by cases h) dX1_keyIn_71

theorem gg_keyIn (l : Launch) (D : va_G) (ca : Nat → ClassId) (es : Nat → Nat) (A : Nat → Prop) (ad hd : Nat → Nat → Nat) (σ γ : gw_S) (ord : List Nat) (j : Nat) (hj : j < gw_n σ 31) (hk : σ 32 j = 0 ∨ σ 32 j = 1 ∨ σ 32 j = 2 ∨ σ 32 j = 3) : Met l yX1_keyIn (ws_ yX1_keyIn cX1_keyIn 2 (some (.object "Grantworks$Key"))) ({ frames := 1, cells := 0, slots := 0, locals := 12 }) (va_Pc [.ref (hd 15 j)] (gw_gP D ca es A ad hd σ γ ord (gw_nu σ))) (va_Sq (fun r => r = some (hd 10 (gw_ix (σ 33 j))))) 0 0 (fun _ => False) := by
  rcases hk with hk | hk | hk | hk
  · exact gg_keyIn0 l D ca es A ad hd σ γ ord j hj hk
  · exact gg_keyIn1 l D ca es A ad hd σ γ ord j hj hk
  · exact gg_keyIn2 l D ca es A ad hd σ γ ord j hj hk
  · exact gg_keyIn3 l D ca es A ad hd σ γ ord j hj hk
