/-! CONSTRUCTORS of Key, Account and the entries: on a cell that is new -/
set_option maxRecDepth 100000
set_option maxHeartbeats 4000000 in
theorem gg_init_X4 (l : Launch) (D : va_G) (ca : Nat → ClassId) (q : Nat) (v0 : Int32) (v1 : Int32) : Met l yX4_init (ws_ yX4_init cX4_init 3 none) ({ frames := 1, cells := 0, slots := 0, locals := 40 }) (va_Pc [.ref q, .int v0, .int v1] (fun U => va_at D gw_cl (q, .inr (3, [.int 0, .int 0])) U.heap ∧ va_K D gw_cl (gw_tys ca) U)) (va_Qv (fun (_ : Unit) => True) (fun _ t => va_at D gw_cl (q, .inr (3, [.int v0, .int v1])) t.heap) (fun z => z = q)) 0 0 (fun z => z = q) := by
  refine Met.ofW (cc := cX4_init) (maxL := 3) (ret := none) (by decide) rfl ?_
  intro p e s m args below meth c s₁ B hml hv
  obtain ⟨rfl, he, hK⟩ := hv
  have hx := B.exec
  have hb := B.bytes
  have hr := B.returns
  have hts := atoms_spec (ws := ws_ yX4_init cX4_init 3 none) B.pre
  have hts : ∀ w ∈ lw_all, w.before _ s = true := fun w h => hts w (List.mem_cons_of_mem _ h)
  have hown : s.vm.findClass RX4 = some m.cls := findClass_of_methodNamed B.named
  have hlocks := B.notSynchronized
  have hin : meth.name = "<init>" := (name_of_methodNamed B.named B.method).1
  have hS : va_S (fun z => z = q) s.heap s.heap [] := va_S.rf
  have hl := lv_entry ([.ref q, .int v0, .int v1]) (n := 3) (Nat.le_of_ble_eq_true rfl)
  rw [lg_entry_eq]
  generalize (lg_sl ([.ref q, .int v0, .int v1]) ++ List.replicate (3 - (lg_sl ([.ref q, .int v0, .int v1])).length) Slot.unset).toArray = ls at hl ⊢
  have hl : lv_has ls 3 [(0, .ref q), (1, .int v0), (2, .int v1)] := hl
  refine lv_aload_n hx hb dX4_init_0 rfl (lv_at hl 0 rfl) ?_
  refine W.objInit hx hb hown (hts _ q214) (hts _ q70) (hts _ q71) rfl (by rw [hml]; exact hl.1) rfl dX4_init_1 (Nat.le_of_ble_eq_true rfl) (Nat.le_of_ble_eq_true rfl) ?_
  refine W.eq (g2 := F0 m 4 ls []) rfl ?_
  refine lv_aload_n hx hb dX4_init_4 rfl (lv_at hl 0 rfl) ?_
  refine lv_iload_n hx hb dX4_init_5 rfl (lv_at hl 1 rfl) ?_
  refine gw_putF hx hb hts in_X4 tyX4 tyX4_ok nmX4 hown hK hS he rfl rfl 0 (by decide) (hts _ q215) rfl hin rfl (tyX4_ok 0 (by decide)) rfl rfl (by show 0 < 2; decide) dX4_init_6 fun H locs he oq hz hS => ?_
  refine lv_aload_n hx hb dX4_init_9 rfl (lv_at hl 0 rfl) ?_
  refine lv_iload_n hx hb dX4_init_10 rfl (lv_at hl 2 rfl) ?_
  refine gw_putF hx hb hts in_X4 tyX4 tyX4_ok nmX4 hown hK hS he rfl rfl 1 (by decide) (hts _ q217) rfl hin rfl (tyX4_ok 1 (by decide)) rfl rfl (by show 1 < 2; decide) dX4_init_11 fun H locs he oq hz hS => ?_
  exact W.vret hx hb hr (fun t ht hW => ⟨⟨(), rfl, trivial, by show va_at D gw_cl _ t.heap; rw [ht]; exact he⟩, hS.F ht⟩) hS.2.2 dX4_init_14
set_option maxHeartbeats 4000000 in
theorem gg_init_X5 (l : Launch) (D : va_G) (ca : Nat → ClassId) (q : Nat) (v0 : Nat) (v1 : Int32) : Met l yX5_init (ws_ yX5_init cX5_init 3 none) ({ frames := 1, cells := 0, slots := 0, locals := 40 }) (va_Pc [.ref q, .ref v0, .int v1] (fun U => va_at D gw_cl (q, .inr (4, [.null, .int 0, .null, .null, .int 0, .int 0, .int 0])) U.heap ∧ va_K D gw_cl (gw_tys ca) U)) (va_Qv (fun (_ : Unit) => True) (fun _ t => va_at D gw_cl (q, .inr (4, [.ref v0, .int v1, .null, .null, .int 0, .int 0, .int 0])) t.heap) (fun z => z = q)) 0 0 (fun z => z = q) := by
  refine Met.ofW (cc := cX5_init) (maxL := 3) (ret := none) (by decide) rfl ?_
  intro p e s m args below meth c s₁ B hml hv
  obtain ⟨rfl, he, hK⟩ := hv
  have hx := B.exec
  have hb := B.bytes
  have hr := B.returns
  have hts := atoms_spec (ws := ws_ yX5_init cX5_init 3 none) B.pre
  have hts : ∀ w ∈ lw_all, w.before _ s = true := fun w h => hts w (List.mem_cons_of_mem _ h)
  have hown : s.vm.findClass RX5 = some m.cls := findClass_of_methodNamed B.named
  have hlocks := B.notSynchronized
  have hin : meth.name = "<init>" := (name_of_methodNamed B.named B.method).1
  have hS : va_S (fun z => z = q) s.heap s.heap [] := va_S.rf
  have hl := lv_entry ([.ref q, .ref v0, .int v1]) (n := 3) (Nat.le_of_ble_eq_true rfl)
  rw [lg_entry_eq]
  generalize (lg_sl ([.ref q, .ref v0, .int v1]) ++ List.replicate (3 - (lg_sl ([.ref q, .ref v0, .int v1])).length) Slot.unset).toArray = ls at hl ⊢
  have hl : lv_has ls 3 [(0, .ref q), (1, .ref v0), (2, .int v1)] := hl
  refine lv_aload_n hx hb dX5_init_0 rfl (lv_at hl 0 rfl) ?_
  refine W.objInit hx hb hown (hts _ q384) (hts _ q70) (hts _ q71) rfl (by rw [hml]; exact hl.1) rfl dX5_init_1 (Nat.le_of_ble_eq_true rfl) (Nat.le_of_ble_eq_true rfl) ?_
  refine W.eq (g2 := F0 m 4 ls []) rfl ?_
  refine lv_aload_n hx hb dX5_init_4 rfl (lv_at hl 0 rfl) ?_
  refine lv_aload_n hx hb dX5_init_5 rfl (lv_at hl 1 rfl) ?_
  refine gw_putF hx hb hts in_X5 tyX5 tyX5_ok nmX5 hown hK hS he rfl rfl 0 (by decide) (hts _ q385) rfl hin rfl (tyX5_ok 0 (by decide)) rfl rfl (by show 0 < 7; decide) dX5_init_6 fun H locs he oq hz hS => ?_
  refine lv_aload_n hx hb dX5_init_9 rfl (lv_at hl 0 rfl) ?_
  refine lv_iload_n hx hb dX5_init_10 rfl (lv_at hl 2 rfl) ?_
  refine gw_putF hx hb hts in_X5 tyX5 tyX5_ok nmX5 hown hK hS he rfl rfl 1 (by decide) (hts _ q388) rfl hin rfl (tyX5_ok 1 (by decide)) rfl rfl (by show 1 < 7; decide) dX5_init_11 fun H locs he oq hz hS => ?_
  exact W.vret hx hb hr (fun t ht hW => ⟨⟨(), rfl, trivial, by show va_at D gw_cl _ t.heap; rw [ht]; exact he⟩, hS.F ht⟩) hS.2.2 dX5_init_14
set_option maxHeartbeats 4000000 in
theorem gg_init_X6 (l : Launch) (D : va_G) (ca : Nat → ClassId) (q : Nat) (v0 : Nat) (v1 : Int32) : Met l yX6_init (ws_ yX6_init cX6_init 3 none) ({ frames := 1, cells := 0, slots := 0, locals := 40 }) (va_Pc [.ref q, .ref v0, .int v1] (fun U => va_at D gw_cl (q, .inr (5, [.null, .int 0])) U.heap ∧ va_K D gw_cl (gw_tys ca) U)) (va_Qv (fun (_ : Unit) => True) (fun _ t => va_at D gw_cl (q, .inr (5, [.ref v0, .int v1])) t.heap) (fun z => z = q)) 0 0 (fun z => z = q) := by
  refine Met.ofW (cc := cX6_init) (maxL := 3) (ret := none) (by decide) rfl ?_
  intro p e s m args below meth c s₁ B hml hv
  obtain ⟨rfl, he, hK⟩ := hv
  have hx := B.exec
  have hb := B.bytes
  have hr := B.returns
  have hts := atoms_spec (ws := ws_ yX6_init cX6_init 3 none) B.pre
  have hts : ∀ w ∈ lw_all, w.before _ s = true := fun w h => hts w (List.mem_cons_of_mem _ h)
  have hown : s.vm.findClass RX6 = some m.cls := findClass_of_methodNamed B.named
  have hlocks := B.notSynchronized
  have hin : meth.name = "<init>" := (name_of_methodNamed B.named B.method).1
  have hS : va_S (fun z => z = q) s.heap s.heap [] := va_S.rf
  have hl := lv_entry ([.ref q, .ref v0, .int v1]) (n := 3) (Nat.le_of_ble_eq_true rfl)
  rw [lg_entry_eq]
  generalize (lg_sl ([.ref q, .ref v0, .int v1]) ++ List.replicate (3 - (lg_sl ([.ref q, .ref v0, .int v1])).length) Slot.unset).toArray = ls at hl ⊢
  have hl : lv_has ls 3 [(0, .ref q), (1, .ref v0), (2, .int v1)] := hl
  refine lv_aload_n hx hb dX6_init_0 rfl (lv_at hl 0 rfl) ?_
  refine W.objInit hx hb hown (hts _ q418) (hts _ q70) (hts _ q71) rfl (by rw [hml]; exact hl.1) rfl dX6_init_1 (Nat.le_of_ble_eq_true rfl) (Nat.le_of_ble_eq_true rfl) ?_
  refine W.eq (g2 := F0 m 4 ls []) rfl ?_
  refine lv_aload_n hx hb dX6_init_4 rfl (lv_at hl 0 rfl) ?_
  refine lv_aload_n hx hb dX6_init_5 rfl (lv_at hl 1 rfl) ?_
  refine gw_putF hx hb hts in_X6 tyX6 tyX6_ok nmX6 hown hK hS he rfl rfl 0 (by decide) (hts _ q419) rfl hin rfl (tyX6_ok 0 (by decide)) rfl rfl (by show 0 < 2; decide) dX6_init_6 fun H locs he oq hz hS => ?_
  refine lv_aload_n hx hb dX6_init_9 rfl (lv_at hl 0 rfl) ?_
  refine lv_iload_n hx hb dX6_init_10 rfl (lv_at hl 2 rfl) ?_
  refine gw_putF hx hb hts in_X6 tyX6 tyX6_ok nmX6 hown hK hS he rfl rfl 1 (by decide) (hts _ q421) rfl hin rfl (tyX6_ok 1 (by decide)) rfl rfl (by show 1 < 2; decide) dX6_init_11 fun H locs he oq hz hS => ?_
  exact W.vret hx hb hr (fun t ht hW => ⟨⟨(), rfl, trivial, by show va_at D gw_cl _ t.heap; rw [ht]; exact he⟩, hS.F ht⟩) hS.2.2 dX6_init_14
set_option maxHeartbeats 4000000 in
theorem gg_init_X7 (l : Launch) (D : va_G) (ca : Nat → ClassId) (q : Nat) (v0 : Nat) (v1 : Int32) (v2 : Int32) : Met l yX7_init (ws_ yX7_init cX7_init 4 none) ({ frames := 1, cells := 0, slots := 0, locals := 40 }) (va_Pc [.ref q, .ref v0, .int v1, .int v2] (fun U => va_at D gw_cl (q, .inr (6, [.null, .int 0, .int 0])) U.heap ∧ va_K D gw_cl (gw_tys ca) U)) (va_Qv (fun (_ : Unit) => True) (fun _ t => va_at D gw_cl (q, .inr (6, [.ref v0, .int v1, .int v2])) t.heap) (fun z => z = q)) 0 0 (fun z => z = q) := by
  refine Met.ofW (cc := cX7_init) (maxL := 4) (ret := none) (by decide) rfl ?_
  intro p e s m args below meth c s₁ B hml hv
  obtain ⟨rfl, he, hK⟩ := hv
  have hx := B.exec
  have hb := B.bytes
  have hr := B.returns
  have hts := atoms_spec (ws := ws_ yX7_init cX7_init 4 none) B.pre
  have hts : ∀ w ∈ lw_all, w.before _ s = true := fun w h => hts w (List.mem_cons_of_mem _ h)
  have hown : s.vm.findClass RX7 = some m.cls := findClass_of_methodNamed B.named
  have hlocks := B.notSynchronized
  have hin : meth.name = "<init>" := (name_of_methodNamed B.named B.method).1
  have hS : va_S (fun z => z = q) s.heap s.heap [] := va_S.rf
  have hl := lv_entry ([.ref q, .ref v0, .int v1, .int v2]) (n := 4) (Nat.le_of_ble_eq_true rfl)
  rw [lg_entry_eq]
  generalize (lg_sl ([.ref q, .ref v0, .int v1, .int v2]) ++ List.replicate (4 - (lg_sl ([.ref q, .ref v0, .int v1, .int v2])).length) Slot.unset).toArray = ls at hl ⊢
  have hl : lv_has ls 4 [(0, .ref q), (1, .ref v0), (2, .int v1), (3, .int v2)] := hl
  refine lv_aload_n hx hb dX7_init_0 rfl (lv_at hl 0 rfl) ?_
  refine W.objInit hx hb hown (hts _ q458) (hts _ q70) (hts _ q71) rfl (by rw [hml]; exact hl.1) rfl dX7_init_1 (Nat.le_of_ble_eq_true rfl) (Nat.le_of_ble_eq_true rfl) ?_
  refine W.eq (g2 := F0 m 4 ls []) rfl ?_
  refine lv_aload_n hx hb dX7_init_4 rfl (lv_at hl 0 rfl) ?_
  refine lv_aload_n hx hb dX7_init_5 rfl (lv_at hl 1 rfl) ?_
  refine gw_putF hx hb hts in_X7 tyX7 tyX7_ok nmX7 hown hK hS he rfl rfl 0 (by decide) (hts _ q459) rfl hin rfl (tyX7_ok 0 (by decide)) rfl rfl (by show 0 < 3; decide) dX7_init_6 fun H locs he oq hz hS => ?_
  refine lv_aload_n hx hb dX7_init_9 rfl (lv_at hl 0 rfl) ?_
  refine lv_iload_n hx hb dX7_init_10 rfl (lv_at hl 2 rfl) ?_
  refine gw_putF hx hb hts in_X7 tyX7 tyX7_ok nmX7 hown hK hS he rfl rfl 1 (by decide) (hts _ q461) rfl hin rfl (tyX7_ok 1 (by decide)) rfl rfl (by show 1 < 3; decide) dX7_init_11 fun H locs he oq hz hS => ?_
  refine lv_aload_n hx hb dX7_init_14 rfl (lv_at hl 0 rfl) ?_
  refine lv_iload_n hx hb dX7_init_15 rfl (lv_at hl 3 rfl) ?_
  refine gw_putF hx hb hts in_X7 tyX7 tyX7_ok nmX7 hown hK hS he rfl rfl 2 (by decide) (hts _ q463) rfl hin rfl (tyX7_ok 2 (by decide)) rfl rfl (by show 2 < 3; decide) dX7_init_16 fun H locs he oq hz hS => ?_
  exact W.vret hx hb hr (fun t ht hW => ⟨⟨(), rfl, trivial, by show va_at D gw_cl _ t.heap; rw [ht]; exact he⟩, hS.F ht⟩) hS.2.2 dX7_init_19
set_option maxHeartbeats 4000000 in
theorem gg_init_X9 (l : Launch) (D : va_G) (ca : Nat → ClassId) (q : Nat) (v0 : Nat) (v1 : Int32) (v2 : Int32) : Met l yX9_init (ws_ yX9_init cX9_init 4 none) ({ frames := 1, cells := 0, slots := 0, locals := 40 }) (va_Pc [.ref q, .ref v0, .int v1, .int v2] (fun U => va_at D gw_cl (q, .inr (8, [.null, .int 0, .int 0])) U.heap ∧ va_K D gw_cl (gw_tys ca) U)) (va_Qv (fun (_ : Unit) => True) (fun _ t => va_at D gw_cl (q, .inr (8, [.ref v0, .int v1, .int v2])) t.heap) (fun z => z = q)) 0 0 (fun z => z = q) := by
  refine Met.ofW (cc := cX9_init) (maxL := 4) (ret := none) (by decide) rfl ?_
  intro p e s m args below meth c s₁ B hml hv
  obtain ⟨rfl, he, hK⟩ := hv
  have hx := B.exec
  have hb := B.bytes
  have hr := B.returns
  have hts := atoms_spec (ws := ws_ yX9_init cX9_init 4 none) B.pre
  have hts : ∀ w ∈ lw_all, w.before _ s = true := fun w h => hts w (List.mem_cons_of_mem _ h)
  have hown : s.vm.findClass RX9 = some m.cls := findClass_of_methodNamed B.named
  have hlocks := B.notSynchronized
  have hin : meth.name = "<init>" := (name_of_methodNamed B.named B.method).1
  have hS : va_S (fun z => z = q) s.heap s.heap [] := va_S.rf
  have hl := lv_entry ([.ref q, .ref v0, .int v1, .int v2]) (n := 4) (Nat.le_of_ble_eq_true rfl)
  rw [lg_entry_eq]
  generalize (lg_sl ([.ref q, .ref v0, .int v1, .int v2]) ++ List.replicate (4 - (lg_sl ([.ref q, .ref v0, .int v1, .int v2])).length) Slot.unset).toArray = ls at hl ⊢
  have hl : lv_has ls 4 [(0, .ref q), (1, .ref v0), (2, .int v1), (3, .int v2)] := hl
  refine lv_aload_n hx hb dX9_init_0 rfl (lv_at hl 0 rfl) ?_
  refine W.objInit hx hb hown (hts _ q715) (hts _ q70) (hts _ q71) rfl (by rw [hml]; exact hl.1) rfl dX9_init_1 (Nat.le_of_ble_eq_true rfl) (Nat.le_of_ble_eq_true rfl) ?_
  refine W.eq (g2 := F0 m 4 ls []) rfl ?_
  refine lv_aload_n hx hb dX9_init_4 rfl (lv_at hl 0 rfl) ?_
  refine lv_aload_n hx hb dX9_init_5 rfl (lv_at hl 1 rfl) ?_
  refine gw_putF hx hb hts in_X9 tyX9 tyX9_ok nmX9 hown hK hS he rfl rfl 0 (by decide) (hts _ q716) rfl hin rfl (tyX9_ok 0 (by decide)) rfl rfl (by show 0 < 3; decide) dX9_init_6 fun H locs he oq hz hS => ?_
  refine lv_aload_n hx hb dX9_init_9 rfl (lv_at hl 0 rfl) ?_
  refine lv_iload_n hx hb dX9_init_10 rfl (lv_at hl 2 rfl) ?_
  refine gw_putF hx hb hts in_X9 tyX9 tyX9_ok nmX9 hown hK hS he rfl rfl 1 (by decide) (hts _ q718) rfl hin rfl (tyX9_ok 1 (by decide)) rfl rfl (by show 1 < 3; decide) dX9_init_11 fun H locs he oq hz hS => ?_
  refine lv_aload_n hx hb dX9_init_14 rfl (lv_at hl 0 rfl) ?_
  refine lv_iload_n hx hb dX9_init_15 rfl (lv_at hl 3 rfl) ?_
  refine gw_putF hx hb hts in_X9 tyX9 tyX9_ok nmX9 hown hK hS he rfl rfl 2 (by decide) (hts _ q720) rfl hin rfl (tyX9_ok 2 (by decide)) rfl rfl (by show 2 < 3; decide) dX9_init_16 fun H locs he oq hz hS => ?_
  exact W.vret hx hb hr (fun t ht hW => ⟨⟨(), rfl, trivial, by show va_at D gw_cl _ t.heap; rw [ht]; exact he⟩, hS.F ht⟩) hS.2.2 dX9_init_19
set_option maxHeartbeats 4000000 in
theorem gg_init_X10 (l : Launch) (D : va_G) (ca : Nat → ClassId) (q : Nat) (v0 : Nat) (v1 : Int32) (v2 : Int32) : Met l yX10_init (ws_ yX10_init cX10_init 4 none) ({ frames := 1, cells := 0, slots := 0, locals := 40 }) (va_Pc [.ref q, .ref v0, .int v1, .int v2] (fun U => va_at D gw_cl (q, .inr (9, [.null, .int 0, .int 0])) U.heap ∧ va_K D gw_cl (gw_tys ca) U)) (va_Qv (fun (_ : Unit) => True) (fun _ t => va_at D gw_cl (q, .inr (9, [.ref v0, .int v1, .int v2])) t.heap) (fun z => z = q)) 0 0 (fun z => z = q) := by
  refine Met.ofW (cc := cX10_init) (maxL := 4) (ret := none) (by decide) rfl ?_
  intro p e s m args below meth c s₁ B hml hv
  obtain ⟨rfl, he, hK⟩ := hv
  have hx := B.exec
  have hb := B.bytes
  have hr := B.returns
  have hts := atoms_spec (ws := ws_ yX10_init cX10_init 4 none) B.pre
  have hts : ∀ w ∈ lw_all, w.before _ s = true := fun w h => hts w (List.mem_cons_of_mem _ h)
  have hown : s.vm.findClass RX10 = some m.cls := findClass_of_methodNamed B.named
  have hlocks := B.notSynchronized
  have hin : meth.name = "<init>" := (name_of_methodNamed B.named B.method).1
  have hS : va_S (fun z => z = q) s.heap s.heap [] := va_S.rf
  have hl := lv_entry ([.ref q, .ref v0, .int v1, .int v2]) (n := 4) (Nat.le_of_ble_eq_true rfl)
  rw [lg_entry_eq]
  generalize (lg_sl ([.ref q, .ref v0, .int v1, .int v2]) ++ List.replicate (4 - (lg_sl ([.ref q, .ref v0, .int v1, .int v2])).length) Slot.unset).toArray = ls at hl ⊢
  have hl : lv_has ls 4 [(0, .ref q), (1, .ref v0), (2, .int v1), (3, .int v2)] := hl
  refine lv_aload_n hx hb dX10_init_0 rfl (lv_at hl 0 rfl) ?_
  refine W.objInit hx hb hown (hts _ q737) (hts _ q70) (hts _ q71) rfl (by rw [hml]; exact hl.1) rfl dX10_init_1 (Nat.le_of_ble_eq_true rfl) (Nat.le_of_ble_eq_true rfl) ?_
  refine W.eq (g2 := F0 m 4 ls []) rfl ?_
  refine lv_aload_n hx hb dX10_init_4 rfl (lv_at hl 0 rfl) ?_
  refine lv_aload_n hx hb dX10_init_5 rfl (lv_at hl 1 rfl) ?_
  refine gw_putF hx hb hts in_X10 tyX10 tyX10_ok nmX10 hown hK hS he rfl rfl 0 (by decide) (hts _ q738) rfl hin rfl (tyX10_ok 0 (by decide)) rfl rfl (by show 0 < 3; decide) dX10_init_6 fun H locs he oq hz hS => ?_
  refine lv_aload_n hx hb dX10_init_9 rfl (lv_at hl 0 rfl) ?_
  refine lv_iload_n hx hb dX10_init_10 rfl (lv_at hl 2 rfl) ?_
  refine gw_putF hx hb hts in_X10 tyX10 tyX10_ok nmX10 hown hK hS he rfl rfl 1 (by decide) (hts _ q740) rfl hin rfl (tyX10_ok 1 (by decide)) rfl rfl (by show 1 < 3; decide) dX10_init_11 fun H locs he oq hz hS => ?_
  refine lv_aload_n hx hb dX10_init_14 rfl (lv_at hl 0 rfl) ?_
  refine lv_iload_n hx hb dX10_init_15 rfl (lv_at hl 3 rfl) ?_
  refine gw_putF hx hb hts in_X10 tyX10 tyX10_ok nmX10 hown hK hS he rfl rfl 2 (by decide) (hts _ q742) rfl hin rfl (tyX10_ok 2 (by decide)) rfl rfl (by show 2 < 3; decide) dX10_init_16 fun H locs he oq hz hS => ?_
  exact W.vret hx hb hr (fun t ht hW => ⟨⟨(), rfl, trivial, by show va_at D gw_cl _ t.heap; rw [ht]; exact he⟩, hS.F ht⟩) hS.2.2 dX10_init_19
