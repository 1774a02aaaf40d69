/-! THE CLASS 8 -/
set_option maxRecDepth 100000
set_option maxHeartbeats 4000000 in
set_option maxRecDepth 100000 in
theorem gg_reserve0 (l : Launch) (D : va_G) (ca : Nat → ClassId) (es : Nat → Nat) (A : Nat → Prop) (ad hd : Nat → Nat → Nat) (σ γ : gw_S) (ord : List Nat) (tt : Nat) (app : Int32) : Met l yX1_reserve (ws_ yX1_reserve cX1_reserve 4 none) ({ frames := 1, cells := 0, slots := 0, locals := 12 }) (va_Pc [.ref (ad 0 0), .ref (hd 10 tt), .int 0, .int app] (gw_gP D ca es A ad hd σ γ ord (gw_nu σ))) (va_Sv (fun _ => True)) 0 0 (fun _ => False) := by
  refine Met.ofW (cc := cX1_reserve) (maxL := 4) (ret := none) (by decide) rfl ?_
  intro p e s m args below meth c s₁ B hml hv
  obtain ⟨rfl, hG, hK, hE, hN, hA⟩ := hv
  have hx := B.exec
  have hb := B.bytes
  have hr := B.returns
  have hts := atoms_spec (ws := ws_ yX1_reserve cX1_reserve 4 none) B.pre
  have hts : ∀ w ∈ lw_all, w.before _ s = true := fun w h => hts w (List.mem_cons_of_mem _ h)
  have hown : s.vm.findClass RX1 = some m.cls := findClass_of_methodNamed B.named
  have hlocks := B.notSynchronized
  have hS : va_S A s.heap s.heap [] := va_S.rf
  have hl := lv_entry ([.ref (ad 0 0), .ref (hd 10 tt), .int 0, .int app]) (n := 4) (Nat.le_of_ble_eq_true rfl)
  rw [lg_entry_eq]
  generalize (lg_sl ([.ref (ad 0 0), .ref (hd 10 tt), .int 0, .int app]) ++ List.replicate (4 - (lg_sl ([.ref (ad 0 0), .ref (hd 10 tt), .int 0, .int app])).length) Slot.unset).toArray = ls at hl ⊢
  have hl : lv_has ls 4 [(0, .ref (ad 0 0)), (1, .ref (hd 10 tt)), (2, .int 0), (3, .int app)] := hl
  refine lv_iload_n hx hb dX1_reserve_0 rfl (lv_at hl 2 rfl) ?_
  refine lv_if_ne (tgt := 5) hx hb dX1_reserve_1 (by decide) (fun c_ => absurd c_ (by decide)) (fun _ => ?_)
  exact W.vret hx hb hr (fun t ht hW => ⟨rfl, trivial, ht⟩) (fun q h => by cases h) dX1_reserve_4

set_option maxHeartbeats 4000000 in
set_option maxRecDepth 100000 in
theorem gg_reserve1 (l : Launch) (D : va_G) (ca : Nat → ClassId) (es : Nat → Nat) (A : Nat → Prop) (ad hd : Nat → Nat → Nat) (σ γ : gw_S) (ord : List Nat) (tt : Nat) (money app : Int32) (hm : ¬ money = 0) (ht : tt ∈ ord) (hKo : gw_Ko γ ord) (h31 : σ 31 0 = nI (gw_n σ 31)) (hb31 : gw_n σ 31 < 400) : Met l yX1_reserve (ws_ yX1_reserve cX1_reserve 4 none) ({ frames := 3, cells := 1, slots := 3, locals := 76 }) (va_Pc [.ref (ad 0 0), .ref (hd 10 tt), .int money, .int app] (gw_gP D ca es A ad hd σ γ ord (gw_nu σ))) (va_Qv (fun (_ : Nat) => True) (fun q t => gw_gW D ca es A ad (gw_hd hd 15 (gw_n (gw_up σ 5 tt (σ 5 tt + money)) 31) q) (gw_up (gw_push (gw_up σ 5 tt (σ 5 tt + money)) (gw_n (gw_up σ 5 tt (σ 5 tt + money)) 31) 1 tt money app) 31 0 ((gw_up σ 5 tt (σ 5 tt + money)) 31 0 + 1)) γ ord (gw_nu (gw_up (gw_push (gw_up σ 5 tt (σ 5 tt + money)) (gw_n (gw_up σ 5 tt (σ 5 tt + money)) 31) 1 tt money app) 31 0 ((gw_up σ 5 tt (σ 5 tt + money)) 31 0 + 1))) t.heap) A) 1 3 A := by
  refine Met.ofW (cc := cX1_reserve) (maxL := 4) (ret := none) (by decide) rfl ?_
  intro p e s m args below meth c s₁ B hml hv
  obtain ⟨rfl, hG, hK, hE, hN, hA⟩ := hv
  have hx := B.exec
  have hb := B.bytes
  have hr := B.returns
  have hts := atoms_spec (ws := ws_ yX1_reserve cX1_reserve 4 none) B.pre
  have hts : ∀ w ∈ lw_all, w.before _ s = true := fun w h => hts w (List.mem_cons_of_mem _ h)
  have hown : s.vm.findClass RX1 = some m.cls := findClass_of_methodNamed B.named
  have hlocks := B.notSynchronized
  have hS : va_S A s.heap s.heap [] := va_S.rf
  have hl := lv_entry ([.ref (ad 0 0), .ref (hd 10 tt), .int money, .int app]) (n := 4) (Nat.le_of_ble_eq_true rfl)
  rw [lg_entry_eq]
  generalize (lg_sl ([.ref (ad 0 0), .ref (hd 10 tt), .int money, .int app]) ++ List.replicate (4 - (lg_sl ([.ref (ad 0 0), .ref (hd 10 tt), .int money, .int app])).length) Slot.unset).toArray = ls at hl ⊢
  have hl : lv_has ls 4 [(0, .ref (ad 0 0)), (1, .ref (hd 10 tt)), (2, .int money), (3, .int app)] := hl
  refine lv_iload_n hx hb dX1_reserve_0 rfl (lv_at hl 2 rfl) ?_
  refine lv_if_ne (tgt := 5) hx hb dX1_reserve_1 (by decide) (fun _ => ?_) (fun c_ => absurd c_ hm)
  refine lv_aload_n hx hb dX1_reserve_5 rfl (lv_at hl 0 rfl) ?_
  refine gw_get hx hb hts in_X1 hown hK (gw_c0 hG) rfl 0 (by decide) (hts _ q100) (v := .ref (ad 1 0)) rfl dX1_reserve_6 ?_
  refine lv_aload_n hx hb dX1_reserve_9 rfl (lv_at hl 1 rfl) ?_
  refine gw_scallr (va_Run.run (va_runV (As := [.ref (hd 10 tt)]) (rest := []) ⟨hx, hb, hml, hown, hts⟩ (gg_get l D ca es A ad hd σ γ ord tt (hKo.2 _ ht).1 (hKo.2 _ ht).2 hKo) (cwV 1 hts (lw_V q224 q225 q226 q43 q227) rfl rfl rfl (by decide +kernel) ⟨Nat.le_of_ble_eq_true rfl, Nat.le_of_ble_eq_true rfl⟩) (gw_grecv [.ref (hd 10 tt)] gw_gPb (gw_c1 hG) rfl hK (fun U hU hW => gw_gat hU hW hG hK hE hN hA hS)) rfl rfl hl.1 rfl (lv_room (Nat.le_of_ble_eq_true rfl)) dX1_reserve_10 ⟨Nat.le_of_ble_eq_true rfl, Nat.le_of_ble_eq_true rfl⟩)) ?_
  refine gw_topr (y := .ref (hd 11 (tt))) (gw_ifs ht) ?_
  refine lv_dup hx hb dX1_reserve_13 rfl ?_
  refine gw_getN hx hb hts in_X5 hown hK (gw_c11 hG (j := tt) ht) rfl 5 (by decide) (hN.1 _ q396 rfl) (v := .int (σ 5 tt)) rfl dX1_reserve_14 ?_
  refine lv_iload_n hx hb dX1_reserve_17 rfl (lv_at hl 2 rfl) ?_
  refine lv_iadd hx hb dX1_reserve_18 ?_
  refine gw_gput11_5 (j := tt) hx hb hts hown hK hG hS ht (hN.1 _ q396 rfl) dX1_reserve_19 (fun H locs hG hS => ?_)
  refine lv_aload_n hx hb dX1_reserve_22 rfl (lv_at hl 0 rfl) ?_
  have hG := gw_gW.nu hG (show gw_nu (gw_up σ 5 tt ((σ 5 tt) + money)) = gw_nu σ from (gw_nu_up rfl))
  refine gw_new (ci := 6) (fs := [.null, .int 0, .int 0]) (C := RX7) (T := TX7) (N := 3) hx hb hts in_X7 tyX7 tyX7_ok hown (hts _ q187) (hts _ q454) (hts _ q55) hK hS rfl (fun j hj => by rcases (show j = 0 ∨ j = 1 ∨ j = 2 by omega) with rfl | rfl | rfl <;> rfl) (Nat.le_of_ble_eq_true rfl) (Nat.le_of_ble_eq_true rfl) dX1_reserve_23 (fun q H1 hq he ho hS1 => ?_)
  have hfr := gw_fresh hG hS hA hq
  have hG := gw_gkept hG (fun x h1 _ => ho x h1)
  refine lv_dup hx hb dX1_reserve_26 rfl ?_
  refine lv_aload_n hx hb dX1_reserve_27 rfl (lv_at hl 1 rfl) ?_
  refine lv_iload_n hx hb dX1_reserve_28 rfl (lv_at hl 2 rfl) ?_
  refine lv_iload_n hx hb dX1_reserve_29 rfl (lv_at hl 3 rfl) ?_
  refine gw_ctor (va_runI (As := [.ref (hd 10 tt), .int money, .int app]) (rest := [.ref q, .ref (ad 0 0)]) ⟨hx, hb, hml, hown, hts⟩ (gg_init_X7 l D ca q (hd 10 tt) money app) (cwI 3 hts (lw_meth q457) rfl rfl rfl (hts _ q55) (hts _ q455) (hts _ q456) rfl (by decide +kernel) ⟨Nat.le_of_ble_eq_true rfl, Nat.le_of_ble_eq_true rfl⟩) ⟨fun a U g mk z => ⟨z.1, z.2.1, va_K.moved (u := U) (U := U.calling g mk a) (Vm.Alike.refl U.vm) z.2.2⟩, fun U hU hW => ⟨rfl, by show va_at D gw_cl _ U.heap; rw [hU]; exact he, va_K.moved hW.alike hK⟩⟩ rfl rfl hl.1 rfl (lv_room (Nat.le_of_ble_eq_true rfl)) dX1_reserve_30 ⟨Nat.le_of_ble_eq_true rfl, Nat.le_of_ble_eq_true rfl⟩) hS1 hfr.2 (fun H2 locs2 he ho hz hS => ?_)
  have hG := gw_gkeptq hG hfr.1 ho
  have hent : gw_ent hd (gw_push (gw_up σ 5 tt ((σ 5 tt) + money)) (gw_n (gw_up σ 5 tt ((σ 5 tt) + money)) 31) 1 tt money app) (gw_n (gw_up σ 5 tt ((σ 5 tt) + money)) 31) = .inr (6, [.ref (hd 10 tt), .int money, .int app]) := by unfold gw_ent; rw [gw_push_32, gw_push_33, gw_push_34, gw_push_35, gw_ix_nI (by have := (hKo.2 _ ht).1; omega)]; rfl
  refine gw_callv (va_runV (As := [.ref q]) (rest := []) ⟨hx, hb, hml, hown, hts⟩ (gg_addE l D ca es A ad hd (gw_up σ 5 tt ((σ 5 tt) + money)) γ ord q tt 6 1 money app [.ref (hd 10 tt), .int money, .int app] (RX7, TX7, 3) h31 hb31 hent rfl q1167 hfr) (cwV 1 hts (lw_V q428 q430 qs7 q42 q431) rfl rfl rfl (by decide +kernel) ⟨Nat.le_of_ble_eq_true rfl, Nat.le_of_ble_eq_true rfl⟩) ⟨gw_gblind (fun a U g mk z => ⟨gw_gPb a U g mk z.1, z.2⟩), va_recv hK (gw_P1 (gw_c0 hG)) (q0 := 0) (ci := 0) rfl rfl, fun U hU hW => ⟨rfl, gw_gat hU hW hG hK hE hN hA hS, by rw [hU]; exact he⟩⟩ rfl rfl hl.1 rfl (lv_room (Nat.le_of_ble_eq_true rfl)) dX1_reserve_33 ⟨Nat.le_of_ble_eq_true rfl, Nat.le_of_ble_eq_true rfl⟩) hS (fun H locs hG hS => ?_)
  refine W.widen (k := 1) (n := 3) (Nat.le_of_ble_eq_true rfl) (Nat.le_of_ble_eq_true rfl) ?_
  exact W.vret hx hb hr (fun t ht hW => ⟨⟨q, rfl, trivial, by show gw_gW D ca es A ad _ _ _ _ _ t.heap; rw [ht]; exact hG⟩, hS.F ht⟩) hS.2.2 dX1_reserve_36

set_option maxHeartbeats 4000000 in
set_option maxRecDepth 100000 in
theorem gg_giveBack0 (l : Launch) (D : va_G) (ca : Nat → ClassId) (es : Nat → Nat) (A : Nat → Prop) (ad hd : Nat → Nat → Nat) (σ γ : gw_S) (ord : List Nat) (tt : Nat) (app : Int32) : Met l yX1_giveBack (ws_ yX1_giveBack cX1_giveBack 4 none) ({ frames := 1, cells := 0, slots := 0, locals := 12 }) (va_Pc [.ref (ad 0 0), .ref (hd 10 tt), .int 0, .int app] (gw_gP D ca es A ad hd σ γ ord (gw_nu σ))) (va_Sv (fun _ => True)) 0 0 (fun _ => False) := by
  refine Met.ofW (cc := cX1_giveBack) (maxL := 4) (ret := none) (by decide) rfl ?_
  intro p e s m args below meth c s₁ B hml hv
  obtain ⟨rfl, hG, hK, hE, hN, hA⟩ := hv
  have hx := B.exec
  have hb := B.bytes
  have hr := B.returns
  have hts := atoms_spec (ws := ws_ yX1_giveBack cX1_giveBack 4 none) B.pre
  have hts : ∀ w ∈ lw_all, w.before _ s = true := fun w h => hts w (List.mem_cons_of_mem _ h)
  have hown : s.vm.findClass RX1 = some m.cls := findClass_of_methodNamed B.named
  have hlocks := B.notSynchronized
  have hS : va_S A s.heap s.heap [] := va_S.rf
  have hl := lv_entry ([.ref (ad 0 0), .ref (hd 10 tt), .int 0, .int app]) (n := 4) (Nat.le_of_ble_eq_true rfl)
  rw [lg_entry_eq]
  generalize (lg_sl ([.ref (ad 0 0), .ref (hd 10 tt), .int 0, .int app]) ++ List.replicate (4 - (lg_sl ([.ref (ad 0 0), .ref (hd 10 tt), .int 0, .int app])).length) Slot.unset).toArray = ls at hl ⊢
  have hl : lv_has ls 4 [(0, .ref (ad 0 0)), (1, .ref (hd 10 tt)), (2, .int 0), (3, .int app)] := hl
  refine lv_iload_n hx hb dX1_giveBack_0 rfl (lv_at hl 2 rfl) ?_
  refine lv_if_ne (tgt := 5) hx hb dX1_giveBack_1 (by decide) (fun c_ => absurd c_ (by decide)) (fun _ => ?_)
  exact W.vret hx hb hr (fun t ht hW => ⟨rfl, trivial, ht⟩) (fun q h => by cases h) dX1_giveBack_4

set_option maxHeartbeats 4000000 in
set_option maxRecDepth 100000 in
theorem gg_giveBack1 (l : Launch) (D : va_G) (ca : Nat → ClassId) (es : Nat → Nat) (A : Nat → Prop) (ad hd : Nat → Nat → Nat) (σ γ : gw_S) (ord : List Nat) (tt : Nat) (money app : Int32) (hm : ¬ money = 0) (ht : tt ∈ ord) (hKo : gw_Ko γ ord) (h31 : σ 31 0 = nI (gw_n σ 31)) (hb31 : gw_n σ 31 < 400) : Met l yX1_giveBack (ws_ yX1_giveBack cX1_giveBack 4 none) ({ frames := 3, cells := 1, slots := 3, locals := 76 }) (va_Pc [.ref (ad 0 0), .ref (hd 10 tt), .int money, .int app] (gw_gP D ca es A ad hd σ γ ord (gw_nu σ))) (va_Qv (fun (_ : Nat) => True) (fun q t => gw_gW D ca es A ad (gw_hd hd 15 (gw_n (gw_up σ 5 tt (σ 5 tt - money)) 31) q) (gw_up (gw_push (gw_up σ 5 tt (σ 5 tt - money)) (gw_n (gw_up σ 5 tt (σ 5 tt - money)) 31) 3 tt money app) 31 0 ((gw_up σ 5 tt (σ 5 tt - money)) 31 0 + 1)) γ ord (gw_nu (gw_up (gw_push (gw_up σ 5 tt (σ 5 tt - money)) (gw_n (gw_up σ 5 tt (σ 5 tt - money)) 31) 3 tt money app) 31 0 ((gw_up σ 5 tt (σ 5 tt - money)) 31 0 + 1))) t.heap) A) 1 3 A := by
  refine Met.ofW (cc := cX1_giveBack) (maxL := 4) (ret := none) (by decide) rfl ?_
  intro p e s m args below meth c s₁ B hml hv
  obtain ⟨rfl, hG, hK, hE, hN, hA⟩ := hv
  have hx := B.exec
  have hb := B.bytes
  have hr := B.returns
  have hts := atoms_spec (ws := ws_ yX1_giveBack cX1_giveBack 4 none) B.pre
  have hts : ∀ w ∈ lw_all, w.before _ s = true := fun w h => hts w (List.mem_cons_of_mem _ h)
  have hown : s.vm.findClass RX1 = some m.cls := findClass_of_methodNamed B.named
  have hlocks := B.notSynchronized
  have hS : va_S A s.heap s.heap [] := va_S.rf
  have hl := lv_entry ([.ref (ad 0 0), .ref (hd 10 tt), .int money, .int app]) (n := 4) (Nat.le_of_ble_eq_true rfl)
  rw [lg_entry_eq]
  generalize (lg_sl ([.ref (ad 0 0), .ref (hd 10 tt), .int money, .int app]) ++ List.replicate (4 - (lg_sl ([.ref (ad 0 0), .ref (hd 10 tt), .int money, .int app])).length) Slot.unset).toArray = ls at hl ⊢
  have hl : lv_has ls 4 [(0, .ref (ad 0 0)), (1, .ref (hd 10 tt)), (2, .int money), (3, .int app)] := hl
  refine lv_iload_n hx hb dX1_giveBack_0 rfl (lv_at hl 2 rfl) ?_
  refine lv_if_ne (tgt := 5) hx hb dX1_giveBack_1 (by decide) (fun _ => ?_) (fun c_ => absurd c_ hm)
  refine lv_aload_n hx hb dX1_giveBack_5 rfl (lv_at hl 0 rfl) ?_
  refine gw_get hx hb hts in_X1 hown hK (gw_c0 hG) rfl 0 (by decide) (hts _ q100) (v := .ref (ad 1 0)) rfl dX1_giveBack_6 ?_
  refine lv_aload_n hx hb dX1_giveBack_9 rfl (lv_at hl 1 rfl) ?_
  refine gw_scallr (va_Run.run (va_runV (As := [.ref (hd 10 tt)]) (rest := []) ⟨hx, hb, hml, hown, hts⟩ (gg_get l D ca es A ad hd σ γ ord tt (hKo.2 _ ht).1 (hKo.2 _ ht).2 hKo) (cwV 1 hts (lw_V q224 q225 q226 q43 q227) rfl rfl rfl (by decide +kernel) ⟨Nat.le_of_ble_eq_true rfl, Nat.le_of_ble_eq_true rfl⟩) (gw_grecv [.ref (hd 10 tt)] gw_gPb (gw_c1 hG) rfl hK (fun U hU hW => gw_gat hU hW hG hK hE hN hA hS)) rfl rfl hl.1 rfl (lv_room (Nat.le_of_ble_eq_true rfl)) dX1_giveBack_10 ⟨Nat.le_of_ble_eq_true rfl, Nat.le_of_ble_eq_true rfl⟩)) ?_
  refine gw_topr (y := .ref (hd 11 (tt))) (gw_ifs ht) ?_
  refine lv_dup hx hb dX1_giveBack_13 rfl ?_
  refine gw_getN hx hb hts in_X5 hown hK (gw_c11 hG (j := tt) ht) rfl 5 (by decide) (hN.1 _ q396 rfl) (v := .int (σ 5 tt)) rfl dX1_giveBack_14 ?_
  refine lv_iload_n hx hb dX1_giveBack_17 rfl (lv_at hl 2 rfl) ?_
  refine lv_isub hx hb dX1_giveBack_18 ?_
  refine gw_gput11_5 (j := tt) hx hb hts hown hK hG hS ht (hN.1 _ q396 rfl) dX1_giveBack_19 (fun H locs hG hS => ?_)
  refine lv_aload_n hx hb dX1_giveBack_22 rfl (lv_at hl 0 rfl) ?_
  have hG := gw_gW.nu hG (show gw_nu (gw_up σ 5 tt ((σ 5 tt) - money)) = gw_nu σ from (gw_nu_up rfl))
  refine gw_new (ci := 9) (fs := [.null, .int 0, .int 0]) (C := RX10) (T := TX10) (N := 3) hx hb hts in_X10 tyX10 tyX10_ok hown (hts _ q189) (hts _ q733) (hts _ q62) hK hS rfl (fun j hj => by rcases (show j = 0 ∨ j = 1 ∨ j = 2 by omega) with rfl | rfl | rfl <;> rfl) (Nat.le_of_ble_eq_true rfl) (Nat.le_of_ble_eq_true rfl) dX1_giveBack_23 (fun q H1 hq he ho hS1 => ?_)
  have hfr := gw_fresh hG hS hA hq
  have hG := gw_gkept hG (fun x h1 _ => ho x h1)
  refine lv_dup hx hb dX1_giveBack_26 rfl ?_
  refine lv_aload_n hx hb dX1_giveBack_27 rfl (lv_at hl 1 rfl) ?_
  refine lv_iload_n hx hb dX1_giveBack_28 rfl (lv_at hl 2 rfl) ?_
  refine lv_iload_n hx hb dX1_giveBack_29 rfl (lv_at hl 3 rfl) ?_
  refine gw_ctor (va_runI (As := [.ref (hd 10 tt), .int money, .int app]) (rest := [.ref q, .ref (ad 0 0)]) ⟨hx, hb, hml, hown, hts⟩ (gg_init_X10 l D ca q (hd 10 tt) money app) (cwI 3 hts (lw_meth q736) rfl rfl rfl (hts _ q62) (hts _ q734) (hts _ q735) rfl (by decide +kernel) ⟨Nat.le_of_ble_eq_true rfl, Nat.le_of_ble_eq_true rfl⟩) ⟨fun a U g mk z => ⟨z.1, z.2.1, va_K.moved (u := U) (U := U.calling g mk a) (Vm.Alike.refl U.vm) z.2.2⟩, fun U hU hW => ⟨rfl, by show va_at D gw_cl _ U.heap; rw [hU]; exact he, va_K.moved hW.alike hK⟩⟩ rfl rfl hl.1 rfl (lv_room (Nat.le_of_ble_eq_true rfl)) dX1_giveBack_30 ⟨Nat.le_of_ble_eq_true rfl, Nat.le_of_ble_eq_true rfl⟩) hS1 hfr.2 (fun H2 locs2 he ho hz hS => ?_)
  have hG := gw_gkeptq hG hfr.1 ho
  have hent : gw_ent hd (gw_push (gw_up σ 5 tt ((σ 5 tt) - money)) (gw_n (gw_up σ 5 tt ((σ 5 tt) - money)) 31) 3 tt money app) (gw_n (gw_up σ 5 tt ((σ 5 tt) - money)) 31) = .inr (9, [.ref (hd 10 tt), .int money, .int app]) := by unfold gw_ent; rw [gw_push_32, gw_push_33, gw_push_34, gw_push_35, gw_ix_nI (by have := (hKo.2 _ ht).1; omega)]; rfl
  refine gw_callv (va_runV (As := [.ref q]) (rest := []) ⟨hx, hb, hml, hown, hts⟩ (gg_addE l D ca es A ad hd (gw_up σ 5 tt ((σ 5 tt) - money)) γ ord q tt 9 3 money app [.ref (hd 10 tt), .int money, .int app] (RX10, TX10, 3) h31 hb31 hent rfl q1169 hfr) (cwV 1 hts (lw_V q428 q430 qs7 q42 q431) rfl rfl rfl (by decide +kernel) ⟨Nat.le_of_ble_eq_true rfl, Nat.le_of_ble_eq_true rfl⟩) ⟨gw_gblind (fun a U g mk z => ⟨gw_gPb a U g mk z.1, z.2⟩), va_recv hK (gw_P1 (gw_c0 hG)) (q0 := 0) (ci := 0) rfl rfl, fun U hU hW => ⟨rfl, gw_gat hU hW hG hK hE hN hA hS, by rw [hU]; exact he⟩⟩ rfl rfl hl.1 rfl (lv_room (Nat.le_of_ble_eq_true rfl)) dX1_giveBack_33 ⟨Nat.le_of_ble_eq_true rfl, Nat.le_of_ble_eq_true rfl⟩) hS (fun H locs hG hS => ?_)
  refine W.widen (k := 1) (n := 3) (Nat.le_of_ble_eq_true rfl) (Nat.le_of_ble_eq_true rfl) ?_
  exact W.vret hx hb hr (fun t ht hW => ⟨⟨q, rfl, trivial, by show gw_gW D ca es A ad _ _ _ _ _ t.heap; rw [ht]; exact hG⟩, hS.F ht⟩) hS.2.2 dX1_giveBack_36

set_option maxHeartbeats 4000000 in
set_option maxRecDepth 100000 in
theorem gg_pay0 (l : Launch) (D : va_G) (ca : Nat → ClassId) (es : Nat → Nat) (A : Nat → Prop) (ad hd : Nat → Nat → Nat) (σ γ : gw_S) (ord : List Nat) (tt : Nat) (app : Int32) : Met l yX1_pay (ws_ yX1_pay cX1_pay 4 none) ({ frames := 1, cells := 0, slots := 0, locals := 12 }) (va_Pc [.ref (ad 0 0), .ref (hd 10 tt), .int 0, .int app] (gw_gP D ca es A ad hd σ γ ord (gw_nu σ))) (va_Sv (fun _ => True)) 0 0 (fun _ => False) := by
  refine Met.ofW (cc := cX1_pay) (maxL := 4) (ret := none) (by decide) rfl ?_
  intro p e s m args below meth c s₁ B hml hv
  obtain ⟨rfl, hG, hK, hE, hN, hA⟩ := hv
  have hx := B.exec
  have hb := B.bytes
  have hr := B.returns
  have hts := atoms_spec (ws := ws_ yX1_pay cX1_pay 4 none) B.pre
  have hts : ∀ w ∈ lw_all, w.before _ s = true := fun w h => hts w (List.mem_cons_of_mem _ h)
  have hown : s.vm.findClass RX1 = some m.cls := findClass_of_methodNamed B.named
  have hlocks := B.notSynchronized
  have hS : va_S A s.heap s.heap [] := va_S.rf
  have hl := lv_entry ([.ref (ad 0 0), .ref (hd 10 tt), .int 0, .int app]) (n := 4) (Nat.le_of_ble_eq_true rfl)
  rw [lg_entry_eq]
  generalize (lg_sl ([.ref (ad 0 0), .ref (hd 10 tt), .int 0, .int app]) ++ List.replicate (4 - (lg_sl ([.ref (ad 0 0), .ref (hd 10 tt), .int 0, .int app])).length) Slot.unset).toArray = ls at hl ⊢
  have hl : lv_has ls 4 [(0, .ref (ad 0 0)), (1, .ref (hd 10 tt)), (2, .int 0), (3, .int app)] := hl
  refine lv_iload_n hx hb dX1_pay_0 rfl (lv_at hl 2 rfl) ?_
  refine lv_if_ne (tgt := 5) hx hb dX1_pay_1 (by decide) (fun c_ => absurd c_ (by decide)) (fun _ => ?_)
  exact W.vret hx hb hr (fun t ht hW => ⟨rfl, trivial, ht⟩) (fun q h => by cases h) dX1_pay_4

set_option maxHeartbeats 4000000 in
set_option maxRecDepth 100000 in
theorem gg_pay1 (l : Launch) (D : va_G) (ca : Nat → ClassId) (es : Nat → Nat) (A : Nat → Prop) (ad hd : Nat → Nat → Nat) (σ γ : gw_S) (ord : List Nat) (tt : Nat) (money app : Int32) (hm : ¬ money = 0) (ht : tt ∈ ord) (hKo : gw_Ko γ ord) (h31 : σ 31 0 = nI (gw_n σ 31)) (hb31 : gw_n σ 31 < 400) : Met l yX1_pay (ws_ yX1_pay cX1_pay 4 none) ({ frames := 3, cells := 1, slots := 3, locals := 76 }) (va_Pc [.ref (ad 0 0), .ref (hd 10 tt), .int money, .int app] (gw_gP D ca es A ad hd σ γ ord (gw_nu σ))) (va_Qv (fun (_ : Nat) => True) (fun q t => gw_gW D ca es A ad (gw_hd hd 15 (gw_n (gw_up (gw_up σ 5 tt (σ 5 tt - money)) 6 tt (σ 6 tt + money)) 31) q) (gw_up (gw_push (gw_up (gw_up σ 5 tt (σ 5 tt - money)) 6 tt (σ 6 tt + money)) (gw_n (gw_up (gw_up σ 5 tt (σ 5 tt - money)) 6 tt (σ 6 tt + money)) 31) 2 tt money app) 31 0 ((gw_up (gw_up σ 5 tt (σ 5 tt - money)) 6 tt (σ 6 tt + money)) 31 0 + 1)) γ ord (gw_nu (gw_up (gw_push (gw_up (gw_up σ 5 tt (σ 5 tt - money)) 6 tt (σ 6 tt + money)) (gw_n (gw_up (gw_up σ 5 tt (σ 5 tt - money)) 6 tt (σ 6 tt + money)) 31) 2 tt money app) 31 0 ((gw_up (gw_up σ 5 tt (σ 5 tt - money)) 6 tt (σ 6 tt + money)) 31 0 + 1))) t.heap) A) 1 3 A := by
  refine Met.ofW (cc := cX1_pay) (maxL := 4) (ret := none) (by decide) rfl ?_
  intro p e s m args below meth c s₁ B hml hv
  obtain ⟨rfl, hG, hK, hE, hN, hA⟩ := hv
  have hx := B.exec
  have hb := B.bytes
  have hr := B.returns
  have hts := atoms_spec (ws := ws_ yX1_pay cX1_pay 4 none) B.pre
  have hts : ∀ w ∈ lw_all, w.before _ s = true := fun w h => hts w (List.mem_cons_of_mem _ h)
  have hown : s.vm.findClass RX1 = some m.cls := findClass_of_methodNamed B.named
  have hlocks := B.notSynchronized
  have hS : va_S A s.heap s.heap [] := va_S.rf
  have hl := lv_entry ([.ref (ad 0 0), .ref (hd 10 tt), .int money, .int app]) (n := 4) (Nat.le_of_ble_eq_true rfl)
  rw [lg_entry_eq]
  generalize (lg_sl ([.ref (ad 0 0), .ref (hd 10 tt), .int money, .int app]) ++ List.replicate (4 - (lg_sl ([.ref (ad 0 0), .ref (hd 10 tt), .int money, .int app])).length) Slot.unset).toArray = ls at hl ⊢
  have hl : lv_has ls 4 [(0, .ref (ad 0 0)), (1, .ref (hd 10 tt)), (2, .int money), (3, .int app)] := hl
  refine lv_iload_n hx hb dX1_pay_0 rfl (lv_at hl 2 rfl) ?_
  refine lv_if_ne (tgt := 5) hx hb dX1_pay_1 (by decide) (fun _ => ?_) (fun c_ => absurd c_ hm)
  refine lv_aload_n hx hb dX1_pay_5 rfl (lv_at hl 0 rfl) ?_
  refine gw_get hx hb hts in_X1 hown hK (gw_c0 hG) rfl 0 (by decide) (hts _ q100) (v := .ref (ad 1 0)) rfl dX1_pay_6 ?_
  refine lv_aload_n hx hb dX1_pay_9 rfl (lv_at hl 1 rfl) ?_
  refine gw_scallr (va_Run.run (va_runV (As := [.ref (hd 10 tt)]) (rest := []) ⟨hx, hb, hml, hown, hts⟩ (gg_get l D ca es A ad hd σ γ ord tt (hKo.2 _ ht).1 (hKo.2 _ ht).2 hKo) (cwV 1 hts (lw_V q224 q225 q226 q43 q227) rfl rfl rfl (by decide +kernel) ⟨Nat.le_of_ble_eq_true rfl, Nat.le_of_ble_eq_true rfl⟩) (gw_grecv [.ref (hd 10 tt)] gw_gPb (gw_c1 hG) rfl hK (fun U hU hW => gw_gat hU hW hG hK hE hN hA hS)) rfl rfl hl.1 rfl (lv_room (Nat.le_of_ble_eq_true rfl)) dX1_pay_10 ⟨Nat.le_of_ble_eq_true rfl, Nat.le_of_ble_eq_true rfl⟩)) ?_
  refine gw_topr (y := .ref (hd 11 (tt))) (gw_ifs ht) ?_
  refine lv_dup hx hb dX1_pay_13 rfl ?_
  refine gw_getN hx hb hts in_X5 hown hK (gw_c11 hG (j := tt) ht) rfl 5 (by decide) (hN.1 _ q396 rfl) (v := .int (σ 5 tt)) rfl dX1_pay_14 ?_
  refine lv_iload_n hx hb dX1_pay_17 rfl (lv_at hl 2 rfl) ?_
  refine lv_isub hx hb dX1_pay_18 ?_
  refine gw_gput11_5 (j := tt) hx hb hts hown hK hG hS ht (hN.1 _ q396 rfl) dX1_pay_19 (fun H locs hG hS => ?_)
  refine lv_aload_n hx hb dX1_pay_22 rfl (lv_at hl 0 rfl) ?_
  refine gw_get hx hb hts in_X1 hown hK (gw_c0 hG) rfl 0 (by decide) (hts _ q100) (v := .ref (ad 1 0)) rfl dX1_pay_23 ?_
  refine lv_aload_n hx hb dX1_pay_26 rfl (lv_at hl 1 rfl) ?_
  have hG := gw_gW.nu hG (show gw_nu (gw_up σ 5 tt ((σ 5 tt) - money)) = gw_nu σ from (gw_nu_up rfl))
  refine gw_scallr (va_Run.run (va_runV (As := [.ref (hd 10 tt)]) (rest := []) ⟨hx, hb, hml, hown, hts⟩ (gg_get l D ca es A ad hd (gw_up σ 5 tt ((σ 5 tt) - money)) γ ord tt (hKo.2 _ ht).1 (hKo.2 _ ht).2 hKo) (cwV 1 hts (lw_V q224 q225 q226 q43 q227) rfl rfl rfl (by decide +kernel) ⟨Nat.le_of_ble_eq_true rfl, Nat.le_of_ble_eq_true rfl⟩) (gw_grecv [.ref (hd 10 tt)] gw_gPb (gw_c1 hG) rfl hK (fun U hU hW => gw_gat hU hW hG hK hE hN hA hS)) rfl rfl hl.1 rfl (lv_room (Nat.le_of_ble_eq_true rfl)) dX1_pay_27 ⟨Nat.le_of_ble_eq_true rfl, Nat.le_of_ble_eq_true rfl⟩)) ?_
  refine gw_topr (y := .ref (hd 11 (tt))) (gw_ifs ht) ?_
  refine lv_dup hx hb dX1_pay_30 rfl ?_
  refine gw_getN hx hb hts in_X5 hown hK (gw_c11 hG (j := tt) ht) rfl 6 (by decide) (hN.1 _ q398 rfl) (v := .int (σ 6 tt)) rfl dX1_pay_31 ?_
  refine lv_iload_n hx hb dX1_pay_34 rfl (lv_at hl 2 rfl) ?_
  refine lv_iadd hx hb dX1_pay_35 ?_
  refine gw_gput11_6 (j := tt) hx hb hts hown hK hG hS ht (hN.1 _ q398 rfl) dX1_pay_36 (fun H locs hG hS => ?_)
  refine lv_aload_n hx hb dX1_pay_39 rfl (lv_at hl 0 rfl) ?_
  have hG := gw_gW.nu hG (show gw_nu (gw_up (gw_up σ 5 tt ((σ 5 tt) - money)) 6 tt ((σ 6 tt) + money)) = gw_nu (gw_up σ 5 tt ((σ 5 tt) - money)) from (gw_nu_up rfl))
  refine gw_new (ci := 8) (fs := [.null, .int 0, .int 0]) (C := RX9) (T := TX9) (N := 3) hx hb hts in_X9 tyX9 tyX9_ok hown (hts _ q188) (hts _ q711) (hts _ q61) hK hS rfl (fun j hj => by rcases (show j = 0 ∨ j = 1 ∨ j = 2 by omega) with rfl | rfl | rfl <;> rfl) (Nat.le_of_ble_eq_true rfl) (Nat.le_of_ble_eq_true rfl) dX1_pay_40 (fun q H1 hq he ho hS1 => ?_)
  have hfr := gw_fresh hG hS hA hq
  have hG := gw_gkept hG (fun x h1 _ => ho x h1)
  refine lv_dup hx hb dX1_pay_43 rfl ?_
  refine lv_aload_n hx hb dX1_pay_44 rfl (lv_at hl 1 rfl) ?_
  refine lv_iload_n hx hb dX1_pay_45 rfl (lv_at hl 2 rfl) ?_
  refine lv_iload_n hx hb dX1_pay_46 rfl (lv_at hl 3 rfl) ?_
  refine gw_ctor (va_runI (As := [.ref (hd 10 tt), .int money, .int app]) (rest := [.ref q, .ref (ad 0 0)]) ⟨hx, hb, hml, hown, hts⟩ (gg_init_X9 l D ca q (hd 10 tt) money app) (cwI 3 hts (lw_meth q714) rfl rfl rfl (hts _ q61) (hts _ q712) (hts _ q713) rfl (by decide +kernel) ⟨Nat.le_of_ble_eq_true rfl, Nat.le_of_ble_eq_true rfl⟩) ⟨fun a U g mk z => ⟨z.1, z.2.1, va_K.moved (u := U) (U := U.calling g mk a) (Vm.Alike.refl U.vm) z.2.2⟩, fun U hU hW => ⟨rfl, by show va_at D gw_cl _ U.heap; rw [hU]; exact he, va_K.moved hW.alike hK⟩⟩ rfl rfl hl.1 rfl (lv_room (Nat.le_of_ble_eq_true rfl)) dX1_pay_47 ⟨Nat.le_of_ble_eq_true rfl, Nat.le_of_ble_eq_true rfl⟩) hS1 hfr.2 (fun H2 locs2 he ho hz hS => ?_)
  have hG := gw_gkeptq hG hfr.1 ho
  have hent : gw_ent hd (gw_push (gw_up (gw_up σ 5 tt ((σ 5 tt) - money)) 6 tt ((σ 6 tt) + money)) (gw_n (gw_up (gw_up σ 5 tt ((σ 5 tt) - money)) 6 tt ((σ 6 tt) + money)) 31) 2 tt money app) (gw_n (gw_up (gw_up σ 5 tt ((σ 5 tt) - money)) 6 tt ((σ 6 tt) + money)) 31) = .inr (8, [.ref (hd 10 tt), .int money, .int app]) := by unfold gw_ent; rw [gw_push_32, gw_push_33, gw_push_34, gw_push_35, gw_ix_nI (by have := (hKo.2 _ ht).1; omega)]; rfl
  refine gw_callv (va_runV (As := [.ref q]) (rest := []) ⟨hx, hb, hml, hown, hts⟩ (gg_addE l D ca es A ad hd (gw_up (gw_up σ 5 tt ((σ 5 tt) - money)) 6 tt ((σ 6 tt) + money)) γ ord q tt 8 2 money app [.ref (hd 10 tt), .int money, .int app] (RX9, TX9, 3) h31 hb31 hent rfl q1168 hfr) (cwV 1 hts (lw_V q428 q430 qs7 q42 q431) rfl rfl rfl (by decide +kernel) ⟨Nat.le_of_ble_eq_true rfl, Nat.le_of_ble_eq_true rfl⟩) ⟨gw_gblind (fun a U g mk z => ⟨gw_gPb a U g mk z.1, z.2⟩), va_recv hK (gw_P1 (gw_c0 hG)) (q0 := 0) (ci := 0) rfl rfl, fun U hU hW => ⟨rfl, gw_gat hU hW hG hK hE hN hA hS, by rw [hU]; exact he⟩⟩ rfl rfl hl.1 rfl (lv_room (Nat.le_of_ble_eq_true rfl)) dX1_pay_50 ⟨Nat.le_of_ble_eq_true rfl, Nat.le_of_ble_eq_true rfl⟩) hS (fun H locs hG hS => ?_)
  refine W.widen (k := 1) (n := 3) (Nat.le_of_ble_eq_true rfl) (Nat.le_of_ble_eq_true rfl) ?_
  exact W.vret hx hb hr (fun t ht hW => ⟨⟨q, rfl, trivial, by show gw_gW D ca es A ad _ _ _ _ _ t.heap; rw [ht]; exact hG⟩, hS.F ht⟩) hS.2.2 dX1_pay_53
