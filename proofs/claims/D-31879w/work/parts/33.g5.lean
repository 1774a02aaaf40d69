/-! THE CLASS 5 -/
set_option maxRecDepth 100000
set_option maxHeartbeats 4000000 in
set_option maxRecDepth 100000 in
theorem gg_keyOf (l : Launch) (D : va_G) (ca : Nat → ClassId) (es : Nat → Nat) (A : Nat → Prop) (ad hd : Nat → Nat → Nat) (σ γ : gw_S) (ord : List Nat) (f y : Nat) (hf : f < 4) (hy : y < 12) (hKo : gw_Ko γ ord) (hEn : ∀ x, x < gw_n σ 31 → ¬ γ 8 (gw_ix (σ 33 x)) = 0) : Met l yX1_keyOf (ws_ yX1_keyOf cX1_keyOf 4 (some (.object "Grantworks$Key"))) ({ frames := 2, cells := 1, slots := 2, locals := 76 }) (va_Pc [.ref (ad 0 0), .int (nI f), .int (nI y)] (gw_gP D ca es A ad hd σ γ ord (gw_nu σ))) (va_Qr (fun (u : (Nat → Nat → Nat) × gw_S) => gw_Ext γ u.2 hd u.1 ∧ ¬ u.2 8 (12 * f + y) = 0) (fun u ra t => ra = u.1 10 (12 * f + y) ∧ gw_gW D ca es A ad u.1 σ u.2 ord (gw_nu σ) t.heap) A) 1 2 A := by
  refine Met.ofW (cc := cX1_keyOf) (maxL := 4) (ret := (some (.object "Grantworks$Key"))) (by decide) rfl ?_
  intro p e s m args below meth c s₁ B hml hv
  obtain ⟨rfl, hG, hK, hE, hN, hA⟩ := hv
  have hx := B.exec
  have hb := B.bytes
  have hr := B.returns
  have hts := atoms_spec (ws := ws_ yX1_keyOf cX1_keyOf 4 (some (.object "Grantworks$Key"))) B.pre
  have hts : ∀ w ∈ lw_all, w.before _ s = true := fun w h => hts w (List.mem_cons_of_mem _ h)
  have hown : s.vm.findClass RX1 = some m.cls := findClass_of_methodNamed B.named
  have hlocks := B.notSynchronized
  have hS : va_S A s.heap s.heap [] := va_S.rf
  have hl := lv_entry ([.ref (ad 0 0), .int (nI f), .int (nI y)]) (n := 4) (Nat.le_of_ble_eq_true rfl)
  rw [lg_entry_eq]
  generalize (lg_sl ([.ref (ad 0 0), .int (nI f), .int (nI y)]) ++ List.replicate (4 - (lg_sl ([.ref (ad 0 0), .int (nI f), .int (nI y)])).length) Slot.unset).toArray = ls at hl ⊢
  have hl : lv_has ls 4 [(0, .ref (ad 0 0)), (1, .int (nI f)), (2, .int (nI y))] := hl
  refine lv_bipush (v := 12) hx hb dX1_keyOf_0 (by decide) ?_
  refine lv_iload_n hx hb dX1_keyOf_2 rfl (lv_at hl 1 rfl) ?_
  refine lv_imul hx hb dX1_keyOf_3 ?_
  refine gw_topi (y := nI (12 * f)) (by simp only [gw_lit12, nI_add, pk_mul]) ?_
  refine lv_iload_n hx hb dX1_keyOf_4 rfl (lv_at hl 2 rfl) ?_
  refine lv_iadd hx hb dX1_keyOf_5 ?_
  refine gw_topi (y := nI ((12 * f) + y)) (by simp only [nI_add, pk_mul]) ?_
  refine lv_istore_n (lv' := [(3, .int (nI ((12 * f) + y))), (0, .ref (ad 0 0)), (1, .int (nI f)), (2, .int (nI y))]) hx hb dX1_keyOf_6 rfl hl (by decide) rfl (fun ls hl => ?_)
  rcases Classical.em (γ 8 (12 * f + y) = 0) with hγ | hγ
  · skip
    refine lv_aload_n hx hb dX1_keyOf_7 rfl (lv_at hl 1 rfl) ?_
    refine gw_get hx hb hts in_X1 hown hK (gw_c0 hG) rfl 1 (by decide) (hts _ q101) (v := .ref (ad 2 0)) rfl dX1_keyOf_8 ?_
    refine lv_iload_n hx hb dX1_keyOf_11 rfl (lv_at hl 0 rfl) ?_
    refine gw_qld (i := (12 * f) + y) hx hb hK rfl (gw_c2 hG) (by decide) (by omega) dX1_keyOf_12 (v := .null) (gw_ifq hγ) ?_
    refine lv_ifnonnullN hx hb dX1_keyOf_13 ?_
    refine lv_aload_n hx hb dX1_keyOf_16 rfl (lv_at hl 1 rfl) ?_
    refine gw_get hx hb hts in_X1 hown hK (gw_c0 hG) rfl 1 (by decide) (hts _ q101) (v := .ref (ad 2 0)) rfl dX1_keyOf_17 ?_
    refine lv_iload_n hx hb dX1_keyOf_20 rfl (lv_at hl 0 rfl) ?_
    refine gw_new (ci := 3) (fs := [.int 0, .int 0]) (C := RX4) (T := TX4) (N := 2) hx hb hts in_X4 tyX4 tyX4_ok hown (hts _ q94) (hts _ q210) (hts _ q49) hK hS rfl (fun j hj => by rcases (show j = 0 ∨ j = 1 by omega) with rfl | rfl <;> rfl) (Nat.le_of_ble_eq_true rfl) (Nat.le_of_ble_eq_true rfl) dX1_keyOf_21 (fun q H1 hq he ho hS1 => ?_)
    have hfr := gw_fresh hG hS hA hq
    have hG := gw_gkept hG (fun x h1 _ => ho x h1)
    refine lv_dup hx hb dX1_keyOf_24 rfl ?_
    refine lv_iload_n hx hb dX1_keyOf_25 rfl (lv_at hl 2 rfl) ?_
    refine lv_iload_n hx hb dX1_keyOf_26 rfl (lv_at hl 3 rfl) ?_
    refine gw_ctor (va_runI (As := [.int (nI f), .int (nI y)]) (rest := [.ref q, .int (nI ((12 * f) + y)), .ref (ad 2 0)]) ⟨hx, hb, hml, hown, hts⟩ (gg_init_X4 l D ca q (nI f) (nI y)) (cwI 2 hts (lw_meth q213) rfl rfl rfl (hts _ q49) (hts _ q211) (hts _ q212) rfl (by decide +kernel) ⟨Nat.le_of_ble_eq_true rfl, Nat.le_of_ble_eq_true rfl⟩) ⟨fun a U g mk z => ⟨z.1, z.2.1, va_K.moved (u := U) (U := U.calling g mk a) (Vm.Alike.refl U.vm) z.2.2⟩, fun U hU hW => ⟨rfl, by show va_at D gw_cl _ U.heap; rw [hU]; exact he, va_K.moved hW.alike hK⟩⟩ rfl rfl hl.1 rfl (lv_room (Nat.le_of_ble_eq_true rfl)) dX1_keyOf_27 ⟨Nat.le_of_ble_eq_true rfl, Nat.le_of_ble_eq_true rfl⟩) hS1 hfr.2 (fun H2 locs2 he ho hz hS => ?_)
    have hG := gw_gkeptq hG hfr.1 ho
    refine gw_keyst (j := (12 * f) + y) hx hb hK hG hS (by omega) hγ hKo hEn (gw_keyc hy he) hfr dX1_keyOf_30 (fun H1 locs1 hG hS => ?_)
    refine lv_aload_n hx hb dX1_keyOf_31 rfl (lv_at hl 1 rfl) ?_
    refine gw_get hx hb hts in_X1 hown hK (gw_c0 hG) rfl 1 (by decide) (hts _ q101) (v := .ref (ad 2 0)) rfl dX1_keyOf_32 ?_
    refine lv_iload_n hx hb dX1_keyOf_35 rfl (lv_at hl 0 rfl) ?_
    have hN9 : ¬ (gw_up γ 8 ((12 * f) + y) 1) 8 ((12 * f) + y) = 0 := by rw [gw_up_s]; simp [upd]
    refine gw_qld (i := (12 * f) + y) hx hb hK rfl (gw_c2 hG) (by decide) (by omega) dX1_keyOf_36 (v := .ref (gw_hd hd 10 (12 * f + y) q 10 (12 * f + y))) (gw_ifn hN9) ?_
    have hX9 : gw_Ext γ (gw_up γ 8 (12 * f + y) 1) hd (gw_hd hd 10 (12 * f + y) q) := gw_Ext.key hγ
    have hN9 : ¬ (gw_up γ 8 (12 * f + y) 1) 8 (12 * f + y) = 0 := by rw [gw_up_s]; simp [upd]
    refine W.widen (k := 1) (n := 2) (Nat.le_of_ble_eq_true rfl) (Nat.le_of_ble_eq_true rfl) ?_
    exact W.aret (v := .ref ((gw_hd hd 10 (12 * f + y) q) 10 (12 * f + y))) hx hb hr (.inl ⟨_, rfl⟩) (.inr ⟨_, rfl⟩) (fun t ht hW => ⟨⟨((gw_hd hd 10 (12 * f + y) q), (gw_up γ 8 (12 * f + y) 1)), _, rfl, ⟨hX9, hN9⟩, rfl, by show gw_gW D ca es A ad _ _ _ _ _ t.heap; rw [ht]; exact hG⟩, hS.F ht⟩) hS.2.2 dX1_keyOf_37
  · skip
    refine lv_aload_n hx hb dX1_keyOf_7 rfl (lv_at hl 1 rfl) ?_
    refine gw_get hx hb hts in_X1 hown hK (gw_c0 hG) rfl 1 (by decide) (hts _ q101) (v := .ref (ad 2 0)) rfl dX1_keyOf_8 ?_
    refine lv_iload_n hx hb dX1_keyOf_11 rfl (lv_at hl 0 rfl) ?_
    refine gw_qld (i := (12 * f) + y) hx hb hK rfl (gw_c2 hG) (by decide) (by omega) dX1_keyOf_12 (v := .ref (hd 10 ((12 * f) + y))) (gw_ifn hγ) ?_
    refine lv_ifnonnull (tgt := 31) hx hb dX1_keyOf_13 (by decide) ?_
    refine lv_aload_n hx hb dX1_keyOf_31 rfl (lv_at hl 1 rfl) ?_
    refine gw_get hx hb hts in_X1 hown hK (gw_c0 hG) rfl 1 (by decide) (hts _ q101) (v := .ref (ad 2 0)) rfl dX1_keyOf_32 ?_
    refine lv_iload_n hx hb dX1_keyOf_35 rfl (lv_at hl 0 rfl) ?_
    refine gw_qld (i := (12 * f) + y) hx hb hK rfl (gw_c2 hG) (by decide) (by omega) dX1_keyOf_36 (v := .ref (hd 10 ((12 * f) + y))) (gw_ifn hγ) ?_
    have hX9 : gw_Ext γ γ hd hd := gw_Ext.rf
    have hN9 := hγ
    refine W.widen (k := 1) (n := 2) (Nat.le_of_ble_eq_true rfl) (Nat.le_of_ble_eq_true rfl) ?_
    exact W.aret (v := .ref (hd 10 (12 * f + y))) hx hb hr (.inl ⟨_, rfl⟩) (.inr ⟨_, rfl⟩) (fun t ht hW => ⟨⟨(hd, γ), _, rfl, ⟨hX9, hN9⟩, rfl, by show gw_gW D ca es A ad _ _ _ _ _ t.heap; rw [ht]; exact hG⟩, hS.F ht⟩) hS.2.2 dX1_keyOf_37
