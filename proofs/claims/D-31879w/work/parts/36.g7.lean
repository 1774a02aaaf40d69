/-! THE CLASS 7 -/
set_option maxRecDepth 100000
set_option maxHeartbeats 4000000 in
set_option maxRecDepth 100000 in
theorem gg_addE (l : Launch) (D : va_G) (ca : Nat → ClassId) (es : Nat → Nat) (A : Nat → Prop) (ad hd : Nat → Nat → Nat) (σ γ : gw_S) (ord : List Nat) (q tt ci : Nat) (kind money app : Int32) (vs : List Value) (rr : vw_C) (h31 : σ 31 0 = nI (gw_n σ 31)) (hb31 : gw_n σ 31 < 400) (hent : gw_ent hd (gw_push σ (gw_n σ 31) kind tt money app) (gw_n σ 31) = .inr (ci, vs)) (hc : gw_cl[ci]? = some rr) (hcr : Cond.castable rr.1 "Grantworks$Entry" ∈ lw_tbl) (hfr : (∀ r e, gw_gE ca es ad hd σ γ ord (gw_nu σ) r = some e → gw_ga ad hd r ≠ q) ∧ A q) : Met l yX1_add (ws_ yX1_add cX1_add 2 none) ({ frames := 1, cells := 0, slots := 0, locals := 12 }) (va_Pc [.ref (ad 0 0), .ref q] (fun U => gw_gP D ca es A ad hd σ γ ord (gw_nu σ) U ∧ va_at D gw_cl (q, .inr (ci, vs)) U.heap)) (va_Qv (fun (_ : Unit) => True) (fun _ t => gw_gW D ca es A ad (gw_hd hd 15 (gw_n σ 31) q) (gw_up (gw_push σ (gw_n σ 31) kind tt money app) 31 0 (σ 31 0 + 1)) γ ord (gw_nu (gw_up (gw_push σ (gw_n σ 31) kind tt money app) 31 0 (σ 31 0 + 1))) t.heap) A) 0 0 A := by
  refine Met.ofW (cc := cX1_add) (maxL := 2) (ret := none) (by decide) rfl ?_
  intro p e s m args below meth c s₁ B hml hv
  obtain ⟨rfl, ⟨hG, hK, hE, hN, hA⟩, hkey⟩ := hv
  have hx := B.exec
  have hb := B.bytes
  have hr := B.returns
  have hts := atoms_spec (ws := ws_ yX1_add cX1_add 2 none) B.pre
  have hts : ∀ w ∈ lw_all, w.before _ s = true := fun w h => hts w (List.mem_cons_of_mem _ h)
  have hown : s.vm.findClass RX1 = some m.cls := findClass_of_methodNamed B.named
  have hlocks := B.notSynchronized
  have hS : va_S A s.heap s.heap [] := va_S.rf
  have hl := lv_entry ([.ref (ad 0 0), .ref q]) (n := 2) (Nat.le_of_ble_eq_true rfl)
  rw [lg_entry_eq]
  generalize (lg_sl ([.ref (ad 0 0), .ref q]) ++ List.replicate (2 - (lg_sl ([.ref (ad 0 0), .ref q])).length) Slot.unset).toArray = ls at hl ⊢
  have hl : lv_has ls 2 [(0, .ref (ad 0 0)), (1, .ref q)] := hl
  refine lv_aload_n hx hb dX1_add_0 rfl (lv_at hl 0 rfl) ?_
  refine gw_get hx hb hts in_X1 hown hK (gw_c0 hG) rfl 2 (by decide) (hts _ q102) (v := .ref (ad 3 0)) rfl dX1_add_1 ?_
  refine lv_aload_n hx hb dX1_add_4 rfl (lv_at hl 0 rfl) ?_
  refine gw_get hx hb hts in_X1 hown hK (gw_c0 hG) rfl 3 (by decide) (hts _ q103) (v := .int (σ 31 0)) rfl dX1_add_5 ?_
  refine gw_topi (y := nI (gw_n σ 31)) h31 ?_
  refine lv_aload_n hx hb dX1_add_8 rfl (lv_at hl 1 rfl) ?_
  refine gw_entst (t := tt) (kind := kind) (money := money) (app := app) hx hb hK hG hS hb31 rfl rfl hent hkey hc (hN.1 _ hcr rfl) hfr dX1_add_9 (fun H locs hG hS => ?_)
  refine lv_aload_n hx hb dX1_add_10 rfl (lv_at hl 0 rfl) ?_
  refine lv_dup hx hb dX1_add_11 rfl ?_
  refine gw_get hx hb hts in_X1 hown hK (gw_c0 hG) rfl 3 (by decide) (hts _ q103) (v := .int (σ 31 0)) (congrArg (fun z => some (Value.int z)) (congrFun (gw_push_n (Or.inl (by decide))) 0)) dX1_add_12 ?_
  refine lv_iconst (v := 1) hx hb dX1_add_15 (by decide) ?_
  refine lv_iadd hx hb dX1_add_16 ?_
  refine gw_gput0_31 hx hb hts hown hK hG hS (hts _ q103) dX1_add_17 (fun H locs hG hS => ?_)
  have hG := gw_gW.nu hG (gw_nu_push (σ := σ) (t := tt) (kind := kind) (money := money) (app := app) h31 hb31)
  exact W.vret hx hb hr (fun t ht hW => ⟨⟨(), rfl, trivial, by show gw_gW D ca es A ad _ _ _ _ _ t.heap; rw [ht]; exact hG⟩, hS.F ht⟩) hS.2.2 dX1_add_20
