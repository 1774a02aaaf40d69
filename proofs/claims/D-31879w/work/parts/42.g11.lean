/-! THE CLASS 11 -/
set_option maxRecDepth 100000
set_option maxHeartbeats 4000000 in
set_option maxRecDepth 100000 in
theorem gg_leaveList (l : Launch) (D : va_G) (ca : Nat → ClassId) (es : Nat → Nat) (A : Nat → Prop) (ad hd : Nat → Nat → Nat) (σ γ : gw_S) (ord : List Nat) (a : Nat) (L1 L2 : List Nat) (hJ : gw_J σ) (ha : a < gw_n σ 15) (hL : gw_Lst γ (gw_co σ a) (L1 ++ a :: L2)) (hn : (L1 ++ a :: L2).length ≤ 24) (hn1 : ∀ x, x ∈ L1 → x ≠ a ∧ x < 24) : Met l yX1_leaveList (ws_ yX1_leaveList cX1_leaveList 5 none) ({ frames := 1, cells := 0, slots := 0, locals := 12 }) (va_Pc [.ref (ad 0 0), .ref (ad 12 a)] (gw_gP D ca es A ad hd σ γ ord (gw_nu σ))) (va_Qv (fun (γ1 : gw_S) => gw_Lv γ γ1 (gw_co σ a) (L1 ++ L2)) (fun γ1 t => gw_gW D ca es A ad hd σ γ1 ord (gw_nu σ) t.heap) A) 0 0 A := by
  refine Met.ofW (cc := cX1_leaveList) (maxL := 5) (ret := none) (by decide) rfl ?_
  intro p e s m args below meth c s₁ B hml hv
  obtain ⟨rfl, hG, hK, hE, hN, hA⟩ := hv
  have hx := B.exec
  have hb := B.bytes
  have hr := B.returns
  have hts := atoms_spec (ws := ws_ yX1_leaveList cX1_leaveList 5 none) B.pre
  have hts : ∀ w ∈ lw_all, w.before _ s = true := fun w h => hts w (List.mem_cons_of_mem _ h)
  have hown : s.vm.findClass RX1 = some m.cls := findClass_of_methodNamed B.named
  have hlocks := B.notSynchronized
  have hS : va_S A s.heap s.heap [] := va_S.rf
  have hl := lv_entry ([.ref (ad 0 0), .ref (ad 12 a)]) (n := 5) (Nat.le_of_ble_eq_true rfl)
  rw [lg_entry_eq]
  generalize (lg_sl ([.ref (ad 0 0), .ref (ad 12 a)]) ++ List.replicate (5 - (lg_sl ([.ref (ad 0 0), .ref (ad 12 a)])).length) Slot.unset).toArray = ls at hl ⊢
  have hl : lv_has ls 5 [(0, .ref (ad 0 0)), (1, .ref (ad 12 a))] := hl
  have hc6 : gw_co σ a < 6 := by have := hJ.a16b ha; have := hJ.b7; omega
  have ha24 : a < 24 := by have := hJ.b15; omega
  have hlen : L1.length + L2.length + 1 ≤ 24 := by have z := hn; simp only [List.length_append, List.length_cons] at z; omega
  refine lv_bipush (v := 24) hx hb dX1_leaveList_0 (by decide) ?_
  refine lv_aload_n hx hb dX1_leaveList_2 rfl (lv_at hl 1 rfl) ?_
  refine gw_getN hx hb hts in_X8 hown hK (gw_c12 hG (j := a) ha) rfl 1 (by decide) (hN.1 _ q562 rfl) (v := .int (σ 16 a)) rfl dX1_leaveList_3 ?_
  refine gw_topi (y := nI (gw_co σ a)) (hJ.a16 ha) ?_
  refine lv_imul hx hb dX1_leaveList_6 ?_
  refine gw_topi (y := nI (24 * (gw_co σ a))) (by simp only [gw_lit24, nI_add, pk_mul]) ?_
  refine lv_istore_n (lv' := [(2, .int (nI (24 * (gw_co σ a)))), (0, .ref (ad 0 0)), (1, .ref (ad 12 a))]) hx hb dX1_leaveList_7 rfl hl (by decide) rfl (fun ls hl => ?_)
  refine lv_iconst (v := 0) hx hb dX1_leaveList_8 (by decide) ?_
  refine lv_istore_n (lv' := [(3, .int 0), (2, .int (nI (24 * (gw_co σ a)))), (0, .ref (ad 0 0)), (1, .ref (ad 12 a))]) hx hb dX1_leaveList_9 rfl hl (by decide) rfl (fun ls hl => ?_)
  have lp10 : ∀ (n10 : Nat) (k : Nat), (k + n10 = L1.length) → ∀ ls : Array Slot, lv_has ls 5 [(0, .ref (ad 0 0)), (1, .ref (ad 12 a)), (2, .int (nI (24 * (gw_co σ a)))), (3, .int (nI k))] → W p l e (headSpec (ws_ yX1_leaveList cX1_leaveList 5 none) ({ frames := 1, cells := 0, slots := 0, locals := 12 })).room s m ([.ref (ad 0 0), .ref (ad 12 a)] : List Value).toArray below meth c s.heap [] 0 0 (MQ below (va_Qv (fun (γ1 : gw_S) => gw_Lv γ γ1 (gw_co σ a) (L1 ++ L2)) (fun γ1 t => gw_gW D ca es A ad hd σ γ1 ord (gw_nu σ) t.heap) A) ([.ref (ad 0 0), .ref (ad 12 a)] : List Value).toArray s 0 0 A) (F0 m 10 ls []) := by
    intro n10
    induction n10 with
    | zero =>
      intro k hk ls hl
      refine lv_aload_n hx hb dX1_leaveList_10 rfl (lv_at hl 0 rfl) ?_
      refine gw_get hx hb hts in_X1 hown hK (gw_c0 hG) rfl 9 (by decide) (hts _ q109) (v := .ref (ad 6 5)) rfl dX1_leaveList_11 ?_
      refine lv_iload_n hx hb dX1_leaveList_14 rfl (lv_at hl 2 rfl) ?_
      refine lv_iload_n hx hb dX1_leaveList_15 rfl (lv_at hl 3 rfl) ?_
      refine lv_iadd hx hb dX1_leaveList_16 ?_
      refine gw_topi (y := nI ((24 * (gw_co σ a)) + k)) (by simp only [nI_add, pk_mul]) ?_
      refine gw_gald 5 (n := 144) (j := (24 * (gw_co σ a)) + k) hx hb hK hG (by decide) rfl rfl (by decide) (by omega) dX1_leaveList_17 (v := γ 1 ((24 * (gw_co σ a)) + k)) rfl ?_
      refine lv_aload_n hx hb dX1_leaveList_18 rfl (lv_at hl 1 rfl) ?_
      refine gw_getN hx hb hts in_X8 hown hK (gw_c12 hG (j := a) ha) rfl 0 (by decide) (hN.1 _ q560 rfl) (v := .int (nI a)) rfl dX1_leaveList_19 ?_
      refine lv_icmp_eq (tgt := 31) hx hb dX1_leaveList_22 (by decide) (fun _ => ?_) (fun c_ => absurd (gw_lv_eq hL (by omega)) c_)
      refine lv_aload_n hx hb dX1_leaveList_31 rfl (lv_at hl 0 rfl) ?_
      refine gw_get hx hb hts in_X1 hown hK (gw_c0 hG) rfl 8 (by decide) (hts _ q108) (v := .ref (ad 6 4)) rfl dX1_leaveList_32 ?_
      refine lv_aload_n hx hb dX1_leaveList_35 rfl (lv_at hl 1 rfl) ?_
      refine gw_getN hx hb hts in_X8 hown hK (gw_c12 hG (j := a) ha) rfl 1 (by decide) (hN.1 _ q562 rfl) (v := .int (σ 16 a)) rfl dX1_leaveList_36 ?_
      refine gw_topi (y := nI (gw_co σ a)) (hJ.a16 ha) ?_
      refine lv_dup2_11 hx hb dX1_leaveList_39 rfl rfl ?_
      refine gw_gald 4 (n := 6) (j := gw_co σ a) hx hb hK hG (by decide) rfl rfl (by decide) hc6 dX1_leaveList_40 (v := γ 0 (gw_co σ a)) rfl ?_
      refine lv_iconst (v := 1) hx hb dX1_leaveList_41 (by decide) ?_
      refine lv_isub hx hb dX1_leaveList_42 ?_
      refine gw_gst4 (j := gw_co σ a) hx hb hK hG hS hc6 dX1_leaveList_43 (fun H locs hG hS => ?_)
      refine lv_iload_n hx hb dX1_leaveList_44 rfl (lv_at hl 3 rfl) ?_
      refine lv_istore (lv' := [(4, .int (nI k)), (0, .ref (ad 0 0)), (1, .ref (ad 12 a)), (2, .int (nI (24 * (gw_co σ a)))), (3, .int (nI k))]) hx hb dX1_leaveList_45 hl (by decide) rfl (fun ls hl => ?_)
      have lp47 : ∀ (n47 : Nat) (γ1 : gw_S) (k2 : Nat), (k2 + n47 = L1.length + L2.length) → (gw_Mv γ γ1 (gw_co σ a) L1.length k2) → (L1.length ≤ k2) → ∀ (H : Heap) (locs : List Loc), gw_gW D ca es A ad hd σ γ1 ord (gw_nu σ) H → va_S A s.heap H locs → ∀ ls : Array Slot, lv_has ls 5 [(0, .ref (ad 0 0)), (1, .ref (ad 12 a)), (2, .int (nI (24 * (gw_co σ a)))), (3, .int (nI k)), (4, .int (nI k2))] → W p l e (headSpec (ws_ yX1_leaveList cX1_leaveList 5 none) ({ frames := 1, cells := 0, slots := 0, locals := 12 })).room s m ([.ref (ad 0 0), .ref (ad 12 a)] : List Value).toArray below meth c H locs 0 0 (MQ below (va_Qv (fun (γ1 : gw_S) => gw_Lv γ γ1 (gw_co σ a) (L1 ++ L2)) (fun γ1 t => gw_gW D ca es A ad hd σ γ1 ord (gw_nu σ) t.heap) A) ([.ref (ad 0 0), .ref (ad 12 a)] : List Value).toArray s 0 0 A) (F0 m 47 ls []) := by
        intro n47
        induction n47 with
        | zero =>
          intro γ1 k2 hk2 hM2 hp2 H locs hG hS ls hl
          refine lv_iload hx hb dX1_leaveList_47 (lv_at hl 4 rfl) ?_
          refine lv_aload_n hx hb dX1_leaveList_49 rfl (lv_at hl 0 rfl) ?_
          refine gw_get hx hb hts in_X1 hown hK (gw_c0 hG) rfl 8 (by decide) (hts _ q108) (v := .ref (ad 6 4)) rfl dX1_leaveList_50 ?_
          refine lv_aload_n hx hb dX1_leaveList_53 rfl (lv_at hl 1 rfl) ?_
          refine gw_getN hx hb hts in_X8 hown hK (gw_c12 hG (j := a) ha) rfl 1 (by decide) (hN.1 _ q562 rfl) (v := .int (σ 16 a)) rfl dX1_leaveList_54 ?_
          refine gw_topi (y := nI (gw_co σ a)) (hJ.a16 ha) ?_
          refine gw_gald 4 (n := 6) (j := gw_co σ a) hx hb hK hG (by decide) rfl rfl (by decide) hc6 dX1_leaveList_57 (v := γ1 0 (gw_co σ a)) rfl ?_
          refine lv_icmp_ge (tgt := 87) hx hb dX1_leaveList_58 (by decide) (fun _ => ?_) (fun c_ => absurd (by rw [gw_lv_cnt hM2 hL]; exact nI_le (by omega) (by omega)) c_)
          have hM3 : gw_Mv γ γ1 (gw_co σ a) L1.length (L1.length + L2.length) := by rw [show L1.length + L2.length = k2 by omega]; exact hM2
          exact W.vret hx hb hr (fun t ht hW => ⟨⟨γ1, rfl, hM3.fin hL hn, by show gw_gW D ca es A ad _ _ _ _ _ t.heap; rw [ht]; exact hG⟩, hS.F ht⟩) hS.2.2 dX1_leaveList_87
        | succ n47 ih47 =>
          intro γ1 k2 hk2 hM2 hp2 H locs hG hS ls hl
          refine lv_iload hx hb dX1_leaveList_47 (lv_at hl 4 rfl) ?_
          refine lv_aload_n hx hb dX1_leaveList_49 rfl (lv_at hl 0 rfl) ?_
          refine gw_get hx hb hts in_X1 hown hK (gw_c0 hG) rfl 8 (by decide) (hts _ q108) (v := .ref (ad 6 4)) rfl dX1_leaveList_50 ?_
          refine lv_aload_n hx hb dX1_leaveList_53 rfl (lv_at hl 1 rfl) ?_
          refine gw_getN hx hb hts in_X8 hown hK (gw_c12 hG (j := a) ha) rfl 1 (by decide) (hN.1 _ q562 rfl) (v := .int (σ 16 a)) rfl dX1_leaveList_54 ?_
          refine gw_topi (y := nI (gw_co σ a)) (hJ.a16 ha) ?_
          refine gw_gald 4 (n := 6) (j := gw_co σ a) hx hb hK hG (by decide) rfl rfl (by decide) hc6 dX1_leaveList_57 (v := γ1 0 (gw_co σ a)) rfl ?_
          refine lv_icmp_ge (tgt := 87) hx hb dX1_leaveList_58 (by decide) (fun c_ => absurd c_ (by rw [gw_lv_cnt hM2 hL]; exact nI_ge (by omega) (by omega))) (fun _ => ?_)
          refine lv_aload_n hx hb dX1_leaveList_61 rfl (lv_at hl 0 rfl) ?_
          refine gw_get hx hb hts in_X1 hown hK (gw_c0 hG) rfl 9 (by decide) (hts _ q109) (v := .ref (ad 6 5)) rfl dX1_leaveList_62 ?_
          refine lv_iload_n hx hb dX1_leaveList_65 rfl (lv_at hl 2 rfl) ?_
          refine lv_iload hx hb dX1_leaveList_66 (lv_at hl 4 rfl) ?_
          refine lv_iadd hx hb dX1_leaveList_68 ?_
          refine gw_topi (y := nI ((24 * (gw_co σ a)) + k2)) (by simp only [nI_add, pk_mul]) ?_
          refine lv_aload_n hx hb dX1_leaveList_69 rfl (lv_at hl 0 rfl) ?_
          refine gw_get hx hb hts in_X1 hown hK (gw_c0 hG) rfl 9 (by decide) (hts _ q109) (v := .ref (ad 6 5)) rfl dX1_leaveList_70 ?_
          refine lv_iload_n hx hb dX1_leaveList_73 rfl (lv_at hl 2 rfl) ?_
          refine lv_iload hx hb dX1_leaveList_74 (lv_at hl 4 rfl) ?_
          refine lv_iadd hx hb dX1_leaveList_76 ?_
          refine gw_topi (y := nI ((24 * (gw_co σ a)) + k2)) (by simp only [nI_add, pk_mul]) ?_
          refine lv_iconst (v := 1) hx hb dX1_leaveList_77 (by decide) ?_
          refine lv_iadd hx hb dX1_leaveList_78 ?_
          refine gw_topi (y := nI (((24 * (gw_co σ a)) + k2) + 1)) (by simp only [gw_lit1, nI_add, pk_mul]) ?_
          refine gw_gald 5 (n := 144) (j := ((24 * (gw_co σ a)) + k2) + 1) hx hb hK hG (by decide) rfl rfl (by decide) (by omega) dX1_leaveList_79 (v := γ1 1 (((24 * (gw_co σ a)) + k2) + 1)) rfl ?_
          refine gw_gst5 (j := (24 * (gw_co σ a)) + k2) hx hb hK hG hS (by omega) dX1_leaveList_80 (fun H locs hG hS => ?_)
          refine lv_iinc (v := nI (k2 + 1)) (lv' := [(4, .int (nI (k2 + 1))), (0, .ref (ad 0 0)), (1, .ref (ad 12 a)), (2, .int (nI (24 * (gw_co σ a)))), (3, .int (nI k))]) hx hb dX1_leaveList_81 hl (k := 4) rfl (gw_inc _) (by decide) rfl (fun ls hl => ?_)
          refine lv_goto (tgt := 47) hx hb dX1_leaveList_84 (by decide) ?_
          exact ih47 (gw_up γ1 1 ((24 * (gw_co σ a)) + k2) (γ1 1 (((24 * (gw_co σ a)) + k2) + 1))) (k2 + 1) (by omega) (hM2.step hp2) (by omega) _ _ hG hS ls (lv_sub hl [1, 2, 3, 4, 0] rfl)
      exact lp47 L2.length (gw_up γ 0 (gw_co σ a) ((γ 0 (gw_co σ a)) - 1)) k (by omega) (by rw [show k = L1.length by omega]; exact gw_Mv.start) (by omega) _ _ hG hS ls (lv_sub hl [1, 2, 3, 4, 0] rfl)
    | succ n10 ih10 =>
      intro k hk ls hl
      refine lv_aload_n hx hb dX1_leaveList_10 rfl (lv_at hl 0 rfl) ?_
      refine gw_get hx hb hts in_X1 hown hK (gw_c0 hG) rfl 9 (by decide) (hts _ q109) (v := .ref (ad 6 5)) rfl dX1_leaveList_11 ?_
      refine lv_iload_n hx hb dX1_leaveList_14 rfl (lv_at hl 2 rfl) ?_
      refine lv_iload_n hx hb dX1_leaveList_15 rfl (lv_at hl 3 rfl) ?_
      refine lv_iadd hx hb dX1_leaveList_16 ?_
      refine gw_topi (y := nI ((24 * (gw_co σ a)) + k)) (by simp only [nI_add, pk_mul]) ?_
      refine gw_gald 5 (n := 144) (j := (24 * (gw_co σ a)) + k) hx hb hK hG (by decide) rfl rfl (by decide) (by omega) dX1_leaveList_17 (v := γ 1 ((24 * (gw_co σ a)) + k)) rfl ?_
      refine lv_aload_n hx hb dX1_leaveList_18 rfl (lv_at hl 1 rfl) ?_
      refine gw_getN hx hb hts in_X8 hown hK (gw_c12 hG (j := a) ha) rfl 0 (by decide) (hN.1 _ q560 rfl) (v := .int (nI a)) rfl dX1_leaveList_19 ?_
      refine lv_icmp_eq (tgt := 31) hx hb dX1_leaveList_22 (by decide) (fun c_ => absurd c_ (gw_lv_ne hL hn1 (by omega) ha24)) (fun _ => ?_)
      refine lv_iinc (v := nI (k + 1)) (lv' := [(3, .int (nI (k + 1))), (0, .ref (ad 0 0)), (1, .ref (ad 12 a)), (2, .int (nI (24 * (gw_co σ a))))]) hx hb dX1_leaveList_25 hl (k := 3) rfl (gw_inc _) (by decide) rfl (fun ls hl => ?_)
      refine lv_goto (tgt := 10) hx hb dX1_leaveList_28 (by decide) ?_
      exact ih10 (k + 1) (by omega) ls (lv_sub hl [1, 2, 3, 0] rfl)
  exact lp10 L1.length 0 (by omega) ls (lv_sub hl [2, 3, 1, 0] rfl)
