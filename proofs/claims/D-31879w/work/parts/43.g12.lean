/-! THE CLASS 12 -/
set_option maxRecDepth 100000
set_option maxHeartbeats 4000000 in
set_option maxRecDepth 100000 in
theorem gg_paidShare (l : Launch) (D : va_G) (ca : Nat → ClassId) (es : Nat → Nat) (A : Nat → Prop) (ad hd : Nat → Nat → Nat) (σ γ : gw_S) (ord : List Nat) (hKo : gw_Ko γ ord) (hp6 : gw_pl σ 6 ord 0 = gw_ps σ 6 48 0 0) (hp4 : gw_pl σ 4 ord 0 = gw_ps σ 4 48 0 0) (hn : ¬ gw_ps σ 4 48 0 0 = 0 → vf_n64 (FP.ddiv (FP.l2d (gw_ps σ 6 48 0 0)) (FP.l2d (gw_ps σ 4 48 0 0)))) : Met l yX1_paidShare (ws_ yX1_paidShare cX1_paidShare 6 (some .double)) ({ frames := 1, cells := 0, slots := 0, locals := 12 }) (va_Pc [.ref (ad 0 0)] (gw_gP D ca es A ad hd σ γ ord (gw_nu σ))) (vp_Sd (fun r => r = gw_share σ)) 0 0 (fun _ => False) := by
  refine Met.ofW (cc := cX1_paidShare) (maxL := 6) (ret := (some .double)) (by decide) rfl ?_
  intro p e s m args below meth c s₁ B hml hv
  obtain ⟨rfl, hG, hK, hE, hN, hA⟩ := hv
  have hx := B.exec
  have hb := B.bytes
  have hr := B.returns
  have hts := atoms_spec (ws := ws_ yX1_paidShare cX1_paidShare 6 (some .double)) B.pre
  have hts : ∀ w ∈ lw_all, w.before _ s = true := fun w h => hts w (List.mem_cons_of_mem _ h)
  have hown : s.vm.findClass RX1 = some m.cls := findClass_of_methodNamed B.named
  have hlocks := B.notSynchronized
  have hS : va_S A s.heap s.heap [] := va_S.rf
  have hl := lv_entry ([.ref (ad 0 0)]) (n := 6) (Nat.le_of_ble_eq_true rfl)
  rw [lg_entry_eq]
  generalize (lg_sl ([.ref (ad 0 0)]) ++ List.replicate (6 - (lg_sl ([.ref (ad 0 0)])).length) Slot.unset).toArray = ls at hl ⊢
  have hl : lv_has ls 6 [(0, .ref (ad 0 0))] := hl
  refine lv_lconst (v := 0) hx hb dX1_paidShare_0 (by decide) ?_
  refine lv_lstore_n (lv' := [(1, .long 0), (0, .ref (ad 0 0))]) hx hb dX1_paidShare_1 rfl hl (by decide) rfl (fun ls hl => ?_)
  refine lv_lconst (v := 0) hx hb dX1_paidShare_2 (by decide) ?_
  refine lv_lstore_n (lv' := [(3, .long 0), (1, .long 0), (0, .ref (ad 0 0))]) hx hb dX1_paidShare_3 rfl hl (by decide) rfl (fun ls hl => ?_)
  refine lv_aload_n hx hb dX1_paidShare_4 rfl (lv_at hl 2 rfl) ?_
  refine gw_get hx hb hts in_X1 hown hK (gw_c0 hG) rfl 0 (by decide) (hts _ q100) (v := .ref (ad 1 0)) rfl dX1_paidShare_5 ?_
  refine gw_getN hx hb hts in_X2 hown hK (gw_c1 hG) rfl 1 (by decide) (hN.1 _ q82 rfl) (v := va_rf (ord.head?.map (hd 11))) rfl dX1_paidShare_8 ?_
  refine gw_astore (lv' := [(5, va_rf (ord.head?.map (hd 11))), (3, .long 0), (1, .long 0), (0, .ref (ad 0 0))]) hx hb dX1_paidShare_11 hl (by decide) rfl (fun ls hl => ?_)
  have lp13 : ∀ (n13 : Nat) (L : List Nat) (pre : List Nat) (x1 : Int64) (x2 : Int64), (L.length = n13) → (ord = pre ++ L) → (gw_pl σ 6 L x1 = gw_pl σ 6 ord 0) → (gw_pl σ 4 L x2 = gw_pl σ 4 ord 0) → ∀ ls : Array Slot, lv_has ls 6 [(0, .ref (ad 0 0)), (1, .long x1), (3, .long x2), (5, va_rf (L.head?.map (hd 11)))] → W p l e (headSpec (ws_ yX1_paidShare cX1_paidShare 6 (some .double)) ({ frames := 1, cells := 0, slots := 0, locals := 12 })).room s m ([.ref (ad 0 0)] : List Value).toArray below meth c s.heap [] 0 0 (MQ below (vp_Sd (fun r => r = gw_share σ)) ([.ref (ad 0 0)] : List Value).toArray s 0 0 (fun _ => False)) (F0 m 13 ls []) := by
    intro n13
    induction n13 with
    | zero =>
      intro L pre x1 x2 hn9 hO hR hR2 ls hl
      obtain rfl : L = [] := List.length_eq_zero_iff.mp hn9
      have hl : lv_has ls 6 [(0, .ref (ad 0 0)), (1, .long x1), (3, .long x2), (5, .null)] := hl
      refine lv_aloadN hx hb dX1_paidShare_13 (lv_at hl 3 rfl) ?_
      refine lv_ifnullN (tgt := 46) hx hb dX1_paidShare_15 (by decide) ?_
      refine lv_lload_n hx hb dX1_paidShare_46 rfl (lv_at hl 2 rfl) ?_
      refine lv_lconst (v := 0) hx hb dX1_paidShare_47 (by decide) ?_
      refine gw_l_ne (tgt := 56) hx hb dX1_paidShare_48 dX1_paidShare_49 (by decide) (fun c49 => ?_) (fun c49 => ?_)
      · skip
        refine lv_lload_n hx hb dX1_paidShare_56 rfl (lv_at hl 1 rfl) ?_
        refine lv_l2d hx hb dX1_paidShare_57 ?_
        refine lv_lload_n hx hb dX1_paidShare_58 rfl (lv_at hl 2 rfl) ?_
        refine lv_l2d hx hb dX1_paidShare_59 ?_
        refine lv_ddiv hx hb dX1_paidShare_60 (by have z1 : x1 = _ := hR.trans hp6; have z2 : x2 = _ := hR2.trans hp4; rw [z1, z2]; exact hn (by rw [← z2]; exact c49)) ?_
        exact W.dret (v := FP.ddiv (FP.l2d x1) (FP.l2d x2)) hx hb hr (fun t ht hW => ⟨_, rfl, (by have z1 : x1 = _ := hR.trans hp6; have z2 : x2 = _ := hR2.trans hp4; rw [gw_share, ← z1, ← z2, if_neg c49]), ht⟩) (fun q h => by cases h) dX1_paidShare_61
      · skip
        refine lv_dconst0 hx hb dX1_paidShare_52 ?_
        refine lv_goto (tgt := 61) hx hb dX1_paidShare_53 (by decide) ?_
        exact W.dret (v := FP.dconst0) hx hb hr (fun t ht hW => ⟨_, rfl, (by have z1 : x1 = _ := hR.trans hp6; have z2 : x2 = _ := hR2.trans hp4; rw [gw_share, ← z1, ← z2, if_pos c49]), ht⟩) (fun q h => by cases h) dX1_paidShare_61
    | succ n13 ih13 =>
      intro L pre x1 x2 hn9 hO hR hR2 ls hl
      obtain ⟨i, L1, rfl⟩ : ∃ i L1, L = i :: L1 := by cases L with | nil => cases hn9 | cons i L1 => exact ⟨i, L1, rfl⟩
      have hi : i ∈ ord := by rw [hO]; simp
      have hl : lv_has ls 6 [(0, .ref (ad 0 0)), (1, .long x1), (3, .long x2), (5, .ref (hd 11 i))] := hl
      refine lv_aload hx hb dX1_paidShare_13 (lv_at hl 3 rfl) ?_
      refine lv_ifnull hx hb dX1_paidShare_15 ?_
      refine lv_lload_n hx hb dX1_paidShare_18 rfl (lv_at hl 1 rfl) ?_
      refine lv_aload hx hb dX1_paidShare_19 (lv_at hl 3 rfl) ?_
      refine gw_getN hx hb hts in_X5 hown hK (gw_c11 hG (j := i) hi) rfl 6 (by decide) (hN.1 _ q398 rfl) (v := .int (σ 6 i)) rfl dX1_paidShare_21 ?_
      refine lv_i2l (v := (σ 6 i).toInt64) hx hb dX1_paidShare_24 rfl ?_
      refine lv_ladd hx hb dX1_paidShare_25 ?_
      refine lv_lstore_n (lv' := [(1, .long (x1 + ((σ 6 i).toInt64))), (0, .ref (ad 0 0)), (3, .long x2), (5, .ref (hd 11 i))]) hx hb dX1_paidShare_26 rfl hl (by decide) rfl (fun ls hl => ?_)
      refine lv_lload_n hx hb dX1_paidShare_27 rfl (lv_at hl 2 rfl) ?_
      refine lv_aload hx hb dX1_paidShare_28 (lv_at hl 3 rfl) ?_
      refine gw_getN hx hb hts in_X5 hown hK (gw_c11 hG (j := i) hi) rfl 4 (by decide) (hN.1 _ q394 rfl) (v := .int (σ 4 i)) rfl dX1_paidShare_30 ?_
      refine lv_i2l (v := (σ 4 i).toInt64) hx hb dX1_paidShare_33 rfl ?_
      refine lv_ladd hx hb dX1_paidShare_34 ?_
      refine lv_lstore_n (lv' := [(3, .long (x2 + ((σ 4 i).toInt64))), (1, .long (x1 + ((σ 6 i).toInt64))), (0, .ref (ad 0 0)), (5, .ref (hd 11 i))]) hx hb dX1_paidShare_35 rfl hl (by decide) rfl (fun ls hl => ?_)
      refine lv_aload hx hb dX1_paidShare_36 (lv_at hl 3 rfl) ?_
      refine gw_getN hx hb hts in_X5 hown hK (gw_c11 hG (j := i) hi) rfl 2 (by decide) (hN.1 _ q391 rfl) (v := va_rf ((gw_su ord i).map (hd 11))) rfl dX1_paidShare_38 ?_
      refine gw_astore (lv' := [(5, va_rf ((gw_su ord i).map (hd 11))), (3, .long (x2 + ((σ 4 i).toInt64))), (1, .long (x1 + ((σ 6 i).toInt64))), (0, .ref (ad 0 0))]) hx hb dX1_paidShare_41 hl (by decide) rfl (fun ls hl => ?_)
      refine lv_goto (tgt := 13) hx hb dX1_paidShare_43 (by decide) ?_
      have e9 : gw_su ord i = L1.head? := by rw [hO]; exact gw_su_app (by rw [← hO]; exact hKo.1)
      rw [e9] at hl
      exact ih13 L1 (pre ++ [i]) (x1 + ((σ 6 i).toInt64)) (x2 + ((σ 4 i).toInt64)) (by simpa using hn9) (by rw [hO]; simp) hR hR2 ls (lv_sub hl [3, 2, 1, 0] rfl)
  exact lp13 ord.length ord ([]) 0 0 rfl rfl rfl rfl ls (lv_sub hl [3, 2, 1, 0] rfl)
