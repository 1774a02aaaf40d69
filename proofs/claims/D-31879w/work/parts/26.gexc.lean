/-! THE CHECKS THAT THROW -/
set_option maxRecDepth 100000
/-- what a throw asks of the start -/
def gw_Th (A : Nat → Prop) (U : State) : Prop := (gw_Nws U ∧ gw_Ncs U) ∧ vx_Zq Bundle.tN "UNASSIGNED_STACK" Bundle.steD A U U.heap ∧ vx_Zq Bundle.tN "SUPPRESSED_SENTINEL" Bundle.listD A U U.heap
theorem gw_Thb {A : Nat → Prop} (a : Array Value) (U : State) (g : JFrame) (mk : MethodId) (h : gw_Th A U) : gw_Th A (U.calling g mk a) :=
  ⟨⟨gw_Nws.same (s := U) (U := U.calling g mk a) rfl h.1.1, h.1.2.moved (u := U) (U := U.calling g mk a) (Vm.Alike.refl U.vm)⟩, h.2.1.moved (u := U) (U := U.calling g mk a) (Vm.Alike.refl U.vm), h.2.2.moved (u := U) (U := U.calling g mk a) (Vm.Alike.refl U.vm)⟩
theorem gw_That {A : Nat → Prop} {es : Nat → Nat} {s U : State} {H : Heap} {locs : List Loc} (hU : U.heap = H) (hW : s.WarmedH U.vm) (hE : gw_Ev es A s s.heap) (hN : gw_Nws s ∧ gw_Ncs s) (hS : va_S A s.heap H locs) : gw_Th A U := by
  subst hU
  exact ⟨⟨hN.1.warm hW, hN.2.moved hW.alike⟩, (hE.2.2.1.kept hS.2.1).moved hW.alike, (hE.2.2.2.kept hS.2.1).moved hW.alike⟩
theorem gw_hatIndex {args : Array Value} {s : State} (hts : ∀ w ∈ lw_all, w.before args s = true) (hN : gw_Nws s) : ∀ w ∈ vx_at0 "Grantworks" 3 "java/lang/IndexOutOfBoundsException" ["java/lang/RuntimeException", "java/lang/Exception"], w.before args s = true := by
  intro w hw
  obtain ⟨hm, hno⟩ := List.mem_filter.mp hw
  simp only [Bundle.ownAtoms0, Bundle.throwableAtoms, Bundle.chain0Atoms, Bundle.passAtoms, List.cons_append, List.nil_append, List.append_assoc, List.mem_cons, List.not_mem_nil, or_false] at hm
  rcases hm with rfl | rfl | rfl | rfl | rfl | rfl | rfl | rfl | rfl | rfl | rfl | rfl | rfl | rfl | rfl | rfl | rfl | rfl | rfl | rfl | rfl | rfl | rfl | rfl | rfl | rfl | rfl | rfl | rfl | rfl | rfl | rfl | rfl | rfl | rfl | rfl | rfl | rfl | rfl | rfl | rfl | rfl | rfl | rfl | rfl | rfl | rfl | rfl | rfl | rfl | rfl | rfl | rfl
  · exact hts _ q45
  · exact hts _ q309
  · exact hts _ q318
  · exact hts _ q324
  · exact hts _ q327
  · exact hts _ q329
  · exact hts _ q310
  · exact hts _ q311
  · exact hts _ q70
  · exact hts _ q71
  · exact hts _ q312
  · exact hts _ q317
  · exact hts _ q325
  · exact hts _ q342
  · exact hts _ q299
  · exact hts _ q343
  · exact hts _ q301
  · exact hts _ q344
  · exact hts _ q303
  · exact hts _ q313
  · exact absurd hno (by decide)
  · exact hts _ q315
  · exact absurd hno (by decide)
  · exact hts _ q305
  · exact hts _ q538
  · exact hts _ q539
  · exact hts _ q540
  · exact hts _ q334
  · exact va_Nw.use rfl (hN _ q290 rfl)
  · exact hts _ q334
  · exact hts _ q335
  · exact hts _ q336
  · exact hts _ q337
  · exact va_Nw.use rfl (hN _ q292 rfl)
  · exact hts _ q337
  · exact hts _ q338
  · exact hts _ q339
  · exact hts _ q310
  · exact va_Nw.use rfl (hN _ q294 rfl)
  · exact hts _ q537
  · exact hts _ q529
  · exact va_Nw.use rfl (hN _ q530 rfl)
  · exact hts _ q531
  · exact hts _ q322
  · exact hts _ q532
  · exact hts _ q533
  · exact hts _ q534
  · exact hts _ q535
  · exact absurd hno (by decide)
  · exact absurd hno (by decide)
  · exact hts _ q340
  · exact hts _ q307
  · exact hts _ q536
set_option maxHeartbeats 4000000 in
theorem gg_checkIndex0 (l : Launch) (A : Nat → Prop) (hlt : l.stackTraces = false) : vx_Met l yX1_checkIndex (ws_ yX1_checkIndex cX1_checkIndex 1 none) ({ frames := 6, cells := 1, slots := 6, locals := 90 }) (va_Pc [.int 0] (gw_Th A)) (va_Qv (fun (_ : Unit) => False) (fun _ _ => True) (fun _ => False)) (vx_X (fun (_ : Unit) => True) (fun E _ _ => E = "java/lang/IndexOutOfBoundsException") (fun _ => False)) 1 6 (fun _ => False) := by
  refine vx_ofW (cc := cX1_checkIndex) (maxL := 1) (ret := none) (by decide) rfl ?_
  intro p e s m args below meth c s₁ B hml htab hv
  obtain ⟨rfl, hN, hU, hV⟩ := hv
  have hx := B.exec
  have hb := B.bytes
  have hts := atoms_spec (ws := ws_ yX1_checkIndex cX1_checkIndex 1 none) B.pre
  have hts : ∀ w ∈ lw_all, w.before _ s = true := fun w h => hts w (List.mem_cons_of_mem _ h)
  have hown : s.vm.findClass RX1 = some m.cls := findClass_of_methodNamed B.named
  have hlocks := B.notSynchronized
  have hS : va_S A s.heap s.heap [] := va_S.rf
  have hl := lv_entry ([.int 0]) (n := 1) (Nat.le_of_ble_eq_true rfl)
  rw [lg_entry_eq]
  generalize (lg_sl ([.int 0]) ++ List.replicate (1 - (lg_sl ([.int 0])).length) Slot.unset).toArray = ls at hl ⊢
  have hl : lv_has ls 1 [(0, .int 0)] := hl
  refine lv_iload_n hx hb dX1_checkIndex_0 rfl (lv_at hl 0 rfl) ?_
  refine lv_if_ne (tgt := 12) hx hb dX1_checkIndex_1 (by decide) (fun c_ => absurd rfl c_) (fun _ => ?_)
  refine vx_throw0 (A := A) (own := "Grantworks") (cls := "java/lang/IndexOutOfBoundsException") (names := ["java/lang/RuntimeException", "java/lang/Exception"]) (ik := 1) (ic := 3) hx hb hlt hown (by decide +kernel) (by decide +kernel) (hts _ q528) (hts _ q56) (gw_hatIndex hts hN.1) (List.all_eq_true.mp (by decide +kernel)) hU hV hS (hl.1.trans hml.symm) dX1_checkIndex_4 dX1_checkIndex_7 dX1_checkIndex_8 dX1_checkIndex_11 (fun x hx => (htab x hx).elim) (Nat.le_of_ble_eq_true rfl) (Nat.le_of_ble_eq_true rfl) (Nat.le_refl _) (Nat.le_refl _) hlocks ?_ (fun q h => by cases h) (Nat.le_refl _) (Nat.le_refl _)
  intro t ht h1 h2
  exact ⟨(), trivial, rfl, h1, fun q hq _ => h2 q hq⟩
theorem gw_hatArgument {args : Array Value} {s : State} (hts : ∀ w ∈ lw_all, w.before args s = true) (hN : gw_Nws s) : ∀ w ∈ vx_at0 "Grantworks" 9 "java/lang/IllegalArgumentException" ["java/lang/RuntimeException", "java/lang/Exception"], w.before args s = true := by
  intro w hw
  obtain ⟨hm, hno⟩ := List.mem_filter.mp hw
  simp only [Bundle.ownAtoms0, Bundle.throwableAtoms, Bundle.chain0Atoms, Bundle.passAtoms, List.cons_append, List.nil_append, List.append_assoc, List.mem_cons, List.not_mem_nil, or_false] at hm
  rcases hm with rfl | rfl | rfl | rfl | rfl | rfl | rfl | rfl | rfl | rfl | rfl | rfl | rfl | rfl | rfl | rfl | rfl | rfl | rfl | rfl | rfl | rfl | rfl | rfl | rfl | rfl | rfl | rfl | rfl | rfl | rfl | rfl | rfl | rfl | rfl | rfl | rfl | rfl | rfl | rfl | rfl | rfl | rfl | rfl | rfl | rfl | rfl | rfl | rfl | rfl | rfl | rfl | rfl
  · exact hts _ q45
  · exact hts _ q309
  · exact hts _ q318
  · exact hts _ q324
  · exact hts _ q327
  · exact hts _ q329
  · exact hts _ q310
  · exact hts _ q311
  · exact hts _ q70
  · exact hts _ q71
  · exact hts _ q312
  · exact hts _ q317
  · exact hts _ q325
  · exact hts _ q342
  · exact hts _ q299
  · exact hts _ q343
  · exact hts _ q301
  · exact hts _ q344
  · exact hts _ q303
  · exact hts _ q313
  · exact absurd hno (by decide)
  · exact hts _ q315
  · exact absurd hno (by decide)
  · exact hts _ q305
  · exact hts _ q331
  · exact hts _ q332
  · exact hts _ q333
  · exact hts _ q334
  · exact va_Nw.use rfl (hN _ q290 rfl)
  · exact hts _ q334
  · exact hts _ q335
  · exact hts _ q336
  · exact hts _ q337
  · exact va_Nw.use rfl (hN _ q292 rfl)
  · exact hts _ q337
  · exact hts _ q338
  · exact hts _ q339
  · exact hts _ q310
  · exact va_Nw.use rfl (hN _ q294 rfl)
  · exact hts _ q330
  · exact hts _ q288
  · exact va_Nw.use rfl (hN _ q289 rfl)
  · exact hts _ q296
  · exact hts _ q297
  · exact hts _ q298
  · exact hts _ q300
  · exact hts _ q302
  · exact hts _ q304
  · exact absurd hno (by decide)
  · exact absurd hno (by decide)
  · exact hts _ q340
  · exact hts _ q307
  · exact hts _ q306
set_option maxHeartbeats 4000000 in
theorem gg_checkArgument0 (l : Launch) (A : Nat → Prop) (hlt : l.stackTraces = false) : vx_Met l yX1_checkArgument (ws_ yX1_checkArgument cX1_checkArgument 1 none) ({ frames := 6, cells := 1, slots := 6, locals := 90 }) (va_Pc [.int 0] (gw_Th A)) (va_Qv (fun (_ : Unit) => False) (fun _ _ => True) (fun _ => False)) (vx_X (fun (_ : Unit) => True) (fun E _ _ => E = "java/lang/IllegalArgumentException") (fun _ => False)) 1 6 (fun _ => False) := by
  refine vx_ofW (cc := cX1_checkArgument) (maxL := 1) (ret := none) (by decide) rfl ?_
  intro p e s m args below meth c s₁ B hml htab hv
  obtain ⟨rfl, hN, hU, hV⟩ := hv
  have hx := B.exec
  have hb := B.bytes
  have hts := atoms_spec (ws := ws_ yX1_checkArgument cX1_checkArgument 1 none) B.pre
  have hts : ∀ w ∈ lw_all, w.before _ s = true := fun w h => hts w (List.mem_cons_of_mem _ h)
  have hown : s.vm.findClass RX1 = some m.cls := findClass_of_methodNamed B.named
  have hlocks := B.notSynchronized
  have hS : va_S A s.heap s.heap [] := va_S.rf
  have hl := lv_entry ([.int 0]) (n := 1) (Nat.le_of_ble_eq_true rfl)
  rw [lg_entry_eq]
  generalize (lg_sl ([.int 0]) ++ List.replicate (1 - (lg_sl ([.int 0])).length) Slot.unset).toArray = ls at hl ⊢
  have hl : lv_has ls 1 [(0, .int 0)] := hl
  refine lv_iload_n hx hb dX1_checkArgument_0 rfl (lv_at hl 0 rfl) ?_
  refine lv_if_ne (tgt := 12) hx hb dX1_checkArgument_1 (by decide) (fun c_ => absurd rfl c_) (fun _ => ?_)
  refine vx_throw0 (A := A) (own := "Grantworks") (cls := "java/lang/IllegalArgumentException") (names := ["java/lang/RuntimeException", "java/lang/Exception"]) (ik := 7) (ic := 9) hx hb hlt hown (by decide +kernel) (by decide +kernel) (hts _ q287) (hts _ q48) (gw_hatArgument hts hN.1) (List.all_eq_true.mp (by decide +kernel)) hU hV hS (hl.1.trans hml.symm) dX1_checkArgument_4 dX1_checkArgument_7 dX1_checkArgument_8 dX1_checkArgument_11 (fun x hx => (htab x hx).elim) (Nat.le_of_ble_eq_true rfl) (Nat.le_of_ble_eq_true rfl) (Nat.le_refl _) (Nat.le_refl _) hlocks ?_ (fun q h => by cases h) (Nat.le_refl _) (Nat.le_refl _)
  intro t ht h1 h2
  exact ⟨(), trivial, rfl, h1, fun q hq _ => h2 q hq⟩
theorem gw_hatState {args : Array Value} {s : State} (hts : ∀ w ∈ lw_all, w.before args s = true) (hN : gw_Nws s) : ∀ w ∈ vx_at0 "Grantworks" 12 "java/lang/IllegalStateException" ["java/lang/RuntimeException", "java/lang/Exception"], w.before args s = true := by
  intro w hw
  obtain ⟨hm, hno⟩ := List.mem_filter.mp hw
  simp only [Bundle.ownAtoms0, Bundle.throwableAtoms, Bundle.chain0Atoms, Bundle.passAtoms, List.cons_append, List.nil_append, List.append_assoc, List.mem_cons, List.not_mem_nil, or_false] at hm
  rcases hm with rfl | rfl | rfl | rfl | rfl | rfl | rfl | rfl | rfl | rfl | rfl | rfl | rfl | rfl | rfl | rfl | rfl | rfl | rfl | rfl | rfl | rfl | rfl | rfl | rfl | rfl | rfl | rfl | rfl | rfl | rfl | rfl | rfl | rfl | rfl | rfl | rfl | rfl | rfl | rfl | rfl | rfl | rfl | rfl | rfl | rfl | rfl | rfl | rfl | rfl | rfl | rfl | rfl
  · exact hts _ q45
  · exact hts _ q309
  · exact hts _ q318
  · exact hts _ q324
  · exact hts _ q327
  · exact hts _ q329
  · exact hts _ q310
  · exact hts _ q311
  · exact hts _ q70
  · exact hts _ q71
  · exact hts _ q312
  · exact hts _ q317
  · exact hts _ q325
  · exact hts _ q342
  · exact hts _ q299
  · exact hts _ q343
  · exact hts _ q301
  · exact hts _ q344
  · exact hts _ q303
  · exact hts _ q313
  · exact absurd hno (by decide)
  · exact hts _ q315
  · exact absurd hno (by decide)
  · exact hts _ q305
  · exact hts _ q371
  · exact hts _ q372
  · exact hts _ q373
  · exact hts _ q334
  · exact va_Nw.use rfl (hN _ q290 rfl)
  · exact hts _ q334
  · exact hts _ q335
  · exact hts _ q336
  · exact hts _ q337
  · exact va_Nw.use rfl (hN _ q292 rfl)
  · exact hts _ q337
  · exact hts _ q338
  · exact hts _ q339
  · exact hts _ q310
  · exact va_Nw.use rfl (hN _ q294 rfl)
  · exact hts _ q370
  · exact hts _ q362
  · exact va_Nw.use rfl (hN _ q363 rfl)
  · exact hts _ q364
  · exact hts _ q321
  · exact hts _ q365
  · exact hts _ q366
  · exact hts _ q367
  · exact hts _ q368
  · exact absurd hno (by decide)
  · exact absurd hno (by decide)
  · exact hts _ q340
  · exact hts _ q307
  · exact hts _ q369
set_option maxHeartbeats 4000000 in
theorem gg_checkState0 (l : Launch) (A : Nat → Prop) (hlt : l.stackTraces = false) : vx_Met l yX1_checkState (ws_ yX1_checkState cX1_checkState 1 none) ({ frames := 6, cells := 1, slots := 6, locals := 90 }) (va_Pc [.int 0] (gw_Th A)) (va_Qv (fun (_ : Unit) => False) (fun _ _ => True) (fun _ => False)) (vx_X (fun (_ : Unit) => True) (fun E _ _ => E = "java/lang/IllegalStateException") (fun _ => False)) 1 6 (fun _ => False) := by
  refine vx_ofW (cc := cX1_checkState) (maxL := 1) (ret := none) (by decide) rfl ?_
  intro p e s m args below meth c s₁ B hml htab hv
  obtain ⟨rfl, hN, hU, hV⟩ := hv
  have hx := B.exec
  have hb := B.bytes
  have hts := atoms_spec (ws := ws_ yX1_checkState cX1_checkState 1 none) B.pre
  have hts : ∀ w ∈ lw_all, w.before _ s = true := fun w h => hts w (List.mem_cons_of_mem _ h)
  have hown : s.vm.findClass RX1 = some m.cls := findClass_of_methodNamed B.named
  have hlocks := B.notSynchronized
  have hS : va_S A s.heap s.heap [] := va_S.rf
  have hl := lv_entry ([.int 0]) (n := 1) (Nat.le_of_ble_eq_true rfl)
  rw [lg_entry_eq]
  generalize (lg_sl ([.int 0]) ++ List.replicate (1 - (lg_sl ([.int 0])).length) Slot.unset).toArray = ls at hl ⊢
  have hl : lv_has ls 1 [(0, .int 0)] := hl
  refine lv_iload_n hx hb dX1_checkState_0 rfl (lv_at hl 0 rfl) ?_
  refine lv_if_ne (tgt := 12) hx hb dX1_checkState_1 (by decide) (fun c_ => absurd rfl c_) (fun _ => ?_)
  refine vx_throw0 (A := A) (own := "Grantworks") (cls := "java/lang/IllegalStateException") (names := ["java/lang/RuntimeException", "java/lang/Exception"]) (ik := 10) (ic := 12) hx hb hlt hown (by decide +kernel) (by decide +kernel) (hts _ q361) (hts _ q50) (gw_hatState hts hN.1) (List.all_eq_true.mp (by decide +kernel)) hU hV hS (hl.1.trans hml.symm) dX1_checkState_4 dX1_checkState_7 dX1_checkState_8 dX1_checkState_11 (fun x hx => (htab x hx).elim) (Nat.le_of_ble_eq_true rfl) (Nat.le_of_ble_eq_true rfl) (Nat.le_refl _) (Nat.le_refl _) hlocks ?_ (fun q h => by cases h) (Nat.le_refl _) (Nat.le_refl _)
  intro t ht h1 h2
  exact ⟨(), trivial, rfl, h1, fun q hq _ => h2 q hq⟩
theorem gw_hatThere {args : Array Value} {s : State} (hts : ∀ w ∈ lw_all, w.before args s = true) (hN : gw_Nws s) : ∀ w ∈ vx_at0 "Grantworks" 15 "java/util/NoSuchElementException" ["java/lang/RuntimeException", "java/lang/Exception"], w.before args s = true := by
  intro w hw
  obtain ⟨hm, hno⟩ := List.mem_filter.mp hw
  simp only [Bundle.ownAtoms0, Bundle.throwableAtoms, Bundle.chain0Atoms, Bundle.passAtoms, List.cons_append, List.nil_append, List.append_assoc, List.mem_cons, List.not_mem_nil, or_false] at hm
  rcases hm with rfl | rfl | rfl | rfl | rfl | rfl | rfl | rfl | rfl | rfl | rfl | rfl | rfl | rfl | rfl | rfl | rfl | rfl | rfl | rfl | rfl | rfl | rfl | rfl | rfl | rfl | rfl | rfl | rfl | rfl | rfl | rfl | rfl | rfl | rfl | rfl | rfl | rfl | rfl | rfl | rfl | rfl | rfl | rfl | rfl | rfl | rfl | rfl | rfl | rfl | rfl | rfl | rfl
  · exact hts _ q45
  · exact hts _ q309
  · exact hts _ q318
  · exact hts _ q324
  · exact hts _ q327
  · exact hts _ q329
  · exact hts _ q310
  · exact hts _ q311
  · exact hts _ q70
  · exact hts _ q71
  · exact hts _ q312
  · exact hts _ q317
  · exact hts _ q325
  · exact hts _ q342
  · exact hts _ q299
  · exact hts _ q343
  · exact hts _ q301
  · exact hts _ q344
  · exact hts _ q303
  · exact hts _ q313
  · exact absurd hno (by decide)
  · exact hts _ q315
  · exact absurd hno (by decide)
  · exact hts _ q305
  · exact hts _ q836
  · exact hts _ q837
  · exact hts _ q838
  · exact hts _ q334
  · exact va_Nw.use rfl (hN _ q290 rfl)
  · exact hts _ q334
  · exact hts _ q335
  · exact hts _ q336
  · exact hts _ q337
  · exact va_Nw.use rfl (hN _ q292 rfl)
  · exact hts _ q337
  · exact hts _ q338
  · exact hts _ q339
  · exact hts _ q310
  · exact va_Nw.use rfl (hN _ q294 rfl)
  · exact hts _ q835
  · exact hts _ q827
  · exact va_Nw.use rfl (hN _ q828 rfl)
  · exact hts _ q829
  · exact hts _ q323
  · exact hts _ q830
  · exact hts _ q831
  · exact hts _ q832
  · exact hts _ q833
  · exact absurd hno (by decide)
  · exact absurd hno (by decide)
  · exact hts _ q340
  · exact hts _ q307
  · exact hts _ q834
set_option maxHeartbeats 4000000 in
theorem gg_checkThere0 (l : Launch) (A : Nat → Prop) (hlt : l.stackTraces = false) : vx_Met l yX1_checkThere (ws_ yX1_checkThere cX1_checkThere 1 none) ({ frames := 6, cells := 1, slots := 6, locals := 90 }) (va_Pc [.int 0] (gw_Th A)) (va_Qv (fun (_ : Unit) => False) (fun _ _ => True) (fun _ => False)) (vx_X (fun (_ : Unit) => True) (fun E _ _ => E = "java/util/NoSuchElementException") (fun _ => False)) 1 6 (fun _ => False) := by
  refine vx_ofW (cc := cX1_checkThere) (maxL := 1) (ret := none) (by decide) rfl ?_
  intro p e s m args below meth c s₁ B hml htab hv
  obtain ⟨rfl, hN, hU, hV⟩ := hv
  have hx := B.exec
  have hb := B.bytes
  have hts := atoms_spec (ws := ws_ yX1_checkThere cX1_checkThere 1 none) B.pre
  have hts : ∀ w ∈ lw_all, w.before _ s = true := fun w h => hts w (List.mem_cons_of_mem _ h)
  have hown : s.vm.findClass RX1 = some m.cls := findClass_of_methodNamed B.named
  have hlocks := B.notSynchronized
  have hS : va_S A s.heap s.heap [] := va_S.rf
  have hl := lv_entry ([.int 0]) (n := 1) (Nat.le_of_ble_eq_true rfl)
  rw [lg_entry_eq]
  generalize (lg_sl ([.int 0]) ++ List.replicate (1 - (lg_sl ([.int 0])).length) Slot.unset).toArray = ls at hl ⊢
  have hl : lv_has ls 1 [(0, .int 0)] := hl
  refine lv_iload_n hx hb dX1_checkThere_0 rfl (lv_at hl 0 rfl) ?_
  refine lv_if_ne (tgt := 12) hx hb dX1_checkThere_1 (by decide) (fun c_ => absurd rfl c_) (fun _ => ?_)
  refine vx_throw0 (A := A) (own := "Grantworks") (cls := "java/util/NoSuchElementException") (names := ["java/lang/RuntimeException", "java/lang/Exception"]) (ik := 13) (ic := 15) hx hb hlt hown (by decide +kernel) (by decide +kernel) (hts _ q826) (hts _ q63) (gw_hatThere hts hN.1) (List.all_eq_true.mp (by decide +kernel)) hU hV hS (hl.1.trans hml.symm) dX1_checkThere_4 dX1_checkThere_7 dX1_checkThere_8 dX1_checkThere_11 (fun x hx => (htab x hx).elim) (Nat.le_of_ble_eq_true rfl) (Nat.le_of_ble_eq_true rfl) (Nat.le_refl _) (Nat.le_refl _) hlocks ?_ (fun q h => by cases h) (Nat.le_refl _) (Nat.le_refl _)
  intro t ht h1 h2
  exact ⟨(), trivial, rfl, h1, fun q hq _ => h2 q hq⟩
