/-! STATE's METHODS, called on its constants -/
set_option maxRecDepth 100000
section GWC
variable {p : Program} {l : Launch} {e : Env} {R : Room} {s : State} {m : MethodId} {args : Array Value} {below : List Frame} {meth : Method} {c : Code} {H : Heap} {locs : List Loc} {cells slots : Nat} {Q : State → Prop}
variable {cc : ByteArray} {pc : Nat} {ls : Array Slot} {rest st0 : List Value} {A : Nat → Prop} {es : Nat → Nat}
theorem gw_bodyA {bytes : ByteArray} {b0 : Nat} {k : Int32} {U : State} {mk : MethodId} {cM : Code} {methM : Method} {rt : State} (hexec : p.tables.exec = Jvm.exec) (d0 : decode bytes 0 = .ok (.iload_n 1, 1)) (d1 : decode bytes 1 = .ok (.ireturn, 1)) (hk : narrow .boolean (.int k) = .int k)
    (hbM : cM.code = bytes) (hT1 : At U mk cM below) (hret : methM.sig.returnType = some .boolean) (hm : U.vm.method? mk = some methM) (hend : ∀ (f : JFrame) (acts : List Action), f.method = mk → f.locked = none → f.entered = [] → (doReturn e (U.setTop f) acts (some (.int k))).1 = rt) : Steps p.tables e below (U.setTop (entryFrame mk (.ref b0 :: [.int k]).toArray 2)) rt := by
  subst hbM
  show Steps p.tables e below (U.setTop { method := mk, pc := 0, locals := #[.val (.ref b0), .val (.int k)], stack := [], locked := none }) rt
  jvm_step hT1 [hexec, d0]
  jvm_step hT1 [hexec, d1, hm, hret, hk]
  intro acts
  rw [hend _ acts rfl rfl rfl]
  exact Steps.refl _
theorem gw_sig {d : String} {n : Nat} (h2 : (parseMethodDescriptor d).map (fun z => z.parameters.length) = some n) : ∀ sig, parseMethodDescriptor d = some sig → n = sig.parameters.length := fun sig h => by
  rw [h] at h2
  exact (Option.some.inj h2).symm
theorem gw_st_isReserved {x : Int32} (hx : gw_s6 x) (hexec : p.tables.exec = Jvm.exec) (hb : c.code = cc) (hml : c.maxLocals = ls.size) (hts : ∀ w ∈ lw_all, w.before args s = true) (hown : s.vm.findClass RX1 = some m.cls) (hE : gw_Ev es A s s.heap) (hN : gw_Nws s ∧ gw_Ncs s) (hS : va_S A s.heap H locs) (hfr : 1 ≤ R.frames) (hlo : (rest.map fun v => v.category).sum + (1 + 11) ≤ R.locals) (hdg : decode cc pc = .ok (.invokevirtual 376, 3))
    (kk : W p l e R s m args below meth c H locs cells slots Q (F0 m (pc + 3) ls (.int (if x = 2 then 1 else 0) :: rest))) : W p l e R s m args below meth c H locs cells slots Q (F0 m pc ls (.ref (es (gw_ix x)) :: rest)) := by
  obtain ⟨h6, hxe⟩ := hx
  have h7 : gw_ix x = 0 ∨ gw_ix x = 1 ∨ gw_ix x = 2 ∨ gw_ix x = 3 ∨ gw_ix x = 4 ∨ gw_ix x = 5 := by omega
  rcases h7 with h | h | h | h | h | h
  · rw [h] at hxe ⊢
    subst hxe
    rw [show (if nI 0 = 2 then 1 else 0) = (0 : Int32) from by first | decide | (simp [nI])] at kk
    exact gw_into (As := []) (C := "Grantworks$State$1") (y := yX11_isReserved) (owner := "Grantworks$State") hexec hb hml hown (hts _ q237) (hts _ q239) (hN.1 _ q238 rfl) (by decide) (hts _ q240) (hts _ q241) (hts _ q242) (by decide +kernel) (gw_sig (n := 0) (by decide +kernel)) (va_Orecv (hE.1 0 (by decide)).2.1 hS) hfr hlo (fun U mk cM methM rt h1 h2 h3 h4 h5 => gw_bodyK (n := 0) hexec rfl dX11_isReserved_0 dX11_isReserved_1 rfl h1 h2 h3 h4 h5) hdg kk
  · rw [h] at hxe ⊢
    subst hxe
    rw [show (if nI 1 = 2 then 1 else 0) = (0 : Int32) from by first | decide | (simp [nI])] at kk
    exact gw_into (As := []) (C := "Grantworks$State$2") (y := yX12_isReserved) (owner := "Grantworks$State") hexec hb hml hown (hts _ q237) (hts _ q239) (hN.1 _ q238 rfl) (by decide) (hts _ q243) (hts _ q244) (hts _ q245) (by decide +kernel) (gw_sig (n := 0) (by decide +kernel)) (va_Orecv (hE.1 1 (by decide)).2.1 hS) hfr hlo (fun U mk cM methM rt h1 h2 h3 h4 h5 => gw_bodyK (n := 0) hexec rfl dX12_isReserved_0 dX12_isReserved_1 rfl h1 h2 h3 h4 h5) hdg kk
  · rw [h] at hxe ⊢
    subst hxe
    rw [show (if nI 2 = 2 then 1 else 0) = (1 : Int32) from by first | decide | (simp [nI])] at kk
    exact gw_into (As := []) (C := "Grantworks$State$3") (y := yX13_isReserved) (owner := "Grantworks$State") hexec hb hml hown (hts _ q237) (hts _ q239) (hN.1 _ q238 rfl) (by decide) (hts _ q246) (hts _ q247) (hts _ q248) (by decide +kernel) (gw_sig (n := 0) (by decide +kernel)) (va_Orecv (hE.1 2 (by decide)).2.1 hS) hfr hlo (fun U mk cM methM rt h1 h2 h3 h4 h5 => gw_bodyK (n := 1) hexec rfl dX13_isReserved_0 dX13_isReserved_1 rfl h1 h2 h3 h4 h5) hdg kk
  · rw [h] at hxe ⊢
    subst hxe
    rw [show (if nI 3 = 2 then 1 else 0) = (0 : Int32) from by first | decide | (simp [nI])] at kk
    exact gw_into (As := []) (C := "Grantworks$State$4") (y := yX14_isReserved) (owner := "Grantworks$State") hexec hb hml hown (hts _ q237) (hts _ q239) (hN.1 _ q238 rfl) (by decide) (hts _ q249) (hts _ q250) (hts _ q251) (by decide +kernel) (gw_sig (n := 0) (by decide +kernel)) (va_Orecv (hE.1 3 (by decide)).2.1 hS) hfr hlo (fun U mk cM methM rt h1 h2 h3 h4 h5 => gw_bodyK (n := 0) hexec rfl dX14_isReserved_0 dX14_isReserved_1 rfl h1 h2 h3 h4 h5) hdg kk
  · rw [h] at hxe ⊢
    subst hxe
    rw [show (if nI 4 = 2 then 1 else 0) = (0 : Int32) from by first | decide | (simp [nI])] at kk
    exact gw_into (As := []) (C := "Grantworks$State$5") (y := yX15_isReserved) (owner := "Grantworks$State") hexec hb hml hown (hts _ q237) (hts _ q239) (hN.1 _ q238 rfl) (by decide) (hts _ q252) (hts _ q253) (hts _ q254) (by decide +kernel) (gw_sig (n := 0) (by decide +kernel)) (va_Orecv (hE.1 4 (by decide)).2.1 hS) hfr hlo (fun U mk cM methM rt h1 h2 h3 h4 h5 => gw_bodyK (n := 0) hexec rfl dX15_isReserved_0 dX15_isReserved_1 rfl h1 h2 h3 h4 h5) hdg kk
  · rw [h] at hxe ⊢
    subst hxe
    rw [show (if nI 5 = 2 then 1 else 0) = (0 : Int32) from by first | decide | (simp [nI])] at kk
    exact gw_into (As := []) (C := "Grantworks$State$6") (y := yX16_isReserved) (owner := "Grantworks$State") hexec hb hml hown (hts _ q237) (hts _ q239) (hN.1 _ q238 rfl) (by decide) (hts _ q255) (hts _ q256) (hts _ q257) (by decide +kernel) (gw_sig (n := 0) (by decide +kernel)) (va_Orecv (hE.1 5 (by decide)).2.1 hS) hfr hlo (fun U mk cM methM rt h1 h2 h3 h4 h5 => gw_bodyK (n := 0) hexec rfl dX16_isReserved_0 dX16_isReserved_1 rfl h1 h2 h3 h4 h5) hdg kk
theorem gw_st_canEnd {x : Int32} {b : Int32} (hnb : narrow .boolean (.int b) = .int b) (hx : gw_s6 x) (hexec : p.tables.exec = Jvm.exec) (hb : c.code = cc) (hml : c.maxLocals = ls.size) (hts : ∀ w ∈ lw_all, w.before args s = true) (hown : s.vm.findClass RX1 = some m.cls) (hE : gw_Ev es A s s.heap) (hN : gw_Nws s ∧ gw_Ncs s) (hS : va_S A s.heap H locs) (hfr : 1 ≤ R.frames) (hlo : (rest.map fun v => v.category).sum + (2 + 11) ≤ R.locals) (hdg : decode cc pc = .ok (.invokevirtual 372, 3))
    (kk : W p l e R s m args below meth c H locs cells slots Q (F0 m (pc + 3) ls (.int (if x = 2 then 1 else if x = 3 ∨ x = 5 then 0 else b) :: rest))) : W p l e R s m args below meth c H locs cells slots Q (F0 m pc ls (.int b :: .ref (es (gw_ix x)) :: rest)) := by
  obtain ⟨h6, hxe⟩ := hx
  have h7 : gw_ix x = 0 ∨ gw_ix x = 1 ∨ gw_ix x = 2 ∨ gw_ix x = 3 ∨ gw_ix x = 4 ∨ gw_ix x = 5 := by omega
  rcases h7 with h | h | h | h | h | h
  · rw [h] at hxe ⊢
    subst hxe
    rw [show (if nI 0 = 2 then 1 else if nI 0 = 3 ∨ nI 0 = 5 then 0 else b) = b from by simp [nI]] at kk
    exact gw_into (As := [.int b]) (C := "Grantworks$State$1") (y := yX11_canEnd) (owner := "Grantworks$State") hexec hb hml hown (hts _ q758) (hts _ q760) (hN.1 _ q759 rfl) (by decide) (hts _ q761) (hts _ q762) (hts _ q763) (by decide +kernel) (gw_sig (n := 1) (by decide +kernel)) (va_Orecv (hE.1 0 (by decide)).2.1 hS) hfr hlo (fun U mk cM methM rt h1 h2 h3 h4 h5 => gw_bodyA hexec dX11_canEnd_0 dX11_canEnd_1 hnb h1 h2 h3 h4 h5) hdg kk
  · rw [h] at hxe ⊢
    subst hxe
    rw [show (if nI 1 = 2 then 1 else if nI 1 = 3 ∨ nI 1 = 5 then 0 else b) = b from by simp [nI]] at kk
    exact gw_into (As := [.int b]) (C := "Grantworks$State$2") (y := yX12_canEnd) (owner := "Grantworks$State") hexec hb hml hown (hts _ q758) (hts _ q760) (hN.1 _ q759 rfl) (by decide) (hts _ q764) (hts _ q765) (hts _ q766) (by decide +kernel) (gw_sig (n := 1) (by decide +kernel)) (va_Orecv (hE.1 1 (by decide)).2.1 hS) hfr hlo (fun U mk cM methM rt h1 h2 h3 h4 h5 => gw_bodyA hexec dX12_canEnd_0 dX12_canEnd_1 hnb h1 h2 h3 h4 h5) hdg kk
  · rw [h] at hxe ⊢
    subst hxe
    rw [show (if nI 2 = 2 then 1 else if nI 2 = 3 ∨ nI 2 = 5 then 0 else b) = (1 : Int32) from by first | decide | (simp [nI])] at kk
    exact gw_into (As := [.int b]) (C := "Grantworks$State$3") (y := yX13_canEnd) (owner := "Grantworks$State") hexec hb hml hown (hts _ q758) (hts _ q760) (hN.1 _ q759 rfl) (by decide) (hts _ q767) (hts _ q768) (hts _ q769) (by decide +kernel) (gw_sig (n := 1) (by decide +kernel)) (va_Orecv (hE.1 2 (by decide)).2.1 hS) hfr hlo (fun U mk cM methM rt h1 h2 h3 h4 h5 => gw_bodyK (n := 1) hexec rfl dX13_canEnd_0 dX13_canEnd_1 rfl h1 h2 h3 h4 h5) hdg kk
  · rw [h] at hxe ⊢
    subst hxe
    rw [show (if nI 3 = 2 then 1 else if nI 3 = 3 ∨ nI 3 = 5 then 0 else b) = (0 : Int32) from by first | decide | (simp [nI])] at kk
    exact gw_into (As := [.int b]) (C := "Grantworks$State$4") (y := yX14_canEnd) (owner := "Grantworks$State") hexec hb hml hown (hts _ q758) (hts _ q760) (hN.1 _ q759 rfl) (by decide) (hts _ q770) (hts _ q771) (hts _ q772) (by decide +kernel) (gw_sig (n := 1) (by decide +kernel)) (va_Orecv (hE.1 3 (by decide)).2.1 hS) hfr hlo (fun U mk cM methM rt h1 h2 h3 h4 h5 => gw_bodyK (n := 0) hexec rfl dX14_canEnd_0 dX14_canEnd_1 rfl h1 h2 h3 h4 h5) hdg kk
  · rw [h] at hxe ⊢
    subst hxe
    rw [show (if nI 4 = 2 then 1 else if nI 4 = 3 ∨ nI 4 = 5 then 0 else b) = b from by simp [nI]] at kk
    exact gw_into (As := [.int b]) (C := "Grantworks$State$5") (y := yX15_canEnd) (owner := "Grantworks$State") hexec hb hml hown (hts _ q758) (hts _ q760) (hN.1 _ q759 rfl) (by decide) (hts _ q773) (hts _ q774) (hts _ q775) (by decide +kernel) (gw_sig (n := 1) (by decide +kernel)) (va_Orecv (hE.1 4 (by decide)).2.1 hS) hfr hlo (fun U mk cM methM rt h1 h2 h3 h4 h5 => gw_bodyA hexec dX15_canEnd_0 dX15_canEnd_1 hnb h1 h2 h3 h4 h5) hdg kk
  · rw [h] at hxe ⊢
    subst hxe
    rw [show (if nI 5 = 2 then 1 else if nI 5 = 3 ∨ nI 5 = 5 then 0 else b) = (0 : Int32) from by first | decide | (simp [nI])] at kk
    exact gw_into (As := [.int b]) (C := "Grantworks$State$6") (y := yX16_canEnd) (owner := "Grantworks$State") hexec hb hml hown (hts _ q758) (hts _ q760) (hN.1 _ q759 rfl) (by decide) (hts _ q776) (hts _ q777) (hts _ q778) (by decide +kernel) (gw_sig (n := 1) (by decide +kernel)) (va_Orecv (hE.1 5 (by decide)).2.1 hS) hfr hlo (fun U mk cM methM rt h1 h2 h3 h4 h5 => gw_bodyK (n := 0) hexec rfl dX16_canEnd_0 dX16_canEnd_1 rfl h1 h2 h3 h4 h5) hdg kk
/-- Enum.ordinal, on an object that holds it -/
theorem gg_ordinal (l : Launch) (A : Nat → Prop) (q : Nat) (v : Int32) : Met l yJ5_ordinal (ws_ yJ5_ordinal cJ5_ordinal 1 (some .int)) ({ frames := 1, cells := 0, slots := 0, locals := 12 }) (va_Pc [.ref q] (fun U => va_OF "java/lang/Enum" "ordinal" "I" (.int v) q A U U.heap)) (vp_Si (fun r => r = v)) 0 0 (fun _ => False) := by
  refine Met.ofW (cc := cJ5_ordinal) (maxL := 1) (ret := (some .int)) (by decide) rfl ?_
  intro p e s m args below meth c s₁ B hml hv
  obtain ⟨rfl, hO⟩ := hv
  have hx := B.exec
  have hb := B.bytes
  have hr := B.returns
  have hts := atoms_spec (ws := ws_ yJ5_ordinal cJ5_ordinal 1 (some .int)) B.pre
  have hts : ∀ w ∈ lw_all, w.before _ s = true := fun w h => hts w (List.mem_cons_of_mem _ h)
  have hown : s.vm.findClass RJ5 = some m.cls := findClass_of_methodNamed B.named
  have hlocks := B.notSynchronized
  have hS : va_S A s.heap s.heap [] := va_S.rf
  have hl := lv_entry ([.ref q]) (n := 1) (Nat.le_of_ble_eq_true rfl)
  rw [lg_entry_eq]
  generalize (lg_sl ([.ref q]) ++ List.replicate (1 - (lg_sl ([.ref q])).length) Slot.unset).toArray = ls at hl ⊢
  have hl : lv_has ls 1 [(0, .ref q)] := hl
  refine lv_aload_n hx hb dJ5_ordinal_0 rfl (lv_at hl 0 rfl) ?_
  refine vk_getf hx hb hO hS hown (hts _ q1170) (fun _ h => h) dJ5_ordinal_1 ?_
  exact W.iret (v := v) hx hb hr (fun t ht hW => ⟨v, rfl, rfl, ht⟩) (fun q h => by cases h) dJ5_ordinal_4
theorem gw_lwO {own : String} {idx : Nat} {C owner : String} {x y : MethodName} {b : ByteArray} {L : Nat} {r : Option FieldType} (h1 : Cond.methodLink own idx x ∈ lw_all) (h2 : Cond.sameMethod x.cls owner x.name x.desc ∈ lw_all) (h3 : Cond.selects C x y ∈ lw_all) (h4 : Cond.instanceMethod y ∈ lw_all) (h5 : Cond.initialized y.cls ∈ lw_all) (h6 : Cond.code y b L r ∈ lw_all) : GoodIn lw_all (va_wsU own idx C owner x y (ws_ y b L r)) := by
  refine lw_app ?_ (lw_meth h6)
  intro w hw
  simp only [List.mem_cons, List.not_mem_nil, or_false] at hw
  rcases hw with e | e | e | e | e
  · rw [e]; exact h1
  · rw [e]; exact h2
  · rw [e]; exact h3
  · rw [e]; exact h4
  · rw [e]; exact h5
theorem gw_st_ordinal {x : Int32} (hx : gw_s6 x) (hexec : p.tables.exec = Jvm.exec) (hb : c.code = cc) (hml : c.maxLocals = ls.size) (hts : ∀ w ∈ lw_all, w.before args s = true) (hown : s.vm.findClass RX1 = some m.cls) (hE : gw_Ev es A s s.heap) (hS : va_S A s.heap H locs) (hfr : 2 ≤ R.frames) (hlo : 8 + (1 + 11) + 12 ≤ R.locals) (hrs : (rest.map fun v => v.category).sum ≤ 8) (hcs : cells ≤ R.cells ∧ slots ≤ R.slots) (hdg : decode cc pc = .ok (.invokevirtual 386, 3))
    (kk : W p l e R s m args below meth c H locs cells slots Q (F0 m (pc + 3) ls (.int x :: rest))) : W p l e R s m args below meth c H locs cells slots Q (F0 m pc ls (.ref (es (gw_ix x)) :: rest)) := by
  obtain ⟨h6, hxe⟩ := hx
  have h7 : gw_ix x = 0 ∨ gw_ix x = 1 ∨ gw_ix x = 2 ∨ gw_ix x = 3 ∨ gw_ix x = 4 ∨ gw_ix x = 5 := by omega
  rcases h7 with h | h | h | h | h | h
  · rw [h] at hxe ⊢
    subst hxe
    refine gw_scalli (Rv := nI 0) (va_Run.run (va_runU (As := []) (rest := rest) (C := "Grantworks$State$1") ⟨hexec, hb, hml, hown, hts⟩ (gg_ordinal l A (es 0) (nI 0)) (va_cwU (owner := "java/lang/Enum") (y := yJ5_ordinal) 0 hts (gw_lwO q795 q796 q798 q804 q53 q805) rfl rfl rfl rfl (by decide +kernel) ⟨hfr, hlo⟩) ⟨?_, va_Orecv (hE.1 0 (by decide)).2.1 hS, ?_⟩ rfl rfl rfl rfl ?_ hdg hcs)) kk
    · intro a U g mk q; exact ⟨q.1, va_OF.moved (u := U) (U := U.calling g mk a) (Vm.Alike.refl U.vm) q.2⟩
    · intro U hU hW; exact ⟨rfl, by subst hU; exact va_OF.moved hW.alike ((hE.1 0 (by decide)).2.2.kept hS.2.1)⟩
    · show 2 * 0 + _ ≤ 8; omega
  · rw [h] at hxe ⊢
    subst hxe
    refine gw_scalli (Rv := nI 1) (va_Run.run (va_runU (As := []) (rest := rest) (C := "Grantworks$State$2") ⟨hexec, hb, hml, hown, hts⟩ (gg_ordinal l A (es 1) (nI 1)) (va_cwU (owner := "java/lang/Enum") (y := yJ5_ordinal) 0 hts (gw_lwO q795 q796 q799 q804 q53 q805) rfl rfl rfl rfl (by decide +kernel) ⟨hfr, hlo⟩) ⟨?_, va_Orecv (hE.1 1 (by decide)).2.1 hS, ?_⟩ rfl rfl rfl rfl ?_ hdg hcs)) kk
    · intro a U g mk q; exact ⟨q.1, va_OF.moved (u := U) (U := U.calling g mk a) (Vm.Alike.refl U.vm) q.2⟩
    · intro U hU hW; exact ⟨rfl, by subst hU; exact va_OF.moved hW.alike ((hE.1 1 (by decide)).2.2.kept hS.2.1)⟩
    · show 2 * 0 + _ ≤ 8; omega
  · rw [h] at hxe ⊢
    subst hxe
    refine gw_scalli (Rv := nI 2) (va_Run.run (va_runU (As := []) (rest := rest) (C := "Grantworks$State$3") ⟨hexec, hb, hml, hown, hts⟩ (gg_ordinal l A (es 2) (nI 2)) (va_cwU (owner := "java/lang/Enum") (y := yJ5_ordinal) 0 hts (gw_lwO q795 q796 q800 q804 q53 q805) rfl rfl rfl rfl (by decide +kernel) ⟨hfr, hlo⟩) ⟨?_, va_Orecv (hE.1 2 (by decide)).2.1 hS, ?_⟩ rfl rfl rfl rfl ?_ hdg hcs)) kk
    · intro a U g mk q; exact ⟨q.1, va_OF.moved (u := U) (U := U.calling g mk a) (Vm.Alike.refl U.vm) q.2⟩
    · intro U hU hW; exact ⟨rfl, by subst hU; exact va_OF.moved hW.alike ((hE.1 2 (by decide)).2.2.kept hS.2.1)⟩
    · show 2 * 0 + _ ≤ 8; omega
  · rw [h] at hxe ⊢
    subst hxe
    refine gw_scalli (Rv := nI 3) (va_Run.run (va_runU (As := []) (rest := rest) (C := "Grantworks$State$4") ⟨hexec, hb, hml, hown, hts⟩ (gg_ordinal l A (es 3) (nI 3)) (va_cwU (owner := "java/lang/Enum") (y := yJ5_ordinal) 0 hts (gw_lwO q795 q796 q801 q804 q53 q805) rfl rfl rfl rfl (by decide +kernel) ⟨hfr, hlo⟩) ⟨?_, va_Orecv (hE.1 3 (by decide)).2.1 hS, ?_⟩ rfl rfl rfl rfl ?_ hdg hcs)) kk
    · intro a U g mk q; exact ⟨q.1, va_OF.moved (u := U) (U := U.calling g mk a) (Vm.Alike.refl U.vm) q.2⟩
    · intro U hU hW; exact ⟨rfl, by subst hU; exact va_OF.moved hW.alike ((hE.1 3 (by decide)).2.2.kept hS.2.1)⟩
    · show 2 * 0 + _ ≤ 8; omega
  · rw [h] at hxe ⊢
    subst hxe
    refine gw_scalli (Rv := nI 4) (va_Run.run (va_runU (As := []) (rest := rest) (C := "Grantworks$State$5") ⟨hexec, hb, hml, hown, hts⟩ (gg_ordinal l A (es 4) (nI 4)) (va_cwU (owner := "java/lang/Enum") (y := yJ5_ordinal) 0 hts (gw_lwO q795 q796 q802 q804 q53 q805) rfl rfl rfl rfl (by decide +kernel) ⟨hfr, hlo⟩) ⟨?_, va_Orecv (hE.1 4 (by decide)).2.1 hS, ?_⟩ rfl rfl rfl rfl ?_ hdg hcs)) kk
    · intro a U g mk q; exact ⟨q.1, va_OF.moved (u := U) (U := U.calling g mk a) (Vm.Alike.refl U.vm) q.2⟩
    · intro U hU hW; exact ⟨rfl, by subst hU; exact va_OF.moved hW.alike ((hE.1 4 (by decide)).2.2.kept hS.2.1)⟩
    · show 2 * 0 + _ ≤ 8; omega
  · rw [h] at hxe ⊢
    subst hxe
    refine gw_scalli (Rv := nI 5) (va_Run.run (va_runU (As := []) (rest := rest) (C := "Grantworks$State$6") ⟨hexec, hb, hml, hown, hts⟩ (gg_ordinal l A (es 5) (nI 5)) (va_cwU (owner := "java/lang/Enum") (y := yJ5_ordinal) 0 hts (gw_lwO q795 q796 q803 q804 q53 q805) rfl rfl rfl rfl (by decide +kernel) ⟨hfr, hlo⟩) ⟨?_, va_Orecv (hE.1 5 (by decide)).2.1 hS, ?_⟩ rfl rfl rfl rfl ?_ hdg hcs)) kk
    · intro a U g mk q; exact ⟨q.1, va_OF.moved (u := U) (U := U.calling g mk a) (Vm.Alike.refl U.vm) q.2⟩
    · intro U hU hW; exact ⟨rfl, by subst hU; exact va_OF.moved hW.alike ((hE.1 5 (by decide)).2.2.kept hS.2.1)⟩
    · show 2 * 0 + _ ≤ 8; omega
end GWC
