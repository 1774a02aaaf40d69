/-! ROWS OF THE CLASS's WORLD: references compared, lengths, calls of State's methods -/
set_option maxRecDepth 100000
theorem gw_ifs {c : Prop} [Decidable c] {a : Nat} (h : c) : va_rf (if c then some a else none) = .ref a := by rw [if_pos h]; rfl
theorem gw_ifn {c : Prop} [Decidable c] {a : Nat} (h : ¬ c) : va_rf (if c then none else some a) = .ref a := by rw [if_neg h]; rfl
section GWA
variable {p : Program} {l : Launch} {e : Env} {R : Room} {s : State} {m : MethodId} {args : Array Value} {below : List Frame} {meth : Method} {c : Code} {H : Heap} {locs : List Loc} {cells slots : Nat} {Q : State → Prop}
variable {cc : ByteArray} {pc : Nat} {ls : Array Slot} {rest st0 : List Value} {D : va_G} {A : Nat → Prop} {ca : Nat → ClassId} {es : Nat → Nat} {H0 : Heap} {ad hd : Nat → Nat → Nat} {σ γ : gw_S} {ord : List Nat} {ν : Nat → Nat} {a : Array Value} {mc ms : Nat}
theorem gw_alen {a0 n t0 : Nat} {ty : FieldType} {x : (Nat → Int32) ⊕ (Nat → Int64) ⊕ (Nat → UInt32) ⊕ (Nat → UInt64) ⊕ (Nat → Option Nat)} (hexec : p.tables.exec = Jvm.exec) (hb : c.code = cc) (hK : va_K D gw_cl (gw_tys ca) s) (ht : (gw_tys ca)[t0]? = some (ca t0, ty)) (he : va_at D gw_cl (a0, .inl (ca t0, n, x)) H) (hdg : decode cc pc = .ok (.arraylength, 1)) {v : Int32} (hv : Int32.ofNat n = v)
    (kk : W p l e R s m args below meth c H locs cells slots Q (F0 m (pc + 1) ls (.int v :: rest))) : W p l e R s m args below meth c H locs cells slots Q (F0 m pc ls (.ref a0 :: rest)) :=
  va_alen hexec hb hK (gw_P1 he) 0 t0 rfl ht hv hdg kk
theorem gw_scalld {Rv : UInt64} (hr : CallRun p l e R s m args below meth c H locs cells slots 0 0 (F0 m pc ls st0) rest (vp_Sd (fun r => r = Rv) a) (fun _ => False))
    (kk : W p l e R s m args below meth c H locs cells slots Q (F0 m (pc + 3) ls (.double Rv :: rest))) : W p l e R s m args below meth c H locs cells slots Q (F0 m pc ls st0) :=
  vp_callSd hr (fun r hp => by subst hp; exact kk)
/-- a state's number -/
abbrev gw_s6 (x : Int32) : Prop := gw_ix x < 6 ∧ x = nI (gw_ix x)
theorem gw_s6_eq {x y : Int32} (hE : gw_Ev es A s s.heap) (hx : gw_s6 x) (hy : gw_s6 y) : some (es (gw_ix x)) = some (es (gw_ix y)) ↔ x = y := by
  constructor
  · intro h
    have h1 := hE.2.1 _ _ hx.1 hy.1 (Option.some.inj h)
    rw [hx.2, hy.2, h1]
  · intro h; rw [h]
theorem gw_acs_eq {x y : Int32} (hE : gw_Ev es A s s.heap) (hx : gw_s6 x) (hy : gw_s6 y) (hexec : p.tables.exec = Jvm.exec) (hb : c.code = cc) {off : Int} {tgt : Nat} (hdg : decode cc pc = .ok (.if_acmp .eq off, 3)) (ht : (pc : Int) + off = (tgt : Int))
    (kt : x = y → W p l e R s m args below meth c H locs cells slots Q (F0 m tgt ls rest)) (kf : ¬ x = y → W p l e R s m args below meth c H locs cells slots Q (F0 m (pc + 3) ls rest)) : W p l e R s m args below meth c H locs cells slots Q (F0 m pc ls (.ref (es (gw_ix y)) :: .ref (es (gw_ix x)) :: rest)) :=
  lv_acmp_eq (rx := some (es (gw_ix x))) (ry := some (es (gw_ix y))) hexec hb hdg ht (fun h => kt ((gw_s6_eq hE hx hy).mp h)) (fun h => kf (fun h2 => h ((gw_s6_eq hE hx hy).mpr h2)))
theorem gw_acs_ne {x y : Int32} (hE : gw_Ev es A s s.heap) (hx : gw_s6 x) (hy : gw_s6 y) (hexec : p.tables.exec = Jvm.exec) (hb : c.code = cc) {off : Int} {tgt : Nat} (hdg : decode cc pc = .ok (.if_acmp .ne off, 3)) (ht : (pc : Int) + off = (tgt : Int))
    (kt : ¬ x = y → W p l e R s m args below meth c H locs cells slots Q (F0 m tgt ls rest)) (kf : x = y → W p l e R s m args below meth c H locs cells slots Q (F0 m (pc + 3) ls rest)) : W p l e R s m args below meth c H locs cells slots Q (F0 m pc ls (.ref (es (gw_ix y)) :: .ref (es (gw_ix x)) :: rest)) :=
  lv_acmp_ne (rx := some (es (gw_ix x))) (ry := some (es (gw_ix y))) hexec hb hdg ht (fun h => kt (fun h2 => h ((gw_s6_eq hE hx hy).mpr h2))) (fun h => kf ((gw_s6_eq hE hx hy).mp h))
/-- into an overriding method of a class whose start isn't told, and to its entry (follows the library's deepVirtualUp, WalkUp.lean, and Steps.itrCheck, Example/LibItr.lean) -/
theorem gw_into {own C owner : String} {index maxL b0 : Nat} {x y : MethodName} {bytes : ByteArray} {ret : Option FieldType} {v : Int32} {As : List Value} (hexec : p.tables.exec = Jvm.exec) (hb : c.code = cc) (hml : c.maxLocals = ls.size)
    (hown : s.vm.findClass own = some m.cls) (hlink : (Cond.methodLink own index x).before args s = true) (hsame : (Cond.sameMethod x.cls owner x.name x.desc).before args s = true) (hdecl : va_Nw (.declares ⟨owner, x.name, x.desc⟩) s)
    (howner : owner ≠ "java/lang/invoke/MethodHandle" ∧ owner ≠ "java/lang/invoke/VarHandle") (hsel : (Cond.selects C x y).before args s = true) (hinst : (Cond.instanceMethod y).before args s = true) (hcode : (Cond.code y bytes maxL ret).before args s = true) (hplain : plainFor y = true)
    (hlen : ∀ sig, parseMethodDescriptor x.desc = some sig → As.length = sig.parameters.length) (hrecv : ∃ cell : Cell, H[b0]? = some cell ∧ cell.vm.isStatics = false ∧ s.vm.findClass C = some cell.cls)
    (hframes : 1 ≤ R.frames) (hlocals : (rest.map fun v => v.category).sum + (maxL + 11) ≤ R.locals)
    (body : ∀ (U : State) (mk : MethodId) (cM : Code) (methM : Method) (rt : State), cM.code = bytes → At U mk cM below → methM.sig.returnType = ret → U.vm.method? mk = some methM → (∀ (f : JFrame) (acts : List Action), f.method = mk → f.locked = none → f.entered = [] → (doReturn e (U.setTop f) acts (some (.int v))).1 = rt) → Steps p.tables e below (U.setTop (entryFrame mk (.ref b0 :: As).toArray maxL)) rt)
    (hdg : decode cc pc = .ok (.invokevirtual index, 3))
    (kk : W p l e R s m args below meth c H locs cells slots Q (F0 m (pc + 3) ls (.int v :: rest))) : W p l e R s m args below meth c H locs cells slots Q (F0 m pc ls (As.reverse ++ .ref b0 :: rest)) := by
  intro T hT X
  obtain ⟨cell, hcell, hobj, hclB⟩ := hrecv
  have hdecl2 := va_Decl.abs hdecl
  obtain ⟨r0, r, hn, hrm, hstR, hsigR⟩ := hdecl2
  obtain ⟨cn, ck, r1, hcn, hck, hni, hf, hn1⟩ := Cond.sameMethod_found hsame
  cases hn.symm.trans hn1
  obtain ⟨mk, methM, hnamed, hmethM, -, habM⟩ := Cond.instanceMethod_spec hinst
  obtain ⟨methM', cM, hmethM', hcodeM', hbM, hlocalsM, hretM, hlockM, -, -⟩ := Cond.code_spec hnamed hcode
  cases hmethM.symm.trans hmethM'
  obtain ⟨c2, r2, m2, q1, q2, q3, q4, kP, hkP, hkPi⟩ := Cond.selects_spec hsel
  cases hclB.symm.trans q1
  cases hf.symm.trans q2
  cases hnamed.symm.trans q3
  have hselP : selectMethod e.platform s.vm cell.cls r0 = .method mk := by rw [Launch.admits_selectMethod X.admits]; exact q4
  obtain ⟨vm₁, X₁, hstep₁⟩ := X.invokevirtualUp hexec hown hlink hsame howner hn hrm hstR (a := b0) (cell := cell) (by rw [hT]; exact hcell)
    (fun z h => by rw [h] at hobj; cases hobj) hselP hmethM habM hkP hkPi (g := F0 m pc ls (As.reverse ++ .ref b0 :: rest)) rfl (argsL := As) (rest := rest) (hlen _ hsigR) rfl (by rw [hb]; exact hdg)
  have hW₁ : s.WarmedH vm₁ := X₁.warmed
  have hm₁ : (T.setVm vm₁).vm.method? mk = some methM := by show vm₁.method? mk = _; rw [hW₁.alike.method?]; exact hmethM
  have hroom := X₁.notFull (g := { F0 m pc ls (As.reverse ++ .ref b0 :: rest) with stack := rest }) (vars := cM.maxLocals) hml.symm hframes (by rw [hlocalsM]; show 2 * 0 + (rest.map fun v => v.category).sum + _ ≤ _; omega)
  obtain ⟨t, a1, b1⟩ := kk (T.setVm vm₁) hT X₁
  refine ⟨t, hstep₁ _ fun acts => ?_, b1⟩
  have hp : (T.setVm vm₁).plainMethod mk := State.plainMethod.of_named hplain (X₁.named hnamed) hm₁
  rw [doInvoke_enter (g := { F0 m pc ls (As.reverse ++ .ref b0 :: rest) with stack := rest }) X₁.here.top acts hm₁ hcodeM' hlockM hroom]
  have hT1 := At.enter (g := { F0 m pc ls (As.reverse ++ .ref b0 :: rest) with stack := rest }) (show At (T.setVm vm₁) m c below from X₁.here) (.ref b0 :: As).toArray hm₁ hcodeM' hp
  have hf1 := frames_entered (g := { F0 m pc ls (As.reverse ++ .ref b0 :: rest) with stack := rest }) X₁.here.top (.java (entryFrame mk (.ref b0 :: As).toArray cM.maxLocals))
  rw [hlocalsM] at hT1 hf1 ⊢
  refine (body _ mk cM methM _ hbM hT1 hretM hm₁ (fun f acts hfm h1 h2 => ?_)).trans a1
  rw [doReturn_leave (g := { F0 m pc ls (As.reverse ++ .ref b0 :: rest) with stack := rest }) (meth := methM) (cg := c) (ig := .invokevirtual index) (len := 3) acts hf1 (by rw [hfm]; exact hm₁) hlockM h1 h2
      (by have := X₁.here.code; rw [State.code?_eq] at this ⊢; simpa [State.pushFrame, State.setFrames] using this) (by rw [hb]; exact hdg), setFrames_entered X₁.here.top, State.setTop_setTop]
  rfl
end GWA
section GWB
variable {p : Program} {l : Launch} {e : Env} {R : Room} {s : State} {m : MethodId} {args : Array Value} {below : List Frame} {meth : Method} {c : Code} {H : Heap} {locs : List Loc} {cells slots : Nat} {Q : State → Prop}
variable {cc : ByteArray} {pc : Nat} {ls : Array Slot} {rest st0 : List Value}
/-- a body 'iconst k; ireturn' of a boolean method -/
theorem gw_bodyK {bytes : ByteArray} {As : List Value} {maxL b0 : Nat} {n : Int} {k : Int32} {U : State} {mk : MethodId} {cM : Code} {methM : Method} {rt : State} (hexec : p.tables.exec = Jvm.exec) (hn : Int32.ofInt n = k) (d0 : decode bytes 0 = .ok (.iconst n, 1)) (d1 : decode bytes 1 = .ok (.ireturn, 1)) (hk : narrow .boolean (.int k) = .int k)
    (hbM : cM.code = bytes) (hT1 : At U mk cM below) (hret : methM.sig.returnType = some .boolean) (hm : U.vm.method? mk = some methM) (hend : ∀ (f : JFrame) (acts : List Action), f.method = mk → f.locked = none → f.entered = [] → (doReturn e (U.setTop f) acts (some (.int k))).1 = rt) : Steps p.tables e below (U.setTop (entryFrame mk (.ref b0 :: As).toArray maxL)) rt := by
  subst hbM
  subst hn
  obtain ⟨ls0, hls⟩ : ∃ z, entryFrame mk (.ref b0 :: As).toArray maxL = { method := mk, pc := 0, locals := z, stack := [], locked := none } := ⟨_, rfl⟩
  rw [hls]
  jvm_step hT1 [hexec, d0]
  jvm_step hT1 [hexec, d1, hm, hret, hk]
  intro acts
  rw [hend _ acts rfl rfl rfl]
  exact Steps.refl _
end GWB
theorem gw_lit31 : (31 : Int32) = nI 31 := rfl
theorem gw_lit16 : (16 : Int32) = nI 16 := rfl
theorem gw_key_ne {i j : Nat} : (i / 12 = j / 12 ∧ i % 12 = j % 12) ↔ i = j := by omega
theorem gw_nI_eq {i j : Nat} (hi : i < 2147483648) (hj : j < 2147483648) : nI i = nI j ↔ i = j :=
  ⟨fun h => by have := congrArg gw_ix h; rwa [gw_ix_nI (by omega), gw_ix_nI (by omega)] at this, fun h => by rw [h]⟩
theorem gw_k_eq {i j : Nat} (hi : i < 48) (hj : j < 48) : (nI (i / 12) = nI (j / 12) ∧ nI (i % 12) = nI (j % 12)) ↔ i = j := by
  rw [gw_nI_eq (by omega) (by omega), gw_nI_eq (by omega) (by omega)]
  omega
/-! ## entries by their kinds -/
section GWE
variable {D : va_G} {A : Nat → Prop} {ca : Nat → ClassId} {es : Nat → Nat} {ad hd : Nat → Nat → Nat} {σ γ : gw_S} {ord : List Nat} {ν : Nat → Nat} {H : Heap} {j : Nat}
theorem gw_e0 (h : gw_gW D ca es A ad hd σ γ ord ν H) (hj : j < ν 1) (hk : σ 32 j = 0) : va_at D gw_cl (hd 15 j, .inr (5, [.ref (hd 10 (gw_ix (σ 33 j))), .int (σ 34 j)])) H := by
  have z := gw_c15 h hj
  unfold gw_ent at z
  rw [hk] at z
  exact z
theorem gw_e1 (h : gw_gW D ca es A ad hd σ γ ord ν H) (hj : j < ν 1) (hk : σ 32 j = 1) : va_at D gw_cl (hd 15 j, .inr (6, [.ref (hd 10 (gw_ix (σ 33 j))), .int (σ 34 j), .int (σ 35 j)])) H := by
  have z := gw_c15 h hj
  unfold gw_ent at z
  rw [hk] at z
  exact z
theorem gw_e2 (h : gw_gW D ca es A ad hd σ γ ord ν H) (hj : j < ν 1) (hk : σ 32 j = 2) : va_at D gw_cl (hd 15 j, .inr (8, [.ref (hd 10 (gw_ix (σ 33 j))), .int (σ 34 j), .int (σ 35 j)])) H := by
  have z := gw_c15 h hj
  unfold gw_ent at z
  rw [hk] at z
  exact z
theorem gw_e3 (h : gw_gW D ca es A ad hd σ γ ord ν H) (hj : j < ν 1) (hk : σ 32 j = 3) : va_at D gw_cl (hd 15 j, .inr (9, [.ref (hd 10 (gw_ix (σ 33 j))), .int (σ 34 j), .int (σ 35 j)])) H := by
  have z := gw_c15 h hj
  unfold gw_ent at z
  rw [hk] at z
  exact z
end GWE
/-! ## buckets -/
def gw_Ko (γ : gw_S) (ord : List Nat) : Prop := ord.Nodup ∧ ∀ i, i ∈ ord → i < 48 ∧ ¬ γ 8 i = 0
theorem gw_su_app : ∀ {pre : List Nat} {i : Nat} {L : List Nat}, (pre ++ i :: L).Nodup → gw_su (pre ++ i :: L) i = L.head?
  | [], i, L, _ => by simp [gw_su]
  | b :: pre, i, L, h => by
    have h1 := List.nodup_cons.mp (show (b :: (pre ++ i :: L)).Nodup from h)
    have hb : ¬ b = i := fun e => h1.1 (by rw [e]; simp)
    show (if b = i then _ else gw_su (pre ++ i :: L) i) = _
    rw [if_neg hb]
    exact gw_su_app h1.2
theorem gw_bk_mem {ord : List Nat} {i k : Nat} : i ∈ gw_bk ord k ↔ i ∈ ord ∧ gw_hs i = k := by
  simp [gw_bk]
theorem gw_bk_nodup {ord : List Nat} {k : Nat} (h : ord.Nodup) : (gw_bk ord k).Nodup := by
  unfold gw_bk
  exact List.pairwise_reverse.mpr ((List.Pairwise.filter _ h).imp fun q => Ne.symm q)
theorem gw_ns_at {ord : List Nat} {j i : Nat} {pre L : List Nat} (h : ord.Nodup) (hb : gw_bk ord (gw_hs j) = pre ++ i :: L) : gw_ns ord i = L.head? := by
  have hi : i ∈ gw_bk ord (gw_hs j) := by rw [hb]; simp
  have h1 := (gw_bk_mem.mp hi).2
  unfold gw_ns
  rw [h1, hb]
  exact gw_su_app (by rw [← hb]; exact gw_bk_nodup h)
theorem gw_bk_i {ord : List Nat} {j i : Nat} {pre L : List Nat} (hb : gw_bk ord (gw_hs j) = pre ++ i :: L) : i ∈ ord := (gw_bk_mem.mp (show i ∈ gw_bk ord (gw_hs j) by rw [hb]; simp)).1
theorem gw_hs_rem {j : Nat} (hj : j < 48) : nI ((7 * (j % 12)) + (31 * (j / 12))) - nI ((7 * (j % 12)) + (31 * (j / 12))) / 16 * 16 = nI (gw_hs j) := by
  have : ∀ k : Fin 48, nI ((7 * (k.val % 12)) + (31 * (k.val / 12))) - nI ((7 * (k.val % 12)) + (31 * (k.val / 12))) / 16 * 16 = nI (gw_hs k.val) := by decide +kernel
  exact this ⟨j, hj⟩
theorem gw_hs16 (j : Nat) : gw_hs j < 16 := Nat.mod_lt _ (by decide)
/-! ## locals that hold a reference or null -/
section GWQ
variable {p : Program} {l : Launch} {e : Env} {R : Room} {s : State} {m : MethodId} {args : Array Value} {below : List Frame} {meth : Method} {c : Code} {H : Heap} {locs : List Loc} {cells slots : Nat} {Q : State → Prop}
variable {cc : ByteArray} {pc : Nat} {ls : Array Slot} {rest st0 : List Value}
theorem gw_astore_n (hexec : p.tables.exec = Jvm.exec) (hb : c.code = cc) {k : Fin 4} {i nL : Nat} {x : Option Nat} {lv lv' : List (Nat × Value)} (hdg : decode cc pc = .ok (.astore_n k, 1)) (hi : (k : Nat) = i) (h : lv_has ls nL lv) (hn : i < nL) (hl : (i, va_rf x) :: lv.filter (fun q => !(q.1 == i) && !(q.1 + 1 == i && q.2.category == 2)) = lv')
    (kk : ∀ ls' : Array Slot, lv_has ls' nL lv' → W p l e R s m args below meth c H locs cells slots Q (F0 m (pc + 1) ls' rest)) : W p l e R s m args below meth c H locs cells slots Q (F0 m pc ls (va_rf x :: rest)) := by
  cases x with
  | none => exact lv_astore_nN hexec hb hdg hi h hn hl kk
  | some a => exact lv_astore_n hexec hb hdg hi h hn hl kk
theorem gw_astore (hexec : p.tables.exec = Jvm.exec) (hb : c.code = cc) {i nL : Nat} {x : Option Nat} {lv lv' : List (Nat × Value)} (hdg : decode cc pc = .ok (.astore i, 2)) (h : lv_has ls nL lv) (hn : i < nL) (hl : (i, va_rf x) :: lv.filter (fun q => !(q.1 == i) && !(q.1 + 1 == i && q.2.category == 2)) = lv')
    (kk : ∀ ls' : Array Slot, lv_has ls' nL lv' → W p l e R s m args below meth c H locs cells slots Q (F0 m (pc + 2) ls' rest)) : W p l e R s m args below meth c H locs cells slots Q (F0 m pc ls (va_rf x :: rest)) := by
  cases x with
  | none => exact lv_astoreN hexec hb hdg h hn hl kk
  | some a => exact lv_astore hexec hb hdg h hn hl kk
theorem gw_aload_n (hexec : p.tables.exec = Jvm.exec) (hb : c.code = cc) {k : Fin 4} {i : Nat} {x : Option Nat} (hdg : decode cc pc = .ok (.aload_n k, 1)) (hi : (k : Nat) = i) (hl : ls[i]? = some (.val (va_rf x)))
    (kk : W p l e R s m args below meth c H locs cells slots Q (F0 m (pc + 1) ls (va_rf x :: rest))) : W p l e R s m args below meth c H locs cells slots Q (F0 m pc ls (rest)) := by
  cases x with
  | none => exact lv_aload_nN hexec hb hdg hi hl kk
  | some a => exact lv_aload_n hexec hb hdg hi hl kk
theorem gw_aload (hexec : p.tables.exec = Jvm.exec) (hb : c.code = cc) {i : Nat} {x : Option Nat} (hdg : decode cc pc = .ok (.aload i, 2)) (hl : ls[i]? = some (.val (va_rf x)))
    (kk : W p l e R s m args below meth c H locs cells slots Q (F0 m (pc + 2) ls (va_rf x :: rest))) : W p l e R s m args below meth c H locs cells slots Q (F0 m pc ls (rest)) := by
  cases x with
  | none => exact lv_aloadN hexec hb hdg hl kk
  | some a => exact lv_aload hexec hb hdg hl kk
end GWQ
/-! ## plain rows -/
theorem gw_pos3 {x y z : Int32} (hx : 0 ≤ x ∧ x ≤ 100000) (hy : 0 ≤ y ∧ y ≤ 100000) (hz : 0 ≤ z ∧ z ≤ 100000) : 0 < x + y + z ↔ (0 < x ∨ 0 < y ∨ 0 < z) := by
  simp only [Int32.le_iff_toInt_le, Int32.lt_iff_toInt_lt] at *
  have e0 : (0 : Int32).toInt = 0 := rfl
  have e1 : (100000 : Int32).toInt = 100000 := rfl
  have e2 : (x + y + z).toInt = x.toInt + y.toInt + z.toInt := by
    rw [Int32.toInt_add, Int32.toInt_add, Int.bmod_eq_of_le (n := x.toInt + y.toInt) (by omega) (by omega), Int.bmod_eq_of_le (by omega) (by omega)]
  rw [e2]
  omega
/-- one bit -/
def gw_bit (x : Int32) (j : Nat) : Int32 := (x >>> (nI j &&& 31)) &&& 1
theorem gw_bit_at {y x : Int32} (h : x = nI (gw_ix x)) : (y >>> (x &&& 31)) &&& 1 = gw_bit y (gw_ix x) := by
  unfold gw_bit
  rw [← h]
theorem gw_and01 (x : Int32) : x &&& 1 = 0 ∨ x &&& 1 = 1 := by
  have h : (x &&& 1).toBitVec = x.toBitVec &&& 1#32 := rfl
  have h2 : (x &&& 1).toBitVec.toNat < 2 := by
    rw [h, BitVec.toNat_and]
    exact Nat.lt_of_le_of_lt Nat.and_le_right (by decide)
  rcases (show (x &&& 1).toBitVec.toNat = 0 ∨ (x &&& 1).toBitVec.toNat = 1 by omega) with q | q
  · exact Or.inl (Int32.toBitVec_inj.mp (BitVec.eq_of_toNat_eq q))
  · exact Or.inr (Int32.toBitVec_inj.mp (BitVec.eq_of_toNat_eq q))
theorem gw_bit_01 (y : Int32) (j : Nat) : gw_bit y j = 0 ∨ gw_bit y j = 1 := gw_and01 _
theorem gw_ne1 {x : Int32} (h : x = 0 ∨ x = 1) : x = 1 ↔ ¬ x = 0 := by
  rcases h with h | h <;> subst h <;> decide
/-- a score's range -/
abbrev gw_sb (x : Int32) : Prop := -1000000 ≤ x ∧ x ≤ 1000000000
theorem gw_sub0 {x y : Int32} (hx : gw_sb x) (hy : gw_sb y) : (x - y = 0 ↔ x = y) ∧ (0 < x - y ↔ y < x) := by
  unfold gw_sb at hx hy
  simp only [Int32.le_iff_toInt_le, Int32.lt_iff_toInt_lt, ← Int32.toInt_inj] at *
  have e0 : (-1000000 : Int32).toInt = -1000000 := rfl
  have e1 : (1000000000 : Int32).toInt = 1000000000 := rfl
  have e3 : (0 : Int32).toInt = 0 := rfl
  have e2 : (x - y).toInt = x.toInt - y.toInt := by
    rw [Int32.toInt_sub, Int.bmod_eq_of_le (by omega) (by omega)]
  rw [e2]
  omega
theorem gw_nI_lt {i j : Nat} (hi : i < 2147483648) (hj : j < 2147483648) : nI i < nI j ↔ i < j :=
  ⟨fun h => Nat.lt_of_not_le (fun q => nI_nlt q hi h), fun h => nI_lt h hj⟩
theorem gw_nge10 {k : Nat} (h : k < 10) : ¬ (10 : Int32) ≤ nI k := nI_ge (show k < 10 from h) (by decide)
theorem gw_ge10 {k : Nat} (h : k = 10) : (10 : Int32) ≤ nI k := by subst h; decide
