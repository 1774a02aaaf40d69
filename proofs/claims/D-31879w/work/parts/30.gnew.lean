/-! NEW OBJECTS OF THE CLASS's WORLD -/
set_option maxRecDepth 100000
section GWN
variable {p : Program} {l : Launch} {e : Env} {R : Room} {s : State} {m : MethodId} {args : Array Value} {below : List Frame} {meth : Method} {c : Code} {H H0 : Heap} {locs : List Loc} {cells slots : Nat} {Q : State → Prop}
variable {cc : ByteArray} {pc : Nat} {ls : Array Slot} {rest st0 : List Value} {D : va_G} {A : Nat → Prop} {ca : Nat → ClassId} {a : Array Value} {mc ms : Nat}
theorem gw_new (hexec : p.tables.exec = Jvm.exec) (hb : c.code = cc) {own C : String} {T : u_T} {N ci index : Nat} (hts : ∀ w ∈ lw_all, w.before args s = true) (hin : ∀ w ∈ u_ws C T N, w ∈ lw_all) (ty : Nat → FieldType) (hty : ∀ k, k < N → parseFieldDescriptor (T k).2.2.1 = some (ty k)) (hown : s.vm.findClass own = some m.cls) (hcl : (Cond.classLink own index C).before args s = true) (hinst : (Cond.instantiable C N).before args s = true) (hini : (Cond.initialized C).before args s = true)
    (hK : va_K D gw_cl (gw_tys ca) s) (hS : va_S A H0 H locs) (hc : gw_cl[ci]? = some (C, T, N)) {fs : List Value} (hfs : ∀ j, j < N → defaultValue (ty j) = vp_V fs j) (hcells : cells + 1 ≤ R.cells) (hslots : slots + N ≤ R.slots) (hdg : decode cc pc = .ok (.new index, 3))
    (kk : ∀ (q : Nat) (H1 : Heap), q = H.size → va_at D gw_cl (q, .inr (ci, fs)) H1 → (∀ x : Nat, x < H.size → H1[x]? = H[x]?) → va_S A H0 H1 locs →
      W p l e R s m args below meth c H1 locs (cells + 1) (slots + N) Q (F0 m (pc + 3) ls (.ref q :: rest))) : W p l e R s m args below meth c H locs cells slots Q (F0 m pc ls rest) := by
  have hKn := hK.1 ci _ hc
  refine W.newcK hexec hb hown hcl hinst hini rfl hdg hcells hslots hKn.2.1 rfl fun H1 kC hkC e1 z1 o1 => ?_
  refine kk H.size H1 rfl ⟨_, hc, (u_born ty hts hin hKn hkC e1 hty).to hfs⟩ o1 ⟨Nat.le_trans hS.1 (by omega), fun x h1 h2 => (o1 x (Nat.lt_of_lt_of_le h1 hS.1)).trans (hS.2.1 x h1 h2), hS.2.2⟩
/-- a constructor's call: it writes the new cell alone -/
theorem gw_ctor {q : Nat} {ci : Nat} {fs' : List Value} (hr : va_Run p l e R s m args below meth c H locs cells slots 0 0 (F0 m pc ls st0) rest (va_Qv (fun (_ : Unit) => True) (fun _ t => va_at D gw_cl (q, .inr (ci, fs')) t.heap) (fun z => z = q) a) (fun z => z = q)) (hS : va_S A H0 H locs) (hq : A q)
    (kk : ∀ (H1 : Heap) (locs1 : List Loc), va_at D gw_cl (q, .inr (ci, fs')) H1 → (∀ x : Nat, x < H.size → x ≠ q → H1[x]? = H[x]?) → H.size ≤ H1.size → va_S A H0 H1 locs1 → W p l e R s m args below meth c H1 locs1 cells slots Q (F0 m (pc + 3) ls rest)) : W p l e R s m args below meth c H locs cells slots Q (F0 m pc ls st0) :=
  va_callv hr hS (fun x _ h => by rw [h]; exact hq) (fun x h => by rw [h]; exact hq) (fun u t H1 locs1 ht _ _ hb hz ho hS1 => by subst ht; exact kk _ _ hb ho hz hS1)
end GWN
