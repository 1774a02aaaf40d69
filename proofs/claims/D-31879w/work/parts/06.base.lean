/-! BASE: the pure state, worlds by roles, rows over single cells, the model's world and its rows -/
set_option maxRecDepth 100000
abbrev gw_S : Type := Nat → Nat → Int32
abbrev gw_ix (x : Int32) : Nat := x.toNatClampNeg
def gw_up (σ : gw_S) (k j : Nat) (v : Int32) : gw_S := fun k' => if k' = k then upd (σ k) j v else σ k'
theorem gw_up_s (σ : gw_S) (k j : Nat) (v : Int32) : gw_up σ k j v k = upd (σ k) j v := by simp [gw_up]
theorem gw_up_n (σ : gw_S) {k k' : Nat} (j : Nat) (v : Int32) (h : k' ≠ k) : gw_up σ k j v k' = σ k' := by simp [gw_up, h]
theorem gw_ix_nI {n : Nat} (h : n < 2147483648) : gw_ix (nI n) = n := nI_clamp h
abbrev gw_cl : List vw_C := [(RX1, TX1, 24), (RX2, TX2, 4), (RX3, TX3, 35), (RX4, TX4, 2), (RX5, TX5, 7), (RX6, TX6, 2), (RX7, TX7, 3), (RX8, TX8, 11), (RX9, TX9, 3), (RX10, TX10, 3)]
abbrev gw_tys (ca : Nat → ClassId) : List (ClassId × FieldType) := [(ca 0, .int), (ca 1, .boolean), (ca 2, .object "Grantworks$Key"), (ca 3, .object "Grantworks$Entry"), (ca 4, .object "Grantworks$Application"), (ca 5, .object "Grantworks$Account"), (ca 6, .long)]
/-- a world: roles r with their cells at the addresses ad r, all in the region A, and apart -/
def gw_W {ι : Type} (D : va_G) (E : ι → Option va_E) (ad : ι → Nat) (A : Nat → Prop) (H : Heap) : Prop :=
  (∀ r e, E r = some e → va_at D gw_cl (ad r, e) H ∧ A (ad r)) ∧ ∀ r r' e e', E r = some e → E r' = some e' → ad r = ad r' → r = r'
section GWW
variable {ι : Type} {D : va_G} {E E' : ι → Option va_E} {ad : ι → Nat} {A : Nat → Prop} {H H1 : Heap}
theorem gw_W.cell (h : gw_W D E ad A H) {r : ι} {e : va_E} (hr : E r = some e) : va_at D gw_cl (ad r, e) H := (h.1 r e hr).1
theorem gw_W.kept (h : gw_W D E ad A H) (hq : ∀ q : Nat, q < H.size → A q → H1[q]? = H[q]?) : gw_W D E ad A H1 :=
  ⟨fun r e hr => ⟨(h.1 r e hr).1.kept (hq (ad r) (h.1 r e hr).1.lt (h.1 r e hr).2), (h.1 r e hr).2⟩, h.2⟩
theorem gw_W.set (h : gw_W D E ad A H) {r : ι} {e e' : va_E} (hr : E r = some e) (hr' : E' r = some e') (ho : ∀ r', r' ≠ r → E' r' = E r') (he : va_at D gw_cl (ad r, e') H1) (oq : ∀ q : Nat, q ≠ ad r → H1[q]? = H[q]?) : gw_W D E' ad A H1 := by
  have key : ∀ r1 e1, E' r1 = some e1 → ∃ e2, E r1 = some e2 := by
    intro r1 e1 h1
    by_cases q : r1 = r
    · subst q; exact ⟨e, hr⟩
    · exact ⟨e1, by rw [← ho r1 q]; exact h1⟩
  refine ⟨fun r1 e1 h1 => ?_, fun r1 r2 e1 e2 h1 h2 hq => ?_⟩
  · by_cases q : r1 = r
    · subst q
      cases hr'.symm.trans h1
      exact ⟨he, (h.1 _ _ hr).2⟩
    · have h2 : E r1 = some e1 := by rw [← ho r1 q]; exact h1
      exact ⟨(h.1 _ _ h2).1.kept (oq _ (fun z => q (h.2 _ _ _ _ h2 hr z))), (h.1 _ _ h2).2⟩
  · obtain ⟨x1, y1⟩ := key _ _ h1
    obtain ⟨x2, y2⟩ := key _ _ h2
    exact h.2 _ _ _ _ y1 y2 hq
end GWW
theorem gw_P1 {D : va_G} {cl : List vw_C} {q : Nat × va_E} {H : Heap} (h : va_at D cl q H) : va_P D cl [q] H := by
  intro k q' hk
  match k, hk with
  | 0, hk => cases hk; exact h
  | k + 1, hk => simp at hk
section GWR
variable {p : Program} {l : Launch} {e : Env} {R : Room} {s : State} {m : MethodId} {args : Array Value} {below : List Frame} {meth : Method} {c : Code} {H : Heap} {locs : List Loc} {cells slots : Nat} {Q : State → Prop}
variable {cc : ByteArray} {pc : Nat} {ls : Array Slot} {rest : List Value} {D : va_G} {A : Nat → Prop} {a : Nat} {ca : Nat → ClassId} {H0 : Heap}
theorem gw_topi {x y : Int32} (h : x = y) (k : W p l e R s m args below meth c H locs cells slots Q (F0 m pc ls (.int y :: rest))) : W p l e R s m args below meth c H locs cells slots Q (F0 m pc ls (.int x :: rest)) := by subst h; exact k
theorem gw_get (hexec : p.tables.exec = Jvm.exec) (hb : c.code = cc) {own C : String} {T : u_T} {N ci index : Nat} (hts : ∀ w ∈ lw_all, w.before args s = true) (hin : ∀ w ∈ u_ws C T N, w ∈ lw_all) (hown : s.vm.findClass own = some m.cls) (hK : va_K D gw_cl (gw_tys ca) s) {fs : List Value} (he : va_at D gw_cl (a, .inr (ci, fs)) H) (hc : gw_cl[ci]? = some (C, T, N)) (k : Nat) (hk : k < N) (hlink : (Cond.fieldLink own index (T k).1 (T k).2.1 (T k).2.2.1).before args s = true) {v : Value} (hv : fs[k]? = some v) (hdg : decode cc pc = .ok (.getfield index, 3))
    (kk : W p l e R s m args below meth c H locs cells slots Q (F0 m (pc + 3) ls (v :: rest))) : W p l e R s m args below meth c H locs cells slots Q (F0 m pc ls (.ref a :: rest)) :=
  va_get hexec hb hts hin hown hK (gw_P1 he) 0 rfl hc k hk hlink (fun _ h => h) hv hdg kk
theorem gw_getN (hexec : p.tables.exec = Jvm.exec) (hb : c.code = cc) {own C host : String} {T : u_T} {N ci index : Nat} (hts : ∀ w ∈ lw_all, w.before args s = true) (hin : ∀ w ∈ u_ws C T N, w ∈ lw_all) (hown : s.vm.findClass own = some m.cls) (hK : va_K D gw_cl (gw_tys ca) s) {fs : List Value} (he : va_at D gw_cl (a, .inr (ci, fs)) H) (hc : gw_cl[ci]? = some (C, T, N)) (k : Nat) (hk : k < N) (hlink : va_Nw (.fieldLinkNest own index (T k).1 (T k).2.1 (T k).2.2.1 host) s) {v : Value} (hv : fs[k]? = some v) (hdg : decode cc pc = .ok (.getfield index, 3))
    (kk : W p l e R s m args below meth c H locs cells slots Q (F0 m (pc + 3) ls (v :: rest))) : W p l e R s m args below meth c H locs cells slots Q (F0 m pc ls (.ref a :: rest)) :=
  va_getN hexec hb hts hin hown hK (gw_P1 he) 0 rfl hc k hk (va_Nw.use rfl hlink) (fun _ h => h) hv hdg kk
theorem gw_put (hexec : p.tables.exec = Jvm.exec) (hb : c.code = cc) {own C : String} {T : u_T} {N ci index : Nat} (hts : ∀ w ∈ lw_all, w.before args s = true) (hin : ∀ w ∈ u_ws C T N, w ∈ lw_all) (ty0 : Nat → FieldType) (hty : ∀ k, k < N → parseFieldDescriptor (T k).2.2.1 = some (ty0 k)) (hnm : ∀ a, a < N → ∀ b, b < N → a ≠ b → (T a).2.1 ≠ (T b).2.1) (hown : s.vm.findClass own = some m.cls) (hK : va_K D gw_cl (gw_tys ca) s) (hS0 : va_S A H0 H locs) {fs : List Value} (he : va_at D gw_cl (a, .inr (ci, fs)) H) (hAa : A a) (hc : gw_cl[ci]? = some (C, T, N)) (k : Nat) (hk : k < N) (hlink : (Cond.fieldLink own index (T k).1 (T k).2.1 (T k).2.2.1).before args s = true) (hfin : (T k).2.2.2 = false) {ty : FieldType} {v : Value} (hd : parseFieldDescriptor (T k).2.2.1 = some ty) (hn : narrow ty v = v) (hfit : fits ty v = true) (hl : k < fs.length)
    (hdg : decode cc pc = .ok (.putfield index, 3)) (kk : ∀ (H1 : Heap) (locs1 : List Loc), va_at D gw_cl (a, .inr (ci, fs.set k v)) H1 → (∀ q : Nat, q ≠ a → H1[q]? = H[q]?) → H1.size = H.size → va_S A H0 H1 locs1 → W p l e R s m args below meth c H1 locs1 cells slots Q (F0 m (pc + 3) ls rest)) : W p l e R s m args below meth c H locs cells slots Q (F0 m pc ls (v :: .ref a :: rest)) := by
  have hap := va_apart (own := own) hts hin ty0 hty hnm hK hc
  obtain ⟨r, h1, cell, q1, q2, q3, q4⟩ := he
  have hr : r = (C, T, N) := Option.some.inj (h1.symm.trans hc)
  subst hr
  obtain ⟨hS, hfc, kC, hkC, hkind⟩ := hK.1 ci _ hc
  obtain ⟨cf, kf, fi, f, hi, hsl⟩ := hS k hk
  have hlay := hts _ (hin _ (u_in_lay hk))
  unfold u_lay at hlay
  rw [if_neg (by rw [hfin]; decide)] at hlay
  have hst := (u_facts hfc hkC (u_lays hts hin hk) hi).1
  have h6 := u_store hfc hkC hkind hlay hi hd hn hfit
  refine W.putK hexec hb (f := f) ⟨hown, hlink, ⟨_, _, _, hi⟩, hst⟩ (by rw [q2]; exact h6) q1 q3 (by rw [hsl]; exact k2_hasslot (q4 k hk)) rfl rfl hdg fun H' e1 e2 e3 => ?_
  rw [hsl] at e1 ⊢
  exact kk H' _ ⟨_, hc, t_OB.to (V := updV (vp_V fs) k v) ⟨_, e1, q2, q3, t_set q4 hap hk v⟩ (fun j _ => vp_updV_set hl v j)⟩ e3 e2 (hS0.put e2 e3 hAa)
theorem gw_putN (hexec : p.tables.exec = Jvm.exec) (hb : c.code = cc) {own C host : String} {T : u_T} {N ci index : Nat} (hts : ∀ w ∈ lw_all, w.before args s = true) (hin : ∀ w ∈ u_ws C T N, w ∈ lw_all) (ty0 : Nat → FieldType) (hty : ∀ k, k < N → parseFieldDescriptor (T k).2.2.1 = some (ty0 k)) (hnm : ∀ a, a < N → ∀ b, b < N → a ≠ b → (T a).2.1 ≠ (T b).2.1) (hown : s.vm.findClass own = some m.cls) (hK : va_K D gw_cl (gw_tys ca) s) (hS0 : va_S A H0 H locs) {fs : List Value} (he : va_at D gw_cl (a, .inr (ci, fs)) H) (hAa : A a) (hc : gw_cl[ci]? = some (C, T, N)) (k : Nat) (hk : k < N) (hlink : va_Nw (.fieldLinkNest own index (T k).1 (T k).2.1 (T k).2.2.1 host) s) (hfin : (T k).2.2.2 = false) {ty : FieldType} {v : Value} (hd : parseFieldDescriptor (T k).2.2.1 = some ty) (hn : narrow ty v = v) (hfit : fits ty v = true) (hl : k < fs.length)
    (hdg : decode cc pc = .ok (.putfield index, 3)) (kk : ∀ (H1 : Heap) (locs1 : List Loc), va_at D gw_cl (a, .inr (ci, fs.set k v)) H1 → (∀ q : Nat, q ≠ a → H1[q]? = H[q]?) → H1.size = H.size → va_S A H0 H1 locs1 → W p l e R s m args below meth c H1 locs1 cells slots Q (F0 m (pc + 3) ls rest)) : W p l e R s m args below meth c H locs cells slots Q (F0 m pc ls (v :: .ref a :: rest)) := by
  have hap := va_apart (own := own) hts hin ty0 hty hnm hK hc
  obtain ⟨r, h1, cell, q1, q2, q3, q4⟩ := he
  have hr : r = (C, T, N) := Option.some.inj (h1.symm.trans hc)
  subst hr
  obtain ⟨hS, hfc, kC, hkC, hkind⟩ := hK.1 ci _ hc
  obtain ⟨cf, kf, fi, f, hi, hsl⟩ := hS k hk
  have hlay := hts _ (hin _ (u_in_lay hk))
  unfold u_lay at hlay
  rw [if_neg (by rw [hfin]; decide)] at hlay
  have hst := (u_facts hfc hkC (u_lays hts hin hk) hi).1
  have h6 := u_store hfc hkC hkind hlay hi hd hn hfit
  refine va_WputK hexec hb (f := f) hown (va_Nw.use rfl hlink) hi hst (by rw [q2]; exact h6) q1 q3 (by rw [hsl]; exact k2_hasslot (q4 k hk)) rfl rfl hdg fun H' e1 e2 e3 => ?_
  rw [hsl] at e1 ⊢
  exact kk H' _ ⟨_, hc, t_OB.to (V := updV (vp_V fs) k v) ⟨_, e1, q2, q3, t_set q4 hap hk v⟩ (fun j _ => vp_updV_set hl v j)⟩ e3 e2 (hS0.put e2 e3 hAa)
theorem gw_putF (hexec : p.tables.exec = Jvm.exec) (hb : c.code = cc) {own C : String} {T : u_T} {N ci index : Nat} (hts : ∀ w ∈ lw_all, w.before args s = true) (hin : ∀ w ∈ u_ws C T N, w ∈ lw_all) (ty0 : Nat → FieldType) (hty : ∀ k, k < N → parseFieldDescriptor (T k).2.2.1 = some (ty0 k)) (hnm : ∀ a, a < N → ∀ b, b < N → a ≠ b → (T a).2.1 ≠ (T b).2.1) (hown : s.vm.findClass own = some m.cls) (hK : va_K D gw_cl (gw_tys ca) s) (hS0 : va_S A H0 H locs) {fs : List Value} (he : va_at D gw_cl (a, .inr (ci, fs)) H) (hAa : A a) (hc : gw_cl[ci]? = some (C, T, N)) (k : Nat) (hk : k < N) (hlink : (Cond.fieldLink own index (T k).1 (T k).2.1 (T k).2.2.1).before args s = true) (hfin : (T k).2.2.2 = true) (hin2 : meth.name = "<init>") (hdecl : (T k).1 = own) {ty : FieldType} {v : Value} (hd : parseFieldDescriptor (T k).2.2.1 = some ty) (hn : narrow ty v = v) (hfit : fits ty v = true) (hl : k < fs.length)
    (hdg : decode cc pc = .ok (.putfield index, 3)) (kk : ∀ (H1 : Heap) (locs1 : List Loc), va_at D gw_cl (a, .inr (ci, fs.set k v)) H1 → (∀ q : Nat, q ≠ a → H1[q]? = H[q]?) → H1.size = H.size → va_S A H0 H1 locs1 → W p l e R s m args below meth c H1 locs1 cells slots Q (F0 m (pc + 3) ls rest)) : W p l e R s m args below meth c H locs cells slots Q (F0 m pc ls (v :: .ref a :: rest)) := by
  have hap := va_apart (own := own) hts hin ty0 hty hnm hK hc
  obtain ⟨r, h1, cell, q1, q2, q3, q4⟩ := he
  have hr : r = (C, T, N) := Option.some.inj (h1.symm.trans hc)
  subst hr
  obtain ⟨hS, hfc, kC, hkC, hkind⟩ := hK.1 ci _ hc
  obtain ⟨cf, kf, fi, f, hi, hsl⟩ := hS k hk
  have hlay := hts _ (hin _ (u_in_lay hk))
  unfold u_lay at hlay
  rw [if_pos hfin] at hlay
  have hst := (u_facts hfc hkC (u_lays hts hin hk) hi).1
  have hcf : m.cls = cf := by
    obtain ⟨_, _, c', _, _, _, -, -, hf', -, -, -, hown2, -⟩ := Cond.laysFinal_spec hlay
    have e1 : c' = cf := by have := hi.symm.trans hf'; simp at this; exact this.1.symm
    rw [hdecl] at hown2
    rw [← e1]; exact Option.some.inj (hown.symm.trans hown2)
  have h6 := u_fits hfc hkC hkind (Or.inr hlay) hi hd hn hfit
  refine W.putFinK hexec hb hown hlink hi hst hcf hin2 (by rw [q2]; exact h6) q1 q3 (by rw [hsl]; exact k2_hasslot (q4 k hk)) rfl rfl hdg fun H' e1 e2 e3 => ?_
  rw [hsl] at e1 ⊢
  exact kk H' _ ⟨_, hc, t_OB.to (V := updV (vp_V fs) k v) ⟨_, e1, q2, q3, t_set q4 hap hk v⟩ (fun j _ => vp_updV_set hl v j)⟩ e3 e2 (hS0.put e2 e3 hAa)
theorem gw_ald (hexec : p.tables.exec = Jvm.exec) (hb : c.code = cc) (hK : va_K D gw_cl (gw_tys ca) s) {n : Nat} {f : Nat → Int32} (he : va_at D gw_cl (a, .inl (ca 0, n, .inl f)) H) {i : Int32} (hin : vp_in i n) (hdg : decode cc pc = .ok (.iaload, 1)) {v : Int32} (hv : f (gw_ix i) = v)
    (kk : W p l e R s m args below meth c H locs cells slots Q (F0 m (pc + 1) ls (.int v :: rest))) : W p l e R s m args below meth c H locs cells slots Q (F0 m pc ls (.int i :: .ref a :: rest)) := by
  subst hv
  exact va_iald hexec hb hK (gw_P1 he) 0 0 rfl rfl hin hdg kk
theorem gw_zld (hexec : p.tables.exec = Jvm.exec) (hb : c.code = cc) (hK : va_K D gw_cl (gw_tys ca) s) {n : Nat} {f : Nat → Int32} (he : va_at D gw_cl (a, .inl (ca 1, n, .inl f)) H) {i : Int32} (hin : vp_in i n) (hdg : decode cc pc = .ok (.baload, 1)) {v : Int32} (hv : f (gw_ix i) = v)
    (kk : W p l e R s m args below meth c H locs cells slots Q (F0 m (pc + 1) ls (.int v :: rest))) : W p l e R s m args below meth c H locs cells slots Q (F0 m pc ls (.int i :: .ref a :: rest)) := by
  subst hv
  exact va_zald hexec hb hK (gw_P1 he) 0 1 rfl rfl hin hdg kk
theorem gw_upd {f : Nat → Int32} {k : Nat} {x : Int32} : (updV (fun j => Value.int (f j)) k (.int x)) = fun j => .int (upd f k x j) := by
  funext q
  by_cases hq : q = k
  · subst hq; simp [updV, upd]
  · simp [updV, upd, hq]
theorem gw_ast (hexec : p.tables.exec = Jvm.exec) (hb : c.code = cc) (hK : va_K D gw_cl (gw_tys ca) s) (hS : va_S A H0 H locs) {n : Nat} {f : Nat → Int32} (he : va_at D gw_cl (a, .inl (ca 0, n, .inl f)) H) (hAa : A a) {i : Int32} {x : Int32} (hin : vp_in i n) (hdg : decode cc pc = .ok (.iastore, 1))
    (kk : ∀ (H1 : Heap) (locs1 : List Loc), va_at D gw_cl (a, .inl (ca 0, n, .inl (upd f (gw_ix i) x))) H1 → (∀ q : Nat, q ≠ a → H1[q]? = H[q]?) → H1.size = H.size → va_S A H0 H1 locs1 → W p l e R s m args below meth c H1 locs1 cells slots Q (F0 m (pc + 1) ls rest)) : W p l e R s m args below meth c H locs cells slots Q (F0 m pc ls (.int x :: .int i :: .ref a :: rest)) := by
  refine W.iast hexec hb he ((hK.2 0 _ rfl).1 n (fun j => .int (f j))) (fun q => by cases q) (by show ¬ (i < 0 ∨ (arrV _ _ _).slots.size ≤ _); rw [arrV_size]; exact hin) rfl rfl hdg fun H1 e1 z oq => ?_
  refine kk H1 _ ?_ oq z (hS.put z oq hAa)
  show H1[a]? = some (vp_cell _ _)
  rw [e1, vp_cell_i, vp_cell_i, arrV_store, gw_upd]
theorem gw_zst (hexec : p.tables.exec = Jvm.exec) (hb : c.code = cc) (hK : va_K D gw_cl (gw_tys ca) s) (hS : va_S A H0 H locs) {n : Nat} {f : Nat → Int32} (he : va_at D gw_cl (a, .inl (ca 1, n, .inl f)) H) (hAa : A a) {i : Int32} {x : Int32} (hn : narrow .boolean (.int x) = .int x) (hin : vp_in i n) (hdg : decode cc pc = .ok (.bastore, 1))
    (kk : ∀ (H1 : Heap) (locs1 : List Loc), va_at D gw_cl (a, .inl (ca 1, n, .inl (upd f (gw_ix i) x))) H1 → (∀ q : Nat, q ≠ a → H1[q]? = H[q]?) → H1.size = H.size → va_S A H0 H1 locs1 → W p l e R s m args below meth c H1 locs1 cells slots Q (F0 m (pc + 1) ls rest)) : W p l e R s m args below meth c H locs cells slots Q (F0 m pc ls (.int x :: .int i :: .ref a :: rest)) := by
  refine W.zast hexec hb he ((hK.2 1 _ rfl).1 n (fun j => .int (f j))) (fun q => by cases q) (by show ¬ (i < 0 ∨ (arrV _ _ _).slots.size ≤ _); rw [arrV_size]; exact hin) rfl rfl hdg fun H1 e1 z oq => ?_
  refine kk H1 _ ?_ oq z (hS.put z oq hAa)
  show H1[a]? = some (vp_cell _ _)
  rw [e1, hn, vp_cell_i, vp_cell_i, arrV_store, gw_upd]
end GWR
/-! ## the model's world -/
/-- the lengths of the model's arrays by field; 0: a scalar -/
def gw_ml : Nat → Nat := fun k => match k with
  | 3 => 48 | 4 => 48 | 5 => 48 | 6 => 48 | 8 => 6 | 9 => 6 | 10 => 6 | 11 => 6 | 12 => 6 | 13 => 6 | 14 => 144 | 16 => 24 | 17 => 24 | 18 => 24 | 19 => 72 | 20 => 24 | 21 => 24 | 22 => 24 | 23 => 24 | 24 => 24 | 26 => 10 | 27 => 10 | 28 => 300 | 29 => 60 | 30 => 240 | 32 => 400 | 33 => 400 | 34 => 400
  | _ => 0
def gw_mz : Nat → Nat := fun k => match k with | 12 => 1 | 28 => 1 | 29 => 1 | _ => 0
def gw_mf (am : Nat → Nat) (σ : gw_S) (k : Nat) : Value := if gw_ml k = 0 then .int (σ k 0) else .ref (am (k + 1))
def gw_mfs (am : Nat → Nat) (σ : gw_S) : List Value := (List.range 35).map (gw_mf am σ)
def gw_mE (ca : Nat → ClassId) (am : Nat → Nat) (σ : gw_S) : Nat → Option va_E := fun r => match r with
  | 0 => some (.inr (2, gw_mfs am σ))
  | k + 1 => if k < 35 ∧ gw_ml k ≠ 0 then some (.inl (ca (gw_mz k), gw_ml k, .inl (σ k))) else none
def gw_mW (D : va_G) (ca : Nat → ClassId) (A : Nat → Prop) (am : Nat → Nat) (σ : gw_S) (H : Heap) : Prop := gw_W D (gw_mE ca am σ) am A H
theorem gw_mfs_at {am : Nat → Nat} {σ : gw_S} {k : Nat} (hk : k < 35) : (gw_mfs am σ)[k]? = some (gw_mf am σ k) := by
  simp [gw_mfs, hk]
theorem gw_mfs_len {am : Nat → Nat} {σ : gw_S} : (gw_mfs am σ).length = 35 := by simp [gw_mfs]
theorem gw_mfs_set {am : Nat → Nat} {σ : gw_S} {k : Nat} {v : Int32} (hm : gw_ml k = 0) : (gw_mfs am σ).set k (.int v) = gw_mfs am (gw_up σ k 0 v) := by
  apply List.ext_getElem?
  intro i
  by_cases hi : i < 35
  · rw [gw_mfs_at hi]
    by_cases hk : i = k
    · subst hk
      rw [List.getElem?_set_self (by rw [gw_mfs_len]; exact hi)]
      simp [gw_mf, hm, gw_up_s, upd]
    · rw [List.getElem?_set_ne (Ne.symm hk), gw_mfs_at hi]
      simp [gw_mf, gw_up_n σ 0 v hk]
  · rw [List.getElem?_eq_none (by rw [List.length_set, gw_mfs_len]; omega), List.getElem?_eq_none (by rw [gw_mfs_len]; omega)]
theorem gw_mfs_arr {am : Nat → Nat} {σ : gw_S} {k j : Nat} {v : Int32} (hm : gw_ml k ≠ 0) : gw_mfs am (gw_up σ k j v) = gw_mfs am σ := by
  unfold gw_mfs
  refine List.map_congr_left fun i _ => ?_
  by_cases hi : i = k
  · subst hi; simp [gw_mf, hm]
  · simp [gw_mf, gw_up_n σ j v hi]
theorem gw_mE_sc {ca : Nat → ClassId} {am : Nat → Nat} {σ : gw_S} {k : Nat} {v : Int32} (hm : gw_ml k = 0) : ∀ r, r ≠ 0 → gw_mE ca am (gw_up σ k 0 v) r = gw_mE ca am σ r := by
  intro r hr
  obtain ⟨i, rfl⟩ : ∃ i, r = i + 1 := ⟨r - 1, by omega⟩
  show (if i < 35 ∧ gw_ml i ≠ 0 then _ else _) = (if i < 35 ∧ gw_ml i ≠ 0 then _ else _)
  by_cases hi : i = k
  · subst hi; simp [hm]
  · rw [gw_up_n σ 0 v hi]
theorem gw_mE_ar {ca : Nat → ClassId} {am : Nat → Nat} {σ : gw_S} {k j : Nat} {v : Int32} (hm : gw_ml k ≠ 0) : ∀ r, r ≠ k + 1 → gw_mE ca am (gw_up σ k j v) r = gw_mE ca am σ r := by
  intro r hr
  match r, hr with
  | 0, hr => show some _ = some _; rw [gw_mfs_arr hm]
  | i + 1, hr =>
    show (if i < 35 ∧ gw_ml i ≠ 0 then _ else _) = (if i < 35 ∧ gw_ml i ≠ 0 then _ else _)
    rw [gw_up_n σ j v (by omega)]
theorem gw_mE_arr {ca : Nat → ClassId} {am : Nat → Nat} {σ : gw_S} {k : Nat} (hk : k < 35) (hm : gw_ml k ≠ 0) : gw_mE ca am σ (k + 1) = some (.inl (ca (gw_mz k), gw_ml k, .inl (σ k))) := by
  show (if k < 35 ∧ gw_ml k ≠ 0 then _ else _) = _
  rw [if_pos ⟨hk, hm⟩]
theorem gw_mW.same {D : va_G} {ca : Nat → ClassId} {A : Nat → Prop} {am : Nat → Nat} {σ σ' : gw_S} {H : Heap} (h : gw_mW D ca A am σ H) (hs : ∀ k, k < 35 → σ' k = σ k) : gw_mW D ca A am σ' H := by
  have e : gw_mE ca am σ' = gw_mE ca am σ := by
    funext r
    match r with
    | 0 =>
      show some _ = some _
      have : gw_mfs am σ' = gw_mfs am σ := List.map_congr_left fun i hi => by
        have := hs i (List.mem_range.mp hi)
        simp [gw_mf, this]
      rw [this]
    | i + 1 =>
      show (if i < 35 ∧ gw_ml i ≠ 0 then _ else _) = (if i < 35 ∧ gw_ml i ≠ 0 then _ else _)
      by_cases hi : i < 35
      · rw [hs i hi]
      · simp [hi]
  unfold gw_mW
  rw [e]
  exact h
def gw_mP (D : va_G) (ca : Nat → ClassId) (A : Nat → Prop) (am : Nat → Nat) (σ : gw_S) (U : State) : Prop := gw_mW D ca A am σ U.heap ∧ va_K D gw_cl (gw_tys ca) U
section GWM
variable {p : Program} {l : Launch} {e : Env} {R : Room} {s : State} {m : MethodId} {args : Array Value} {below : List Frame} {meth : Method} {c : Code} {H : Heap} {locs : List Loc} {cells slots : Nat} {Q : State → Prop}
variable {cc : ByteArray} {pc : Nat} {ls : Array Slot} {rest st0 : List Value} {D : va_G} {A : Nat → Prop} {ca : Nat → ClassId} {H0 : Heap} {am : Nat → Nat} {σ σ' : gw_S} {a : Array Value}
theorem gw_mgetI (k : Nat) (hexec : p.tables.exec = Jvm.exec) (hb : c.code = cc) {index : Nat} (hts : ∀ w ∈ lw_all, w.before args s = true) (hown : s.vm.findClass RX3 = some m.cls) (hK : va_K D gw_cl (gw_tys ca) s) (hM : gw_mW D ca A am σ H) (hk : k < 35) (hm : gw_ml k = 0) (hlink : (Cond.fieldLink RX3 index (TX3 k).1 (TX3 k).2.1 (TX3 k).2.2.1).before args s = true) (hdg : decode cc pc = .ok (.getfield index, 3)) {v : Int32} (hv : σ k 0 = v)
    (kk : W p l e R s m args below meth c H locs cells slots Q (F0 m (pc + 3) ls (.int v :: rest))) : W p l e R s m args below meth c H locs cells slots Q (F0 m pc ls (.ref (am 0) :: rest)) :=
  gw_get hexec hb hts in_X3 hown hK (gw_W.cell hM (r := 0) rfl) rfl k hk hlink (by rw [gw_mfs_at hk, gw_mf, if_pos hm, hv]) hdg kk
theorem gw_mgetR (k : Nat) (hexec : p.tables.exec = Jvm.exec) (hb : c.code = cc) {index : Nat} (hts : ∀ w ∈ lw_all, w.before args s = true) (hown : s.vm.findClass RX3 = some m.cls) (hK : va_K D gw_cl (gw_tys ca) s) (hM : gw_mW D ca A am σ H) (hk : k < 35) (hm : gw_ml k ≠ 0) (hlink : (Cond.fieldLink RX3 index (TX3 k).1 (TX3 k).2.1 (TX3 k).2.2.1).before args s = true) (hdg : decode cc pc = .ok (.getfield index, 3))
    (kk : W p l e R s m args below meth c H locs cells slots Q (F0 m (pc + 3) ls (.ref (am (k + 1)) :: rest))) : W p l e R s m args below meth c H locs cells slots Q (F0 m pc ls (.ref (am 0) :: rest)) :=
  gw_get hexec hb hts in_X3 hown hK (gw_W.cell hM (r := 0) rfl) rfl k hk hlink (by rw [gw_mfs_at hk, gw_mf, if_neg hm]) hdg kk
theorem gw_mputI (k : Nat) (hexec : p.tables.exec = Jvm.exec) (hb : c.code = cc) {index : Nat} (hts : ∀ w ∈ lw_all, w.before args s = true) (hown : s.vm.findClass RX3 = some m.cls) (hK : va_K D gw_cl (gw_tys ca) s) (hM : gw_mW D ca A am σ H) (hS : va_S A H0 H locs) (hk : k < 35) (hm : gw_ml k = 0) (hlink : (Cond.fieldLink RX3 index (TX3 k).1 (TX3 k).2.1 (TX3 k).2.2.1).before args s = true) (hfin : (TX3 k).2.2.2 = false) (hd : parseFieldDescriptor (TX3 k).2.2.1 = some .int) (hdg : decode cc pc = .ok (.putfield index, 3)) {v : Int32}
    (kk : ∀ (H1 : Heap) (locs1 : List Loc), gw_mW D ca A am (gw_up σ k 0 v) H1 → va_S A H0 H1 locs1 → W p l e R s m args below meth c H1 locs1 cells slots Q (F0 m (pc + 3) ls rest)) : W p l e R s m args below meth c H locs cells slots Q (F0 m pc ls (.int v :: .ref (am 0) :: rest)) := by
  refine gw_put hexec hb hts in_X3 tyX3 tyX3_ok nmX3 hown hK hS (gw_W.cell hM (r := 0) rfl) (hM.1 0 _ rfl).2 rfl k hk hlink hfin hd rfl rfl (by rw [gw_mfs_len]; exact hk) hdg fun H1 locs1 he oq hz hS1 => ?_
  rw [gw_mfs_set hm] at he
  exact kk H1 locs1 (gw_W.set hM (r := 0) rfl rfl (gw_mE_sc hm) he oq) hS1
theorem gw_mald (k : Nat) {n j : Nat} (hexec : p.tables.exec = Jvm.exec) (hb : c.code = cc) (hK : va_K D gw_cl (gw_tys ca) s) (hM : gw_mW D ca A am σ H) (hk : k < 35) (hn : gw_ml k = n) (hz : gw_mz k = 0) (hn31 : n < 2147483648) (hj : j < n) (hdg : decode cc pc = .ok (.iaload, 1)) {v : Int32} (hv : σ k j = v)
    (kk : W p l e R s m args below meth c H locs cells slots Q (F0 m (pc + 1) ls (.int v :: rest))) : W p l e R s m args below meth c H locs cells slots Q (F0 m pc ls (.int (nI j) :: .ref (am (k + 1)) :: rest)) := by
  have he := gw_W.cell hM (gw_mE_arr hk (by omega))
  rw [hz, hn] at he
  exact gw_ald hexec hb hK he (vp_in_nI hj hn31) hdg (by rw [gw_ix_nI (by omega)]; exact hv) kk
theorem gw_mzld (k : Nat) {n j : Nat} (hexec : p.tables.exec = Jvm.exec) (hb : c.code = cc) (hK : va_K D gw_cl (gw_tys ca) s) (hM : gw_mW D ca A am σ H) (hk : k < 35) (hn : gw_ml k = n) (hz : gw_mz k = 1) (hn31 : n < 2147483648) (hj : j < n) (hdg : decode cc pc = .ok (.baload, 1)) {v : Int32} (hv : σ k j = v)
    (kk : W p l e R s m args below meth c H locs cells slots Q (F0 m (pc + 1) ls (.int v :: rest))) : W p l e R s m args below meth c H locs cells slots Q (F0 m pc ls (.int (nI j) :: .ref (am (k + 1)) :: rest)) := by
  have he := gw_W.cell hM (gw_mE_arr hk (by omega))
  rw [hz, hn] at he
  exact gw_zld hexec hb hK he (vp_in_nI hj hn31) hdg (by rw [gw_ix_nI (by omega)]; exact hv) kk
theorem gw_mast (k : Nat) {n j : Nat} (hexec : p.tables.exec = Jvm.exec) (hb : c.code = cc) (hK : va_K D gw_cl (gw_tys ca) s) (hM : gw_mW D ca A am σ H) (hS : va_S A H0 H locs) (hk : k < 35) (hn : gw_ml k = n) (hz : gw_mz k = 0) (hn31 : n < 2147483648) (hj : j < n) (hdg : decode cc pc = .ok (.iastore, 1)) {v : Int32}
    (kk : ∀ (H1 : Heap) (locs1 : List Loc), gw_mW D ca A am (gw_up σ k j v) H1 → va_S A H0 H1 locs1 → W p l e R s m args below meth c H1 locs1 cells slots Q (F0 m (pc + 1) ls rest)) : W p l e R s m args below meth c H locs cells slots Q (F0 m pc ls (.int v :: .int (nI j) :: .ref (am (k + 1)) :: rest)) := by
  have hm : gw_ml k ≠ 0 := by omega
  have hr := gw_mE_arr (ca := ca) (am := am) (σ := σ) hk hm
  have he := gw_W.cell hM hr
  have hA := (hM.1 _ _ hr).2
  rw [hz, hn] at he
  refine gw_ast hexec hb hK hS he hA (vp_in_nI hj hn31) hdg fun H1 locs1 he1 oq hz1 hS1 => ?_
  rw [gw_ix_nI (by omega)] at he1
  refine kk H1 locs1 (gw_W.set hM hr (gw_mE_arr hk hm) (gw_mE_ar hm) ?_ oq) hS1
  rw [hz, hn, gw_up_s]
  exact he1
theorem gw_mzst (k : Nat) {n j : Nat} (hexec : p.tables.exec = Jvm.exec) (hb : c.code = cc) (hK : va_K D gw_cl (gw_tys ca) s) (hM : gw_mW D ca A am σ H) (hS : va_S A H0 H locs) (hk : k < 35) (hn : gw_ml k = n) (hz : gw_mz k = 1) (hn31 : n < 2147483648) (hj : j < n) (hdg : decode cc pc = .ok (.bastore, 1)) {v : Int32} (hnv : narrow .boolean (.int v) = .int v)
    (kk : ∀ (H1 : Heap) (locs1 : List Loc), gw_mW D ca A am (gw_up σ k j v) H1 → va_S A H0 H1 locs1 → W p l e R s m args below meth c H1 locs1 cells slots Q (F0 m (pc + 1) ls rest)) : W p l e R s m args below meth c H locs cells slots Q (F0 m pc ls (.int v :: .int (nI j) :: .ref (am (k + 1)) :: rest)) := by
  have hm : gw_ml k ≠ 0 := by omega
  have hr := gw_mE_arr (ca := ca) (am := am) (σ := σ) hk hm
  have he := gw_W.cell hM hr
  have hA := (hM.1 _ _ hr).2
  rw [hz, hn] at he
  refine gw_zst hexec hb hK hS he hA hnv (vp_in_nI hj hn31) hdg fun H1 locs1 he1 oq hz1 hS1 => ?_
  rw [gw_ix_nI (by omega)] at he1
  refine kk H1 locs1 (gw_W.set hM hr (gw_mE_arr hk hm) (gw_mE_ar hm) ?_ oq) hS1
  rw [hz, hn, gw_up_s]
  exact he1
theorem gw_mend {t : State} (ht : t.heap = H) (hM : gw_mW D ca A am σ H) (hK : va_K D gw_cl (gw_tys ca) s) (hvm : s.vm.Alike t.vm) : gw_mP D ca A am σ t := ⟨by rw [ht]; exact hM, va_K.moved hvm hK⟩
theorem gw_mblind {av : List Value} : FrameBlind (va_Pc av (gw_mP D ca A am σ)) := fun a U g mk q => by
  obtain ⟨q0, q1, q2⟩ := q
  exact ⟨q0, q1, va_K.moved (u := U) (U := U.calling g mk a) (Vm.Alike.refl U.vm) q2⟩
theorem gw_mpre (As : List Value) (hM : gw_mW D ca A am σ H) (hK : va_K D gw_cl (gw_tys ca) s) : PreV s H RX3 (am 0) (va_Pc (.ref (am 0) :: As) (gw_mP D ca A am σ)) As :=
  ⟨gw_mblind, va_recv hK (gw_P1 (gw_W.cell hM (r := 0) rfl)) (ci := 2) (q0 := 0) rfl rfl, fun U hU hW => ⟨rfl, by rw [hU]; exact hM, va_K.moved hW.alike hK⟩⟩
theorem gw_mcalli {Rv : Int32} (hr : va_Run p l e R s m args below meth c H locs cells slots 0 0 (F0 m pc ls st0) rest (va_Qi (fun r (_ : Unit) => r = Rv) (fun _ t => gw_mP D ca A am σ' t) A a) A) (hS : va_S A H0 H locs)
    (kk : ∀ (H1 : Heap) (locs1 : List Loc), gw_mW D ca A am σ' H1 → va_S A H0 H1 locs1 → W p l e R s m args below meth c H1 locs1 cells slots Q (F0 m (pc + 3) ls (.int Rv :: rest))) : W p l e R s m args below meth c H locs cells slots Q (F0 m pc ls st0) :=
  va_calli hr hS (fun _ _ h => h) (fun _ h => h) (fun r u t H1 locs1 ht _ hp hb _ _ hS1 => by subst hp; subst ht; exact kk _ _ hb.1 hS1)
theorem gw_mcallv (hr : va_Run p l e R s m args below meth c H locs cells slots 0 0 (F0 m pc ls st0) rest (va_Qv (fun (_ : Unit) => True) (fun _ t => gw_mP D ca A am σ' t) A a) A) (hS : va_S A H0 H locs)
    (kk : ∀ (H1 : Heap) (locs1 : List Loc), gw_mW D ca A am σ' H1 → va_S A H0 H1 locs1 → W p l e R s m args below meth c H1 locs1 cells slots Q (F0 m (pc + 3) ls rest)) : W p l e R s m args below meth c H locs cells slots Q (F0 m pc ls st0) :=
  va_callv hr hS (fun _ _ h => h) (fun _ h => h) (fun u t H1 locs1 ht _ _ hb _ _ hS1 => by subst ht; exact kk _ _ hb.1 hS1)
theorem gw_mcalld {Rv : UInt64} (hr : va_Run p l e R s m args below meth c H locs cells slots 0 0 (F0 m pc ls st0) rest (va_Qd (fun r (_ : Unit) => r = Rv) (fun _ t => gw_mP D ca A am σ' t) A a) A) (hS : va_S A H0 H locs)
    (kk : ∀ (H1 : Heap) (locs1 : List Loc), gw_mW D ca A am σ' H1 → va_S A H0 H1 locs1 → W p l e R s m args below meth c H1 locs1 cells slots Q (F0 m (pc + 3) ls (.double Rv :: rest))) : W p l e R s m args below meth c H locs cells slots Q (F0 m pc ls st0) :=
  va_calld hr hS (fun _ _ h => h) (fun _ h => h) (fun r u t H1 locs1 ht _ hp hb _ _ hS1 => by subst hp; subst ht; exact kk _ _ hb.1 hS1)
/-- a static callee that only answers -/
theorem gw_scalli {Rv : Int32} (hr : CallRun p l e R s m args below meth c H locs cells slots 0 0 (F0 m pc ls st0) rest (vp_Si (fun r => r = Rv) a) (fun _ => False))
    (kk : W p l e R s m args below meth c H locs cells slots Q (F0 m (pc + 3) ls (.int Rv :: rest))) : W p l e R s m args below meth c H locs cells slots Q (F0 m pc ls st0) :=
  vp_callSi hr (fun r hp => by subst hp; exact kk)
end GWM
