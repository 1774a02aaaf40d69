/-! THE CLASS's WORLD: roles (kind, number); what it holds is the same pure state σ, beside hidden columns γ and the accounts' order -/
set_option maxRecDepth 100000
/-- the hash row of an account -/
def gw_hs (j : Nat) : Nat := (7 * (j % 12) + 31 * (j / 12)) % 16
/-- what follows x in a list -/
def gw_su : List Nat → Nat → Option Nat
  | [], _ => none
  | a :: l, x => if a = x then l.head? else gw_su l x
def gw_bk (ord : List Nat) (i : Nat) : List Nat := (ord.filter (fun x => gw_hs x == i)).reverse
def gw_ns (ord : List Nat) (j : Nat) : Option Nat := gw_su (gw_bk ord (gw_hs j)) j
/-- lengths, types and columns of the class's own arrays of numbers -/
def gw_gl : Nat → Nat := fun k => match k with
  | 0 => 6 | 1 => 6 | 2 => 6 | 3 => 6 | 4 => 6 | 5 => 144 | 6 => 6 | 7 => 10 | 8 => 10 | 9 => 10 | 10 => 6 | 11 => 48 | 12 => 48 | 13 => 48 | 14 => 24 | _ => 0
def gw_gz : Nat → Nat := fun k => match k with | 6 => 1 | _ => 0
def gw_gc (σ γ : gw_S) : Nat → Nat → Int32 := fun k => match k with
  | 0 => σ 8 | 1 => σ 9 | 2 => σ 10 | 3 => σ 11 | 4 => γ 0 | 5 => γ 1 | 6 => σ 12 | 7 => σ 26 | 8 => σ 27 | 9 => γ 2 | 10 => γ 3 | 11 => γ 4 | 12 => γ 5 | 13 => γ 6 | _ => γ 7
abbrev gw_root (ad : Nat → Nat → Nat) (σ : gw_S) : List Value :=
  [.ref (ad 1 0), .ref (ad 2 0), .ref (ad 3 0), .int (σ 31 0), .ref (ad 6 0), .ref (ad 6 1), .ref (ad 6 2), .ref (ad 6 3), .ref (ad 6 4), .ref (ad 6 5), .ref (ad 6 6), .ref (ad 5 0), .int (σ 7 0), .int (σ 15 0), .int (σ 1 0), .ref (ad 6 7), .ref (ad 6 8), .ref (ad 6 9), .ref (ad 6 10), .int (σ 25 0), .ref (ad 6 11), .ref (ad 6 12), .ref (ad 6 13), .ref (ad 6 14)]
abbrev gw_rfA (f : Nat → Option Nat) : (Nat → Int32) ⊕ (Nat → Int64) ⊕ (Nat → UInt32) ⊕ (Nat → UInt64) ⊕ (Nat → Option Nat) := .inr (.inr (.inr (.inr f)))
abbrev gw_acc5 (hd : Nat → Nat → Nat) (σ : gw_S) (ord : List Nat) (j : Nat) : List Value := [.ref (hd 10 j), .int (σ 3 j), va_rf ((gw_su ord j).map (hd 11)), va_rf ((gw_ns ord j).map (hd 11)), .int (σ 4 j), .int (σ 5 j), .int (σ 6 j)]
abbrev gw_app8 (es : Nat → Nat) (ad : Nat → Nat → Nat) (σ : gw_S) (j : Nat) : List Value := [.int (nI j), .int (σ 16 j), .int (σ 17 j), .int (σ 18 j), .ref (ad 13 j), .ref (ad 14 j), .ref (es (gw_ix (σ 22 j))), .int (σ 20 j), .int (σ 21 j), .int (σ 23 j), .int (σ 24 j)]
/-- an entry's object, by its kind -/
def gw_ent (hd : Nat → Nat → Nat) (σ : gw_S) (j : Nat) : va_E :=
  if gw_ix (σ 32 j) = 0 then .inr (5, [.ref (hd 10 (gw_ix (σ 33 j))), .int (σ 34 j)])
  else if gw_ix (σ 32 j) = 1 then .inr (6, [.ref (hd 10 (gw_ix (σ 33 j))), .int (σ 34 j), .int (σ 35 j)])
  else if gw_ix (σ 32 j) = 2 then .inr (8, [.ref (hd 10 (gw_ix (σ 33 j))), .int (σ 34 j), .int (σ 35 j)])
  else .inr (9, [.ref (hd 10 (gw_ix (σ 33 j))), .int (σ 34 j), .int (σ 35 j)])
def gw_gE (ca : Nat → ClassId) (es : Nat → Nat) (ad hd : Nat → Nat → Nat) (σ γ : gw_S) (ord : List Nat) (ν : Nat → Nat) : Nat × Nat → Option va_E := fun r => match r.1 with
  | 0 => if r.2 = 0 then some (.inr (0, gw_root ad σ)) else none
  | 1 => if r.2 = 0 then some (.inr (1, [.ref (ad 4 0), va_rf (ord.head?.map (hd 11)), va_rf (ord.getLast?.map (hd 11)), .int (σ 2 0)])) else none
  | 2 => if r.2 = 0 then some (.inl (ca 2, 48, gw_rfA (fun i => if γ 8 i = 0 then none else some (hd 10 i)))) else none
  | 3 => if r.2 = 0 then some (.inl (ca 3, 400, gw_rfA (fun i => if i < ν 0 then some (hd 15 i) else none))) else none
  | 4 => if r.2 = 0 then some (.inl (ca 5, 16, gw_rfA (fun i => (gw_bk ord i).head?.map (hd 11)))) else none
  | 5 => if r.2 = 0 then some (.inl (ca 4, 24, gw_rfA (fun i => if i < ν 2 then some (ad 12 i) else none))) else none
  | 6 => if r.2 < 15 then some (.inl (ca (gw_gz r.2), gw_gl r.2, .inl (gw_gc σ γ r.2))) else none
  | 10 => if r.2 < 48 ∧ ¬ γ 8 r.2 = 0 then some (.inr (3, [.int (nI (r.2 / 12)), .int (nI (r.2 % 12))])) else none
  | 11 => if r.2 ∈ ord then some (.inr (4, gw_acc5 hd σ ord r.2)) else none
  | 12 => if r.2 < ν 3 then some (.inr (7, gw_app8 es ad σ r.2)) else none
  | 13 => if r.2 < ν 3 then some (.inl (ca 0, 3, .inl (fun i => if i < 3 then σ 19 (3 * r.2 + i) else 0))) else none
  | 14 => if r.2 < ν 3 then some (.inl (ca 0, 10, .inl (fun i => if i < 10 ∧ r.2 < 24 then σ 30 (24 * i + r.2) else 0))) else none
  | 15 => if r.2 < ν 1 then some (gw_ent hd σ r.2) else none
  | _ => none
def gw_ga (ad hd : Nat → Nat → Nat) : Nat × Nat → Nat := fun r => match r.1 with | 10 => hd 10 r.2 | 11 => hd 11 r.2 | 15 => hd 15 r.2 | k => ad k r.2
def gw_nu (σ : gw_S) : Nat → Nat := fun i => if i < 2 then gw_n σ 31 else gw_n σ 15
def gw_gW (D : va_G) (ca : Nat → ClassId) (es : Nat → Nat) (A : Nat → Prop) (ad hd : Nat → Nat → Nat) (σ γ : gw_S) (ord : List Nat) (ν : Nat → Nat) (H : Heap) : Prop := gw_W D (gw_gE ca es ad hd σ γ ord ν) (gw_ga ad hd) A H
/-! ## what stands still: the words, the constants of State, Throwable's statics -/
def gw_okw : Cond → Bool
  | .fieldLinkNest .. => true | .methodLinkNest .. => true | .declares .. => true | .castable .. => true | _ => false
def gw_Nws (U : State) : Prop := ∀ w ∈ lw_tbl, gw_okw w = true → va_Nw w U
theorem gw_Nws.warm {s U : State} (hW : s.WarmedH U.vm) (h : gw_Nws s) : gw_Nws U := by
  intro w hw hk
  have h1 := h w hw hk
  cases w <;> first | exact va_Nw.warmF hW h1 | exact va_Nw.warmM hW h1 | exact va_Nw.warmD hW h1 | exact va_Nw.warmC hW h1 | (exact absurd hk (by simp [gw_okw]))
theorem gw_Nws.same {s U : State} (hv : s.vm = U.vm) (h : gw_Nws s) : gw_Nws U := by
  intro w hw hk
  have h1 := h w hw hk
  cases w <;> first | exact va_Nw.same rfl hv h1 | (exact absurd hk (by simp [gw_okw]))
def gw_nmS : Nat → String := fun i => match i with | 0 => "IS_TOLD" | 1 => "IS_WAITING" | 2 => "IS_AWARDED" | 3 => "IS_DONE" | 4 => "IS_REFUSED" | _ => "IS_OVER"
def gw_nmC : Nat → String := fun i => match i with | 0 => "Grantworks$State$1" | 1 => "Grantworks$State$2" | 2 => "Grantworks$State$3" | 3 => "Grantworks$State$4" | 4 => "Grantworks$State$5" | _ => "Grantworks$State$6"
/-- pairs that an instanceof refuses -/
def gw_Ncs (U : State) : Prop := va_Nc "Grantworks$Told" "Grantworks$Reserved" U ∧ va_Nc "Grantworks$Told" "Grantworks$Paid" U ∧ va_Nc "Grantworks$Told" "Grantworks$Returned" U ∧ va_Nc "Grantworks$Reserved" "Grantworks$Told" U ∧ va_Nc "Grantworks$Reserved" "Grantworks$Paid" U ∧ va_Nc "Grantworks$Reserved" "Grantworks$Returned" U ∧ va_Nc "Grantworks$Paid" "Grantworks$Told" U ∧ va_Nc "Grantworks$Paid" "Grantworks$Reserved" U ∧ va_Nc "Grantworks$Paid" "Grantworks$Returned" U ∧ va_Nc "Grantworks$Returned" "Grantworks$Told" U ∧ va_Nc "Grantworks$Returned" "Grantworks$Reserved" U ∧ va_Nc "Grantworks$Returned" "Grantworks$Paid" U
theorem gw_Ncs.moved {u U : State} (hvm : u.vm.Alike U.vm) (h : gw_Ncs u) : gw_Ncs U := by
  obtain ⟨h1, h2, h3, h4, h5, h6, h7, h8, h9, h10, h11, h12⟩ := h
  exact ⟨h1.moved hvm, h2.moved hvm, h3.moved hvm, h4.moved hvm, h5.moved hvm, h6.moved hvm, h7.moved hvm, h8.moved hvm, h9.moved hvm, h10.moved hvm, h11.moved hvm, h12.moved hvm⟩
def gw_Ev (es : Nat → Nat) (A : Nat → Prop) (U : State) (H : Heap) : Prop :=
  (∀ i, i < 6 → va_Z "Grantworks$State" (gw_nmS i) "LGrantworks$State;" (.ref (es i)) A U H ∧ va_O (gw_nmC i) (es i) A U H ∧ va_OF "java/lang/Enum" "ordinal" "I" (.int (nI i)) (es i) A U H) ∧
  (∀ i j, i < 6 → j < 6 → es i = es j → i = j) ∧ vx_Zq Bundle.tN "UNASSIGNED_STACK" Bundle.steD A U H ∧ vx_Zq Bundle.tN "SUPPRESSED_SENTINEL" Bundle.listD A U H
theorem gw_Ev.moved {es : Nat → Nat} {A : Nat → Prop} {u U : State} {H : Heap} (hvm : u.vm.Alike U.vm) (h : gw_Ev es A u H) : gw_Ev es A U H :=
  ⟨fun i hi => ⟨va_Z.moved hvm (h.1 i hi).1, va_O.moved hvm (h.1 i hi).2.1, va_OF.moved hvm (h.1 i hi).2.2⟩, h.2.1, h.2.2.1.moved hvm, h.2.2.2.moved hvm⟩
theorem gw_Ev.kept {es : Nat → Nat} {A : Nat → Prop} {U : State} {H H1 : Heap} (h : gw_Ev es A U H) (hq : ∀ a : Nat, a < H.size → ¬ A a → H1[a]? = H[a]?) : gw_Ev es A U H1 :=
  ⟨fun i hi => ⟨(h.1 i hi).1.kept hq, (h.1 i hi).2.1.kept hq, (h.1 i hi).2.2.kept hq⟩, h.2.1, h.2.2.1.kept hq, h.2.2.2.kept hq⟩
/-- a method's start and end: the world, and all that stands still -/
def gw_gP (D : va_G) (ca : Nat → ClassId) (es : Nat → Nat) (A : Nat → Prop) (ad hd : Nat → Nat → Nat) (σ γ : gw_S) (ord : List Nat) (ν : Nat → Nat) (U : State) : Prop :=
  gw_gW D ca es A ad hd σ γ ord ν U.heap ∧ va_K D gw_cl (gw_tys ca) U ∧ gw_Ev es A U U.heap ∧ (gw_Nws U ∧ gw_Ncs U) ∧ ∀ q : Nat, U.heap.size ≤ q → A q
section GWG
variable {p : Program} {l : Launch} {e : Env} {R : Room} {s : State} {m : MethodId} {args : Array Value} {below : List Frame} {meth : Method} {c : Code} {H : Heap} {locs : List Loc} {cells slots : Nat} {Q : State → Prop}
variable {cc : ByteArray} {pc : Nat} {ls : Array Slot} {rest st0 : List Value} {D : va_G} {A : Nat → Prop} {ca : Nat → ClassId} {es : Nat → Nat} {H0 : Heap} {ad hd : Nat → Nat → Nat} {σ γ : gw_S} {ord : List Nat} {ν : Nat → Nat} {a : Array Value} {mc ms : Nat}
theorem gw_gkept {H1 : Heap} (h : gw_gW D ca es A ad hd σ γ ord ν H) (hq : ∀ q : Nat, q < H.size → A q → H1[q]? = H[q]?) : gw_gW D ca es A ad hd σ γ ord ν H1 := gw_W.kept h hq
theorem gw_gend {t : State} (ht : t.heap = H) (hG : gw_gW D ca es A ad hd σ γ ord ν H) (hK : va_K D gw_cl (gw_tys ca) s) (hE : gw_Ev es A s s.heap) (hN : gw_Nws s ∧ gw_Ncs s) (hA : ∀ q : Nat, s.heap.size ≤ q → A q) (hS : va_S A s.heap H locs) (hW : s.WarmedH t.vm) : gw_gP D ca es A ad hd σ γ ord ν t := by
  refine ⟨by rw [ht]; exact hG, va_K.moved hW.alike hK, ?_, ⟨hN.1.warm hW, hN.2.moved hW.alike⟩, fun q hq => hA q (by rw [ht] at hq; exact Nat.le_trans hS.1 hq)⟩
  rw [ht]
  exact (hE.kept hS.2.1).moved hW.alike
theorem gw_gblind {av : List Value} {X : State → Prop} (hX : ∀ (a : Array Value) (U : State) (g : JFrame) (mk : MethodId), X U → X (U.calling g mk a)) : FrameBlind (va_Pc av X) := fun a U g mk q => ⟨q.1, hX a U g mk q.2⟩
theorem gw_gPb (a : Array Value) (U : State) (g : JFrame) (mk : MethodId) (h : gw_gP D ca es A ad hd σ γ ord ν U) : gw_gP D ca es A ad hd σ γ ord ν (U.calling g mk a) := by
  obtain ⟨h1, h2, h3, h4, h5⟩ := h
  exact ⟨h1, va_K.moved (u := U) (U := U.calling g mk a) (Vm.Alike.refl U.vm) h2, h3.moved (u := U) (U := U.calling g mk a) (Vm.Alike.refl U.vm), ⟨gw_Nws.same (s := U) (U := U.calling g mk a) rfl h4.1, h4.2.moved (u := U) (U := U.calling g mk a) (Vm.Alike.refl U.vm)⟩, h5⟩
theorem gw_gat {U : State} (hU : U.heap = H) (hW : s.WarmedH U.vm) (hG : gw_gW D ca es A ad hd σ γ ord ν H) (hK : va_K D gw_cl (gw_tys ca) s) (hE : gw_Ev es A s s.heap) (hN : gw_Nws s ∧ gw_Ncs s) (hA : ∀ q : Nat, s.heap.size ≤ q → A q) (hS : va_S A s.heap H locs) : gw_gP D ca es A ad hd σ γ ord ν U := gw_gend hU hG hK hE hN hA hS hW
/-- a receiver: any object of the world -/
theorem gw_grecv {X : State → Prop} {a0 : Nat} {ci : Nat} {q : vw_C} {fs : List Value} (As : List Value) (hX : ∀ (a : Array Value) (U : State) (g : JFrame) (mk : MethodId), X U → X (U.calling g mk a)) (he : va_at D gw_cl (a0, .inr (ci, fs)) H) (hc : gw_cl[ci]? = some q) (hK : va_K D gw_cl (gw_tys ca) s) (hx : ∀ U : State, U.heap = H → s.WarmedH U.vm → X U) : PreV s H q.1 a0 (va_Pc (.ref a0 :: As) X) As :=
  ⟨gw_gblind hX, va_recv hK (gw_P1 he) (q0 := 0) hc rfl, fun U hU hW => ⟨rfl, hx U hU hW⟩⟩
theorem gw_gspre {X : State → Prop} (As : List Value) (hX : ∀ (a : Array Value) (U : State) (g : JFrame) (mk : MethodId), X U → X (U.calling g mk a)) (hx : ∀ U : State, U.heap = H → s.WarmedH U.vm → X U) : PreS s H (va_Pc As X) As :=
  ⟨gw_gblind hX, fun U hU hW => ⟨rfl, hx U hU hW⟩⟩
/-- the room's cell of a role -/
theorem gw_gcell (h : gw_gW D ca es A ad hd σ γ ord ν H) (r : Nat × Nat) {e0 : va_E} (hr : gw_gE ca es ad hd σ γ ord ν r = some e0) : va_at D gw_cl (gw_ga ad hd r, e0) H := gw_W.cell h hr
theorem gw_gA (h : gw_gW D ca es A ad hd σ γ ord ν H) (r : Nat × Nat) {e0 : va_E} (hr : gw_gE ca es ad hd σ γ ord ν r = some e0) : A (gw_ga ad hd r) := (h.1 r _ hr).2
theorem gw_c12 (h : gw_gW D ca es A ad hd σ γ ord ν H) {j : Nat} (hj : j < ν 3) : va_at D gw_cl (ad 12 j, .inr (7, gw_app8 es ad σ j)) H := gw_gcell h (12, j) (show (if j < ν 3 then _ else _) = _ from if_pos hj)
theorem gw_c13 (h : gw_gW D ca es A ad hd σ γ ord ν H) {j : Nat} (hj : j < ν 3) : va_at D gw_cl (ad 13 j, .inl (ca 0, 3, .inl (fun i => if i < 3 then σ 19 (3 * j + i) else 0))) H := gw_gcell h (13, j) (show (if j < ν 3 then _ else _) = _ from if_pos hj)
theorem gw_c14 (h : gw_gW D ca es A ad hd σ γ ord ν H) {j : Nat} (hj : j < ν 3) : va_at D gw_cl (ad 14 j, .inl (ca 0, 10, .inl (fun i => if i < 10 ∧ j < 24 then σ 30 (24 * i + j) else 0))) H := gw_gcell h (14, j) (show (if j < ν 3 then _ else _) = _ from if_pos hj)
theorem gw_c11 (h : gw_gW D ca es A ad hd σ γ ord ν H) {j : Nat} (hj : j ∈ ord) : va_at D gw_cl (hd 11 j, .inr (4, gw_acc5 hd σ ord j)) H := gw_gcell h (11, j) (show (if j ∈ ord then _ else _) = _ from if_pos hj)
theorem gw_c10 (h : gw_gW D ca es A ad hd σ γ ord ν H) {j : Nat} (hj : j < 48) (hk : ¬ γ 8 j = 0) : va_at D gw_cl (hd 10 j, .inr (3, [.int (nI (j / 12)), .int (nI (j % 12))])) H := gw_gcell h (10, j) (show (if j < 48 ∧ ¬ γ 8 j = 0 then _ else _) = _ from if_pos ⟨hj, hk⟩)
theorem gw_c6 (h : gw_gW D ca es A ad hd σ γ ord ν H) (k : Nat) (hk : k < 15) : va_at D gw_cl (ad 6 k, .inl (ca (gw_gz k), gw_gl k, .inl (gw_gc σ γ k))) H := gw_gcell h (6, k) (show (if k < 15 then _ else _) = _ from if_pos hk)
theorem gw_c15 (h : gw_gW D ca es A ad hd σ γ ord ν H) {j : Nat} (hj : j < ν 1) : va_at D gw_cl (hd 15 j, gw_ent hd σ j) H := gw_gcell h (15, j) (show (if j < ν 1 then _ else _) = _ from if_pos hj)
theorem gw_c0 (h : gw_gW D ca es A ad hd σ γ ord ν H) : va_at D gw_cl (ad 0 0, .inr (0, gw_root ad σ)) H := gw_gcell h (0, 0) rfl
theorem gw_c1 (h : gw_gW D ca es A ad hd σ γ ord ν H) : va_at D gw_cl (ad 1 0, .inr (1, [.ref (ad 4 0), va_rf (ord.head?.map (hd 11)), va_rf (ord.getLast?.map (hd 11)), .int (σ 2 0)])) H := gw_gcell h (1, 0) rfl
theorem gw_c2 (h : gw_gW D ca es A ad hd σ γ ord ν H) : va_at D gw_cl (ad 2 0, .inl (ca 2, 48, gw_rfA (fun i => if γ 8 i = 0 then none else some (hd 10 i)))) H := gw_gcell h (2, 0) rfl
theorem gw_c3 (h : gw_gW D ca es A ad hd σ γ ord ν H) : va_at D gw_cl (ad 3 0, .inl (ca 3, 400, gw_rfA (fun i => if i < ν 0 then some (hd 15 i) else none))) H := gw_gcell h (3, 0) rfl
theorem gw_c4 (h : gw_gW D ca es A ad hd σ γ ord ν H) : va_at D gw_cl (ad 4 0, .inl (ca 5, 16, gw_rfA (fun i => (gw_bk ord i).head?.map (hd 11)))) H := gw_gcell h (4, 0) rfl
theorem gw_c5 (h : gw_gW D ca es A ad hd σ γ ord ν H) : va_at D gw_cl (ad 5 0, .inl (ca 4, 24, gw_rfA (fun i => if i < ν 2 then some (ad 12 i) else none))) H := gw_gcell h (5, 0) rfl
/-- loads -/
theorem gw_gald (k : Nat) {n j : Nat} (hexec : p.tables.exec = Jvm.exec) (hb : c.code = cc) (hK : va_K D gw_cl (gw_tys ca) s) (hG : gw_gW D ca es A ad hd σ γ ord ν H) (hk : k < 15) (hn : gw_gl k = n) (hz : gw_gz k = 0) (hn31 : n < 2147483648) (hj : j < n) (hdg : decode cc pc = .ok (.iaload, 1)) {v : Int32} (hv : gw_gc σ γ k j = v)
    (kk : W p l e R s m args below meth c H locs cells slots Q (F0 m (pc + 1) ls (.int v :: rest))) : W p l e R s m args below meth c H locs cells slots Q (F0 m pc ls (.int (nI j) :: .ref (ad 6 k) :: rest)) := by
  have he := gw_c6 hG k hk
  rw [hz, hn] at he
  exact gw_ald hexec hb hK he (vp_in_nI hj hn31) hdg (by rw [gw_ix_nI (by omega)]; exact hv) kk
theorem gw_gzld (k : Nat) {n j : Nat} (hexec : p.tables.exec = Jvm.exec) (hb : c.code = cc) (hK : va_K D gw_cl (gw_tys ca) s) (hG : gw_gW D ca es A ad hd σ γ ord ν H) (hk : k < 15) (hn : gw_gl k = n) (hz : gw_gz k = 1) (hn31 : n < 2147483648) (hj : j < n) (hdg : decode cc pc = .ok (.baload, 1)) {v : Int32} (hv : gw_gc σ γ k j = v)
    (kk : W p l e R s m args below meth c H locs cells slots Q (F0 m (pc + 1) ls (.int v :: rest))) : W p l e R s m args below meth c H locs cells slots Q (F0 m pc ls (.int (nI j) :: .ref (ad 6 k) :: rest)) := by
  have he := gw_c6 hG k hk
  rw [hz, hn] at he
  exact gw_zld hexec hb hK he (vp_in_nI hj hn31) hdg (by rw [gw_ix_nI (by omega)]; exact hv) kk
theorem gw_askld {i j : Nat} (hexec : p.tables.exec = Jvm.exec) (hb : c.code = cc) (hK : va_K D gw_cl (gw_tys ca) s) (hG : gw_gW D ca es A ad hd σ γ ord ν H) (hj : j < ν 3) (hi : i < 3) (hdg : decode cc pc = .ok (.iaload, 1)) {v : Int32} (hv : σ 19 (3 * j + i) = v)
    (kk : W p l e R s m args below meth c H locs cells slots Q (F0 m (pc + 1) ls (.int v :: rest))) : W p l e R s m args below meth c H locs cells slots Q (F0 m pc ls (.int (nI i) :: .ref (ad 13 j) :: rest)) :=
  gw_ald hexec hb hK (gw_c13 hG hj) (vp_in_nI hi (by decide)) hdg (by rw [gw_ix_nI (by omega)]; exact (if_pos hi).trans hv) kk
theorem gw_revld {i j : Nat} (hexec : p.tables.exec = Jvm.exec) (hb : c.code = cc) (hK : va_K D gw_cl (gw_tys ca) s) (hG : gw_gW D ca es A ad hd σ γ ord ν H) (hj : j < ν 3) (hj24 : j < 24) (hi : i < 10) (hdg : decode cc pc = .ok (.iaload, 1)) {v : Int32} (hv : σ 30 (24 * i + j) = v)
    (kk : W p l e R s m args below meth c H locs cells slots Q (F0 m (pc + 1) ls (.int v :: rest))) : W p l e R s m args below meth c H locs cells slots Q (F0 m pc ls (.int (nI i) :: .ref (ad 14 j) :: rest)) :=
  gw_ald hexec hb hK (gw_c14 hG hj) (vp_in_nI hi (by decide)) hdg (by rw [gw_ix_nI (by omega)]; exact (if_pos ⟨hi, hj24⟩).trans hv) kk
/-- a reference out of an array -/
theorem gw_qld {a0 n t0 i : Nat} {C : String} {f : Nat → Option Nat} (hexec : p.tables.exec = Jvm.exec) (hb : c.code = cc) (hK : va_K D gw_cl (gw_tys ca) s) (ht : (gw_tys ca)[t0]? = some (ca t0, .object C)) (he : va_at D gw_cl (a0, .inl (ca t0, n, gw_rfA f)) H) (hn : n < 2147483648) (hi : i < n) (hdg : decode cc pc = .ok (.aaload, 1)) {v : Value} (hv : va_rf (f i) = v)
    (kk : W p l e R s m args below meth c H locs cells slots Q (F0 m (pc + 1) ls (v :: rest))) : W p l e R s m args below meth c H locs cells slots Q (F0 m pc ls (.int (nI i) :: .ref a0 :: rest)) := by
  subst hv
  refine va_aldq hexec hb hK (gw_P1 he) 0 t0 rfl ht (vp_in_nI hi hn) hdg ?_
  rw [show (nI i).toNatClampNeg = i from gw_ix_nI (by omega)]
  exact kk
/-- a read-only callee -/
theorem gw_scallr {Rv : Option Nat} (hr : CallRun p l e R s m args below meth c H locs cells slots 0 0 (F0 m pc ls st0) rest (va_Sq (fun r => r = Rv) a) (fun _ => False))
    (kk : W p l e R s m args below meth c H locs cells slots Q (F0 m (pc + 3) ls (va_rf Rv :: rest))) : W p l e R s m args below meth c H locs cells slots Q (F0 m pc ls st0) :=
  va_csq hr (fun r hp => by subst hp; exact kk)
end GWG
theorem gw_nu_up {σ : gw_S} {k j : Nat} {v : Int32} (h : (k == 15 || k == 31) = false) : gw_nu (gw_up σ k j v) = gw_nu σ := by
  simp only [Bool.or_eq_false_iff, beq_eq_false_iff_ne] at h
  unfold gw_nu gw_n
  rw [gw_up_n _ _ _ (by omega), gw_up_n _ _ _ (by omega)]
theorem gw_gW.nu {D : va_G} {ca : Nat → ClassId} {es : Nat → Nat} {A : Nat → Prop} {ad hd : Nat → Nat → Nat} {σ γ : gw_S} {ord : List Nat} {ν ν' : Nat → Nat} {H : Heap} (h : gw_gW D ca es A ad hd σ γ ord ν H) (e : ν' = ν) : gw_gW D ca es A ad hd σ γ ord ν' H := e ▸ h
/-- ranges of longs that were ints -/
theorem gw_rgp {x lo hi : Int32} {a b : Int64} (ea : a = lo.toInt64) (eb : b = hi.toInt64) (h : lo ≤ x ∧ x ≤ hi) : a ≤ x.toInt64 ∧ x.toInt64 ≤ b := by
  subst ea; subst eb
  simp only [Int64.le_iff_toInt_le, Int32.le_iff_toInt_le, Int32.toInt_toInt64] at h ⊢
  exact h
theorem gw_rgn {x lo hi : Int32} {a b : Int64} (ea : a = lo.toInt64) (eb : b = hi.toInt64) (h : ¬ (lo ≤ x ∧ x ≤ hi)) : ¬ (a ≤ x.toInt64 ∧ x.toInt64 ≤ b) := by
  subst ea; subst eb
  simp only [Int64.le_iff_toInt_le, Int32.le_iff_toInt_le, Int32.toInt_toInt64] at h ⊢
  exact h
