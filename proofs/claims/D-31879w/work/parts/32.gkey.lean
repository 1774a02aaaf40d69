/-! A NEW KEY, AN ARRAY's NEW REFERENCE: worlds that grow -/
set_option maxRecDepth 100000
/-- a world gets one role more, and one of its cells changes -/
theorem gw_W.two {ι : Type} {D : va_G} {E E' : ι → Option va_E} {ad ad' : ι → Nat} {A : Nat → Prop} {H H1 : Heap} (h : gw_W D E ad A H) {r0 rn : ι} {q : Nat} {e0 e0' en : va_E} (hr0 : E r0 = some e0) (hr0' : E' r0 = some e0') (hrn : E' rn = some en) (hne : r0 ≠ rn) (ho : ∀ r, r ≠ r0 → r ≠ rn → E' r = E r) (had : ∀ r, r ≠ rn → ad' r = ad r) (hadn : ad' rn = q)
    (he0 : va_at D gw_cl (ad r0, e0') H1) (hen : va_at D gw_cl (q, en) H1) (oq : ∀ x : Nat, x ≠ ad r0 → H1[x]? = H[x]?) (hAq : A q) (hfr : ∀ r e, E r = some e → ad r ≠ q) : gw_W D E' ad' A H1 := by
  have key : ∀ r e, E' r = some e → r ≠ rn → ∃ e2, E r = some e2 := by
    intro r e hr hn
    by_cases q0 : r = r0
    · subst q0; exact ⟨e0, hr0⟩
    · exact ⟨e, by rw [← ho r q0 hn]; exact hr⟩
  refine ⟨fun r e hr => ?_, fun r1 r2 e1 e2 h1 h2 hq => ?_⟩
  · by_cases qn : r = rn
    · subst qn
      cases hrn.symm.trans hr
      rw [hadn]
      exact ⟨hen, hAq⟩
    · rw [had r qn]
      by_cases q0 : r = r0
      · subst q0
        cases hr0'.symm.trans hr
        exact ⟨he0, (h.1 _ _ hr0).2⟩
      · have h2 : E r = some e := by rw [← ho r q0 qn]; exact hr
        exact ⟨(h.1 _ _ h2).1.kept (oq _ (fun z => q0 (h.2 _ _ _ _ h2 hr0 z))), (h.1 _ _ h2).2⟩
  · by_cases q1 : r1 = rn
    · by_cases q2 : r2 = rn
      · rw [q1, q2]
      · obtain ⟨x2, y2⟩ := key _ _ h2 q2
        rw [q1, hadn, had r2 q2] at hq
        exact absurd hq.symm (hfr _ _ y2)
    · obtain ⟨x1, y1⟩ := key _ _ h1 q1
      by_cases q2 : r2 = rn
      · rw [q2, hadn, had r1 q1] at hq
        exact absurd hq (hfr _ _ y1)
      · obtain ⟨x2, y2⟩ := key _ _ h2 q2
        rw [had r1 q1, had r2 q2] at hq
        exact h.2 _ _ _ _ y1 y2 hq
theorem gw_ifq {c : Prop} [Decidable c] {a : Nat} (h : c) : va_rf (if c then none else some a) = .null := by rw [if_pos h]; rfl
section GWK
variable {p : Program} {l : Launch} {e : Env} {R : Room} {s : State} {m : MethodId} {args : Array Value} {below : List Frame} {meth : Method} {c : Code} {H H0 : Heap} {locs : List Loc} {cells slots : Nat} {Q : State → Prop}
variable {cc : ByteArray} {pc : Nat} {ls : Array Slot} {rest st0 : List Value} {D : va_G} {A : Nat → Prop} {ca : Nat → ClassId} {es : Nat → Nat} {ad hd : Nat → Nat → Nat} {σ γ : gw_S} {ord : List Nat} {ν : Nat → Nat}
/-- a reference into an array of its own class (follows the kit's va_astq) -/
theorem gw_aast {t0 ci a0 n v : Nat} {r : vw_C} {vs : List Value} {f : Nat → Option Nat} (hexec : p.tables.exec = Jvm.exec) (hb : c.code = cc) (hK : va_K D gw_cl (gw_tys ca) s) (hS : va_S A H0 H locs) (ht : (gw_tys ca)[t0]? = some (ca t0, .object r.1)) (he : va_at D gw_cl (a0, .inl (ca t0, n, gw_rfA f)) H) (hA : A a0) (hv : va_at D gw_cl (v, .inr (ci, vs)) H) (hc : gw_cl[ci]? = some r) {i : Int32} (hin : vp_in i n) (hdg : decode cc pc = .ok (.aastore, 1))
    (kk : ∀ (H1 : Heap) (locs1 : List Loc), va_at D gw_cl (a0, .inl (ca t0, n, gw_rfA (va_up f (gw_ix i) (some v)))) H1 → (∀ q : Nat, q ≠ a0 → H1[q]? = H[q]?) → va_S A H0 H1 locs1 → W p l e R s m args below meth c H1 locs1 cells slots Q (F0 m (pc + 1) ls rest)) : W p l e R s m args below meth c H locs cells slots Q (F0 m pc ls (.ref v :: .int i :: .ref a0 :: rest)) := by
  have hlt : i.toNatClampNeg < n := Nat.not_le.mp fun q => hin (Or.inr q)
  have h0 : ¬ i < 0 := fun q => hin (Or.inl q)
  obtain ⟨r', hr', cellV, g1, g2, g3, -⟩ := hv
  have hcls := (hK.1 ci r hc).2
  obtain ⟨kA, comp, k1, k2, k3, -⟩ := (hK.2 t0 _ ht).2
  have hcomp : comp = D.1 ci := Option.some.inj (k3.symm.trans hcls.1)
  subst hcomp
  obtain ⟨kC, hkC, -⟩ := hcls.2
  refine W.aast hexec hb he (fun q h => by cases h) (fun h => by cases h) k1 k2 rfl hkC ⟨h0, by show _ < (arrV _ _ _).slots.size; rw [arrV_size]; exact hlt⟩ g1 (fun q h => by rw [g3] at h; cases h) (by rw [g2]; exact hkC) (by rw [g2]; exact va_assign hcls) rfl rfl hdg fun H1 e z oq => ?_
  refine kk H1 _ ?_ oq (hS.put z oq hA)
  show H1[a0]? = some (vp_cell _ _)
  rw [e]
  rw [vp_cell_q, vp_cell_q, arrV_store]
  congr 2
  funext q
  by_cases hq : q = i.toNatClampNeg
  · subst hq
    simp [updV, va_up, va_rf]
  · simp [updV, va_up, hq]
/-- a reference into an array of a wider type (follows the kit's va_astqO) -/
theorem gw_aastO {t0 ci a0 n v : Nat} {E : String} {r : vw_C} {vs : List Value} {f : Nat → Option Nat} (hexec : p.tables.exec = Jvm.exec) (hb : c.code = cc) (hK : va_K D gw_cl (gw_tys ca) s) (hS : va_S A H0 H locs) (ht : (gw_tys ca)[t0]? = some (ca t0, .object E)) (hca : va_Nw (.castable r.1 E) s) (he : va_at D gw_cl (a0, .inl (ca t0, n, gw_rfA f)) H) (hA : A a0) (hv : va_at D gw_cl (v, .inr (ci, vs)) H) (hc : gw_cl[ci]? = some r) {i : Int32} (hin : vp_in i n) (hdg : decode cc pc = .ok (.aastore, 1))
    (kk : ∀ (H1 : Heap) (locs1 : List Loc), va_at D gw_cl (a0, .inl (ca t0, n, gw_rfA (va_up f (gw_ix i) (some v)))) H1 → (∀ q : Nat, q ≠ a0 → H1[q]? = H[q]?) → va_S A H0 H1 locs1 → W p l e R s m args below meth c H1 locs1 cells slots Q (F0 m (pc + 1) ls rest)) : W p l e R s m args below meth c H locs cells slots Q (F0 m pc ls (.ref v :: .int i :: .ref a0 :: rest)) := by
  have hlt : i.toNatClampNeg < n := Nat.not_le.mp fun q => hin (Or.inr q)
  have h0 : ¬ i < 0 := fun q => hin (Or.inl q)
  obtain ⟨r', hr', cellV, g1, g2, g3, -⟩ := hv
  have hcls := (hK.1 ci r hc).2
  obtain ⟨kA, comp, k1, k2, k3, -⟩ := (hK.2 t0 _ ht).2
  obtain ⟨kE, hkE, -⟩ := Vm.findClass_spec k3
  obtain ⟨c0, t1, f1, f2, f3⟩ := Cond.castable_spec (va_Nw.use (A := args) rfl hca)
  cases hcls.1.symm.trans f1
  cases k3.symm.trans f2
  obtain ⟨kC, hkC, -⟩ := hcls.2
  refine W.aast hexec hb he (fun q h => by cases h) (fun h => by cases h) k1 k2 rfl hkE ⟨h0, by show _ < (arrV _ _ _).slots.size; rw [arrV_size]; exact hlt⟩ g1 (fun q h => by rw [g3] at h; cases h) (by rw [g2]; exact hkC) (by rw [g2]; exact f3) rfl rfl hdg fun H1 e z oq => ?_
  refine kk H1 _ ?_ oq (hS.put z oq hA)
  show H1[a0]? = some (vp_cell _ _)
  rw [e]
  rw [vp_cell_q, vp_cell_q, arrV_store]
  congr 2
  funext q
  by_cases hq : q = i.toNatClampNeg
  · subst hq
    simp [updV, va_up, va_rf]
  · simp [updV, va_up, hq]
end GWK
def gw_hd (hd : Nat → Nat → Nat) (k j q : Nat) : Nat → Nat → Nat := fun k' x => if k' = k ∧ x = j then q else hd k' x
theorem gw_hd_n {hd : Nat → Nat → Nat} {k j q k' : Nat} (h : k' ≠ k) : gw_hd hd k j q k' = hd k' := by funext x; unfold gw_hd; rw [if_neg (fun z => h z.1)]
theorem gw_hd_j {hd : Nat → Nat → Nat} {k j q x : Nat} (h : x ≠ j) : gw_hd hd k j q k x = hd k x := by unfold gw_hd; rw [if_neg (fun z => h z.2)]
theorem gw_hd_s {hd : Nat → Nat → Nat} {k j q : Nat} : gw_hd hd k j q k j = q := by unfold gw_hd; rw [if_pos ⟨rfl, rfl⟩]
/-- what the keys that are made meanwhile leave -/
def gw_Ext (γ γ' : gw_S) (hd hd' : Nat → Nat → Nat) : Prop := (∀ k, k ≠ 8 → γ' k = γ k) ∧ (∀ j, ¬ γ 8 j = 0 → ¬ γ' 8 j = 0 ∧ hd' 10 j = hd 10 j) ∧ ∀ k, k ≠ 10 → k ≠ 15 → hd' k = hd k
theorem gw_Ext.rf {γ : gw_S} {hd : Nat → Nat → Nat} : gw_Ext γ γ hd hd := ⟨fun _ _ => rfl, fun _ h => ⟨h, rfl⟩, fun _ _ _ => rfl⟩
theorem gw_Ext.tr {γ γ' γ'' : gw_S} {hd hd' hd'' : Nat → Nat → Nat} (h : gw_Ext γ γ' hd hd') (g : gw_Ext γ' γ'' hd' hd'') : gw_Ext γ γ'' hd hd'' :=
  ⟨fun k hk => (g.1 k hk).trans (h.1 k hk), fun j hj => ⟨(g.2.1 j (h.2.1 j hj).1).1, (g.2.1 j (h.2.1 j hj).1).2.trans (h.2.1 j hj).2⟩, fun k h1 h2 => (g.2.2 k h1 h2).trans (h.2.2 k h1 h2)⟩
theorem gw_Ko.ext {γ γ' : gw_S} {hd hd' : Nat → Nat → Nat} {ord : List Nat} (h : gw_Ko γ ord) (g : gw_Ext γ γ' hd hd') : gw_Ko γ' ord := ⟨h.1, fun i hi => ⟨(h.2 i hi).1, (g.2.1 i (h.2 i hi).2).1⟩⟩
theorem gw_C.ext {σ γ γ' : gw_S} {hd hd' : Nat → Nat → Nat} {ord : List Nat} (h : gw_C σ γ ord) (g : gw_Ext γ γ' hd hd') : gw_C σ γ' ord := by
  obtain ⟨a1, a2, a3, a4, a5, a6⟩ := h
  refine ⟨a1.ext g, by rw [g.1 2 (by decide)]; exact a2, by rw [g.1 3 (by decide)]; exact a3, ?_, a5, fun j hj => ⟨(a6 j hj).1, (g.2.1 _ (a6 j hj).2).1⟩⟩
  intro i hi
  have := a4 i hi
  unfold gw_Lst at this ⊢
  rw [g.1 0 (by decide), g.1 1 (by decide)]
  exact this
theorem gw_gE_key {ca : Nat → ClassId} {es : Nat → Nat} {ad hd : Nat → Nat → Nat} {σ γ : gw_S} {ord : List Nat} {ν : Nat → Nat} {j q : Nat} (hγ : γ 8 j = 0) (hKo : gw_Ko γ ord) (hEn : ∀ x, x < ν 1 → ¬ γ 8 (gw_ix (σ 33 x)) = 0) : ∀ r : Nat × Nat, r ≠ (2, 0) → r ≠ (10, j) → gw_gE ca es ad (gw_hd hd 10 j q) σ (gw_up γ 8 j 1) ord ν r = gw_gE ca es ad hd σ γ ord ν r := by
  have n11 : gw_hd hd 10 j q 11 = hd 11 := gw_hd_n (by decide)
  have n15 : gw_hd hd 10 j q 15 = hd 15 := gw_hd_n (by decide)
  have N : ∀ k, k ≠ 8 → gw_up γ 8 j 1 k = γ k := fun k hk => gw_up_n γ j 1 hk
  rintro ⟨k, x⟩ h1 h2
  match k, h1, h2 with
  | 0, h1, h2 => simp only [gw_gE_0]
  | 1, h1, h2 => simp only [gw_gE_1, n11]
  | 2, h1, h2 =>
    match x, h1 with
    | 0, h1 => exact absurd rfl h1
    | x + 1, h1 => simp only [gw_gE_2, if_neg (show ¬ x + 1 = 0 by omega)]
  | 3, h1, h2 => simp only [gw_gE_3, n15]
  | 4, h1, h2 => simp only [gw_gE_4, n11]
  | 5, h1, h2 => simp only [gw_gE_5]
  | 6, h1, h2 =>
    have e : gw_gc σ (gw_up γ 8 j 1) x = gw_gc σ γ x := by
      match x with
      | 0 => rfl
      | 1 => rfl
      | 2 => rfl
      | 3 => rfl
      | 4 => exact N 0 (by decide)
      | 5 => exact N 1 (by decide)
      | 6 => rfl
      | 7 => rfl
      | 8 => rfl
      | 9 => exact N 2 (by decide)
      | 10 => exact N 3 (by decide)
      | 11 => exact N 4 (by decide)
      | 12 => exact N 5 (by decide)
      | 13 => exact N 6 (by decide)
      | x + 14 => exact N 7 (by decide)
    simp only [gw_gE_6, e]
  | 7, h1, h2 => simp only [gw_gE_7]
  | 8, h1, h2 => simp only [gw_gE_8]
  | 9, h1, h2 => simp only [gw_gE_9]
  | 10, h1, h2 =>
    have hx : x ≠ j := fun z => h2 (by rw [z])
    have e : gw_up γ 8 j 1 8 x = γ 8 x := by rw [gw_up_s]; simp only [upd]; rw [if_neg hx]
    simp only [gw_gE_10, e]
  | 11, h1, h2 =>
    simp only [gw_gE_11]
    by_cases hx : x ∈ ord
    · have e : gw_hd hd 10 j q 10 x = hd 10 x := gw_hd_j (fun z => (hKo.2 x hx).2 (by rw [z]; exact hγ))
      rw [if_pos hx, if_pos hx, gw_acc5, e, n11]
    · rw [if_neg hx, if_neg hx]
  | 12, h1, h2 => simp only [gw_gE_12]
  | 13, h1, h2 => simp only [gw_gE_13]
  | 14, h1, h2 => simp only [gw_gE_14]
  | 15, h1, h2 =>
    simp only [gw_gE_15]
    by_cases hx : x < ν 1
    · have e : gw_hd hd 10 j q 10 (gw_ix (σ 33 x)) = hd 10 (gw_ix (σ 33 x)) := gw_hd_j (fun z => hEn x hx (by rw [z]; exact hγ))
      rw [if_pos hx, if_pos hx]
      unfold gw_ent
      rw [e]
    · rw [if_neg hx, if_neg hx]
  | k + 16, h1, h2 => simp only [gw_gE_16]
section GWL
variable {p : Program} {l : Launch} {e : Env} {R : Room} {s : State} {m : MethodId} {args : Array Value} {below : List Frame} {meth : Method} {c : Code} {H H0 H1 : Heap} {locs : List Loc} {cells slots : Nat} {Q : State → Prop}
variable {cc : ByteArray} {pc : Nat} {ls : Array Slot} {rest st0 : List Value} {D : va_G} {A : Nat → Prop} {ca : Nat → ClassId} {es : Nat → Nat} {ad hd : Nat → Nat → Nat} {σ γ : gw_S} {ord : List Nat} {ν : Nat → Nat} {q j : Nat}
theorem gw_fresh (hG : gw_gW D ca es A ad hd σ γ ord ν H) (hS : va_S A s.heap H locs) (hA : ∀ q : Nat, s.heap.size ≤ q → A q) (hq : q = H.size) : (∀ r e, gw_gE ca es ad hd σ γ ord ν r = some e → gw_ga ad hd r ≠ q) ∧ A q := by
  subst hq
  exact ⟨fun r e hr z => by have := (gw_gcell hG r hr).lt; rw [z] at this; exact Nat.lt_irrefl _ this, hA _ hS.1⟩
theorem gw_gkeptq (hG : gw_gW D ca es A ad hd σ γ ord ν H) (hfr : ∀ r e, gw_gE ca es ad hd σ γ ord ν r = some e → gw_ga ad hd r ≠ q) (ho : ∀ x : Nat, x < H.size → x ≠ q → H1[x]? = H[x]?) : gw_gW D ca es A ad hd σ γ ord ν H1 :=
  ⟨fun r e hr => ⟨(hG.1 r e hr).1.kept (ho _ (hG.1 r e hr).1.lt (hfr r e hr)), (hG.1 r e hr).2⟩, hG.2⟩
theorem gw_keyst (hexec : p.tables.exec = Jvm.exec) (hb : c.code = cc) (hK : va_K D gw_cl (gw_tys ca) s) (hG : gw_gW D ca es A ad hd σ γ ord ν H) (hS : va_S A H0 H locs) (hj : j < 48) (hγ : γ 8 j = 0) (hKo : gw_Ko γ ord) (hEn : ∀ x, x < ν 1 → ¬ γ 8 (gw_ix (σ 33 x)) = 0) (hkey : va_at D gw_cl (q, .inr (3, [.int (nI (j / 12)), .int (nI (j % 12))])) H) (hfr : (∀ r e, gw_gE ca es ad hd σ γ ord ν r = some e → gw_ga ad hd r ≠ q) ∧ A q) (hdg : decode cc pc = .ok (.aastore, 1))
    (kk : ∀ (H1 : Heap) (locs1 : List Loc), gw_gW D ca es A ad (gw_hd hd 10 j q) σ (gw_up γ 8 j 1) ord ν H1 → va_S A H0 H1 locs1 → W p l e R s m args below meth c H1 locs1 cells slots Q (F0 m (pc + 1) ls rest)) : W p l e R s m args below meth c H locs cells slots Q (F0 m pc ls (.ref q :: .int (nI j) :: .ref (ad 2 0) :: rest)) := by
  refine gw_aast (t0 := 2) (ci := 3) (r := (RX4, TX4, 2)) hexec hb hK hS rfl (gw_c2 hG) (gw_gA hG (2, 0) rfl) hkey rfl (vp_in_nI hj (by decide)) hdg fun H1 locs1 he1 oq hS1 => ?_
  have hne : q ≠ ad 2 0 := fun z => hfr.1 (2, 0) _ rfl z.symm
  rw [gw_ix_nI (by omega)] at he1
  have ef : va_up (fun i => if γ 8 i = 0 then none else some (hd 10 i)) j (some q) = (fun i => if (gw_up γ 8 j 1) 8 i = 0 then none else some (gw_hd hd 10 j q 10 i)) := by
    funext i
    by_cases hi : i = j
    · subst hi
      have e1 : ¬ (gw_up γ 8 i 1) 8 i = 0 := by rw [gw_up_s]; simp [upd]
      rw [if_neg e1, gw_hd_s]; simp [va_up]
    · have e1 : (gw_up γ 8 j 1) 8 i = γ 8 i := by rw [gw_up_s]; simp only [upd]; rw [if_neg hi]
      rw [e1, gw_hd_j hi]; simp [va_up, hi]
  rw [ef] at he1
  refine kk H1 locs1 (gw_W.two hG (r0 := (2, 0)) (rn := (10, j)) (q := q) rfl rfl (en := .inr (3, [.int (nI (j / 12)), .int (nI (j % 12))])) ?_ (by intro z; cases z) (gw_gE_key hγ hKo hEn) ?_ gw_hd_s he1 (hkey.kept (oq q hne)) oq hfr.2 hfr.1) hS1
  · show (if j < 48 ∧ ¬ (gw_up γ 8 j 1) 8 j = 0 then _ else _) = _
    rw [if_pos ⟨hj, by rw [gw_up_s]; simp [upd]⟩]
  · rintro ⟨k, x⟩ hr
    by_cases h10 : k = 10
    · subst h10
      exact gw_hd_j (fun z => hr (by have z : x = j := z; rw [z]))
    · by_cases h11 : k = 11
      · subst h11; exact congrFun (gw_hd_n (by decide)) x
      · by_cases h15 : k = 15
        · subst h15; exact congrFun (gw_hd_n (by decide)) x
        · have e1 : ∀ h : Nat → Nat → Nat, gw_ga ad h (k, x) = ad k x := by
            intro h
            unfold gw_ga
            split <;> simp_all
          rw [e1, e1]
end GWL
theorem gw_Ext.key {γ : gw_S} {hd : Nat → Nat → Nat} {j q : Nat} (h : γ 8 j = 0) : gw_Ext γ (gw_up γ 8 j 1) hd (gw_hd hd 10 j q) := by
  refine ⟨fun k hk => gw_up_n γ j 1 hk, fun i hi => ?_, fun k h1 _ => gw_hd_n h1⟩
  have hij : i ≠ j := fun z => hi (by rw [z]; exact h)
  refine ⟨?_, gw_hd_j hij⟩
  rw [gw_up_s]
  simp only [upd]
  rw [if_neg hij]
  exact hi
theorem gw_keyc {D : va_G} {q f y : Nat} {H : Heap} (hy : y < 12) (h : va_at D gw_cl (q, .inr (3, [.int (nI f), .int (nI y)])) H) : va_at D gw_cl (q, .inr (3, [.int (nI ((12 * f + y) / 12)), .int (nI ((12 * f + y) % 12))])) H := by
  rw [show (12 * f + y) / 12 = f by omega, show (12 * f + y) % 12 = y by omega]
  exact h
theorem gw_ifz {c : Prop} [Decidable c] {a : Nat} (h : ¬ c) : va_rf (if c then some a else none) = .null := by rw [if_neg h]; rfl
theorem gw_topr {p : Program} {l : Launch} {e : Env} {R : Room} {s : State} {m : MethodId} {args : Array Value} {below : List Frame} {meth : Method} {c : Code} {H : Heap} {locs : List Loc} {cells slots : Nat} {Q : State → Prop} {pc : Nat} {ls : Array Slot} {rest : List Value} {x y : Value} (h : x = y)
    (kk : W p l e R s m args below meth c H locs cells slots Q (F0 m pc ls (y :: rest))) : W p l e R s m args below meth c H locs cells slots Q (F0 m pc ls (x :: rest)) := by rw [h]; exact kk
