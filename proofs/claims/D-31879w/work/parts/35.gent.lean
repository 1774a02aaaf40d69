/-! A NEW ENTRY OF THE LEDGER -/
set_option maxRecDepth 100000
def gw_push (σ : gw_S) (n : Nat) (kind : Int32) (t : Nat) (money app : Int32) : gw_S := gw_up (gw_up (gw_up (gw_up σ 35 n app) 32 n kind) 33 n (nI t)) 34 n money
theorem gw_push_n {σ : gw_S} {n t : Nat} {kind money app : Int32} {k : Nat} (h : k < 32 ∨ 35 < k) : gw_push σ n kind t money app k = σ k := by
  unfold gw_push
  rw [gw_up_n _ _ _ (by omega), gw_up_n _ _ _ (by omega), gw_up_n _ _ _ (by omega), gw_up_n _ _ _ (by omega)]
theorem gw_push_x {σ : gw_S} {n t x : Nat} {kind money app : Int32} (hx : x ≠ n) (k : Nat) : gw_push σ n kind t money app k x = σ k x := by
  unfold gw_push gw_up upd
  by_cases h34 : k = 34
  · subst h34; simp [hx]
  · by_cases h33 : k = 33
    · subst h33; simp [hx]
    · by_cases h32 : k = 32
      · subst h32; simp [hx]
      · by_cases h35 : k = 35
        · subst h35; simp [hx]
        · simp [h34, h33, h32, h35]
theorem gw_push_32 {σ : gw_S} {n t : Nat} {kind money app : Int32} : gw_push σ n kind t money app 32 n = kind := by simp [gw_push, gw_up, upd]
theorem gw_push_33 {σ : gw_S} {n t : Nat} {kind money app : Int32} : gw_push σ n kind t money app 33 n = nI t := by simp [gw_push, gw_up, upd]
theorem gw_push_34 {σ : gw_S} {n t : Nat} {kind money app : Int32} : gw_push σ n kind t money app 34 n = money := by simp [gw_push, gw_up, upd]
theorem gw_push_35 {σ : gw_S} {n t : Nat} {kind money app : Int32} : gw_push σ n kind t money app 35 n = app := by simp [gw_push, gw_up, upd]
def gw_nu1 (ν : Nat → Nat) (n : Nat) : Nat → Nat := fun i => if i < 2 then n + 1 else ν i
theorem gw_gE_ent {ca : Nat → ClassId} {es : Nat → Nat} {ad hd : Nat → Nat → Nat} {σ γ : gw_S} {ord : List Nat} {ν : Nat → Nat} {n t q : Nat} {kind money app : Int32} (h1 : ν 1 = n) : ∀ r : Nat × Nat, r ≠ (3, 0) → r ≠ (15, n) → gw_gE ca es ad (gw_hd hd 15 n q) (gw_push σ n kind t money app) γ ord (gw_nu1 ν n) r = gw_gE ca es ad hd σ γ ord ν r := by
  have n11 : gw_hd hd 15 n q 11 = hd 11 := gw_hd_n (by decide)
  have n10 : gw_hd hd 15 n q 10 = hd 10 := gw_hd_n (by decide)
  have N : ∀ k, k < 32 → gw_push σ n kind t money app k = σ k := fun k hk => gw_push_n (Or.inl hk)
  have v2 : gw_nu1 ν n 2 = ν 2 := rfl
  have v3 : gw_nu1 ν n 3 = ν 3 := rfl
  rintro ⟨k, x⟩ g1 g2
  match k, g1, g2 with
  | 0, g1, g2 => simp only [gw_gE_0, gw_root, N 31 (by decide), N 7 (by decide), N 15 (by decide), N 1 (by decide), N 25 (by decide)]
  | 1, g1, g2 => simp only [gw_gE_1, n11, N 2 (by decide)]
  | 2, g1, g2 => simp only [gw_gE_2, n10]
  | 3, g1, g2 =>
    match x, g1 with
    | 0, g1 => exact absurd rfl g1
    | x + 1, g1 => simp only [gw_gE_3, if_neg (show ¬ x + 1 = 0 by omega)]
  | 4, g1, g2 => simp only [gw_gE_4, n11]
  | 5, g1, g2 => simp only [gw_gE_5, v2]
  | 6, g1, g2 =>
    have e : gw_gc (gw_push σ n kind t money app) γ x = gw_gc σ γ x := by
      match x with
      | 0 => exact N 8 (by decide)
      | 1 => exact N 9 (by decide)
      | 2 => exact N 10 (by decide)
      | 3 => exact N 11 (by decide)
      | 4 => rfl
      | 5 => rfl
      | 6 => exact N 12 (by decide)
      | 7 => exact N 26 (by decide)
      | 8 => exact N 27 (by decide)
      | 9 => rfl
      | 10 => rfl
      | 11 => rfl
      | 12 => rfl
      | 13 => rfl
      | x + 14 => rfl
    simp only [gw_gE_6, e]
  | 7, g1, g2 => simp only [gw_gE_7]
  | 8, g1, g2 => simp only [gw_gE_8]
  | 9, g1, g2 => simp only [gw_gE_9]
  | 10, g1, g2 => simp only [gw_gE_10]
  | 11, g1, g2 => simp only [gw_gE_11, gw_acc5, n10, n11, N 3 (by decide), N 4 (by decide), N 5 (by decide), N 6 (by decide)]
  | 12, g1, g2 => simp only [gw_gE_12, gw_app8, v3, N 16 (by decide), N 17 (by decide), N 18 (by decide), N 22 (by decide), N 20 (by decide), N 21 (by decide), N 23 (by decide), N 24 (by decide)]
  | 13, g1, g2 => simp only [gw_gE_13, v3, N 19 (by decide)]
  | 14, g1, g2 => simp only [gw_gE_14, v3, N 30 (by decide)]
  | 15, g1, g2 =>
    have hx : x ≠ n := fun z => g2 (by rw [z])
    simp only [gw_gE_15]
    have e1 : gw_nu1 ν n 1 = n + 1 := rfl
    have e2 : gw_ent (gw_hd hd 15 n q) (gw_push σ n kind t money app) x = gw_ent hd σ x := by
      unfold gw_ent
      rw [gw_push_x hx, gw_push_x hx, gw_push_x hx, gw_push_x hx, n10]
    rw [e1, e2, h1]
    by_cases h : x < n
    · rw [if_pos h, if_pos (by omega)]
    · rw [if_neg h, if_neg (by omega)]
  | k + 16, g1, g2 => simp only [gw_gE_16]
section GWM2
variable {p : Program} {l : Launch} {e : Env} {R : Room} {s : State} {m : MethodId} {args : Array Value} {below : List Frame} {meth : Method} {c : Code} {H H0 H1 : Heap} {locs : List Loc} {cells slots : Nat} {Q : State → Prop}
variable {cc : ByteArray} {pc : Nat} {ls : Array Slot} {rest st0 : List Value} {D : va_G} {A : Nat → Prop} {ca : Nat → ClassId} {es : Nat → Nat} {ad hd : Nat → Nat → Nat} {σ γ : gw_S} {ord : List Nat} {ν : Nat → Nat} {q n t ci : Nat} {kind money app : Int32} {r : vw_C} {vs : List Value}
theorem gw_entst (hexec : p.tables.exec = Jvm.exec) (hb : c.code = cc) (hK : va_K D gw_cl (gw_tys ca) s) (hG : gw_gW D ca es A ad hd σ γ ord ν H) (hS : va_S A H0 H locs) (hn : n < 400) (h0 : ν 0 = n) (h1 : ν 1 = n) (hent : gw_ent hd (gw_push σ n kind t money app) n = .inr (ci, vs)) (hkey : va_at D gw_cl (q, .inr (ci, vs)) H) (hc : gw_cl[ci]? = some r) (hca : va_Nw (.castable r.1 "Grantworks$Entry") s) (hfr : (∀ r e, gw_gE ca es ad hd σ γ ord ν r = some e → gw_ga ad hd r ≠ q) ∧ A q) (hdg : decode cc pc = .ok (.aastore, 1))
    (kk : ∀ (H1 : Heap) (locs1 : List Loc), gw_gW D ca es A ad (gw_hd hd 15 n q) (gw_push σ n kind t money app) γ ord (gw_nu1 ν n) H1 → va_S A H0 H1 locs1 → W p l e R s m args below meth c H1 locs1 cells slots Q (F0 m (pc + 1) ls rest)) : W p l e R s m args below meth c H locs cells slots Q (F0 m pc ls (.ref q :: .int (nI n) :: .ref (ad 3 0) :: rest)) := by
  refine gw_aastO (t0 := 3) (ci := ci) (r := r) hexec hb hK hS rfl hca (gw_c3 hG) (gw_gA hG (3, 0) rfl) hkey hc (vp_in_nI hn (by decide)) hdg fun H1 locs1 he1 oq hS1 => ?_
  have hne : q ≠ ad 3 0 := fun z => hfr.1 (3, 0) _ rfl z.symm
  rw [gw_ix_nI (by omega)] at he1
  have v0 : gw_nu1 ν n 0 = n + 1 := rfl
  have ef : va_up (fun i => if i < ν 0 then some (hd 15 i) else none) n (some q) = (fun i => if i < gw_nu1 ν n 0 then some (gw_hd hd 15 n q 15 i) else none) := by
    funext i
    rw [v0, h0]
    by_cases hi : i = n
    · subst hi
      rw [if_pos (by omega), gw_hd_s]; simp [va_up]
    · rw [gw_hd_j hi]
      by_cases hl : i < n
      · rw [if_pos (by omega)]; simp [va_up, hi, hl]
      · rw [if_neg (by omega)]; simp [va_up, hi, hl]
  rw [ef] at he1
  have n10 : gw_hd hd 15 n q 10 = hd 10 := gw_hd_n (by decide)
  have hent2 : gw_ent (gw_hd hd 15 n q) (gw_push σ n kind t money app) n = .inr (ci, vs) := by
    rw [← hent]
    unfold gw_ent
    rw [n10]
  refine kk H1 locs1 (gw_W.two hG (r0 := (3, 0)) (rn := (15, n)) (q := q) rfl rfl (en := .inr (ci, vs)) ?_ (by intro z; cases z) (gw_gE_ent h1) ?_ gw_hd_s he1 (hkey.kept (oq q hne)) oq hfr.2 hfr.1) hS1
  · show (if n < gw_nu1 ν n 1 then some (gw_ent (gw_hd hd 15 n q) (gw_push σ n kind t money app) n) else none) = _
    have v1 : gw_nu1 ν n 1 = n + 1 := rfl
    rw [v1, if_pos (show n < n + 1 by omega), hent2]
  · rintro ⟨k, x⟩ hr
    by_cases h15 : k = 15
    · subst h15
      exact gw_hd_j (fun z => hr (by have z : x = n := z; rw [z]))
    · by_cases h11 : k = 11
      · subst h11; exact congrFun (gw_hd_n (by decide)) x
      · by_cases h10 : k = 10
        · subst h10; exact congrFun (gw_hd_n (by decide)) x
        · have e1 : ∀ h : Nat → Nat → Nat, gw_ga ad h (k, x) = ad k x := by
            intro h
            unfold gw_ga
            split <;> simp_all
          rw [e1, e1]
theorem gw_nu_push (h31 : σ 31 0 = nI (gw_n σ 31)) (hb : gw_n σ 31 < 400) : gw_nu (gw_up (gw_push σ (gw_n σ 31) kind t money app) 31 0 (σ 31 0 + 1)) = gw_nu1 (gw_nu σ) (gw_n σ 31) := by
  have e31 : gw_n (gw_up (gw_push σ (gw_n σ 31) kind t money app) 31 0 (σ 31 0 + 1)) 31 = gw_n σ 31 + 1 := by
    have e : gw_n (gw_up (gw_push σ (gw_n σ 31) kind t money app) 31 0 (σ 31 0 + 1)) 31 = gw_ix (σ 31 0 + 1) := by
      show gw_ix (gw_up _ 31 0 _ 31 0) = _
      rw [gw_up_s]
      simp only [upd, if_true]
    have e2 : σ 31 0 + 1 = nI (gw_n σ 31 + 1) := by rw [nI_succ]; exact congrArg (· + 1) h31
    rw [e, e2, gw_ix_nI (by omega)]
  have e15 : gw_n (gw_up (gw_push σ (gw_n σ 31) kind t money app) 31 0 (σ 31 0 + 1)) 15 = gw_n σ 15 := by
    show gw_ix (gw_up _ 31 0 _ 15 0) = gw_ix (σ 15 0)
    rw [gw_up_n _ _ _ (show (15 : Nat) ≠ 31 by decide), gw_push_n (Or.inl (by decide))]
  funext i
  show (if i < 2 then gw_n (gw_up (gw_push σ (gw_n σ 31) kind t money app) 31 0 (σ 31 0 + 1)) 31 else gw_n (gw_up (gw_push σ (gw_n σ 31) kind t money app) 31 0 (σ 31 0 + 1)) 15) = (if i < 2 then gw_n σ 31 + 1 else (if i < 2 then gw_n σ 31 else gw_n σ 15))
  rw [e31, e15]
  by_cases hi : i < 2
  · rw [if_pos hi, if_pos hi]
  · rw [if_neg hi, if_neg hi, if_neg hi]
end GWM2
