/-! THE CLASS's CALLS: what ties the hidden columns to the state; contracts that return or throw -/
set_option maxRecDepth 100000
abbrev gw_U : Type := (Nat → Nat → Nat) × gw_S × List Nat
/-- the column 'thrown' is not the class's -/
theorem gw_gW.z {D : va_G} {ca : Nat → ClassId} {es : Nat → Nat} {A : Nat → Prop} {ad hd : Nat → Nat → Nat} {σ γ : gw_S} {ord : List Nat} {H : Heap} {v : Int32} (h : gw_gW D ca es A ad hd σ γ ord (gw_nu σ) H) : gw_gW D ca es A ad hd (gw_up σ 0 0 v) γ ord (gw_nu (gw_up σ 0 0 v)) H := by
  have e : gw_gE ca es ad hd (gw_up σ 0 0 v) γ ord (gw_nu (gw_up σ 0 0 v)) = gw_gE ca es ad hd σ γ ord (gw_nu σ) := by
    rw [gw_nu_up rfl]
    funext ⟨k, x⟩
    match k with
    | 0 => rfl
    | 1 => rfl
    | 2 => rfl
    | 3 => rfl
    | 4 => rfl
    | 5 => rfl
    | 6 =>
      rw [gw_gE_6, gw_gE_6, gw_gc_n σ γ (c := 0) (j := 0) (v := v) rfl x]
    | 7 => rfl
    | 8 => rfl
    | 9 => rfl
    | 10 => rfl
    | 11 => rfl
    | 12 => rfl
    | 13 => rfl
    | 14 => rfl
    | 15 => rfl
    | k + 16 => rfl
  unfold gw_gW
  rw [e]
  exact h
/-- a call's list, as the class keeps it -/
def gw_Lst (γ : gw_S) (i : Nat) (L : List Nat) : Prop := γ 0 i = nI L.length ∧ ∀ k x, L[k]? = some x → γ 1 (24 * i + k) = nI x
/-- those that wait at a call -/
def gw_wl (σ : gw_S) (c : Nat) : List Nat := ((List.range (gw_ix (σ 13 c))).map (gw_li σ c)).filter (fun a => σ 22 a == 1)
def gw_C (σ γ : gw_S) (ord : List Nat) : Prop :=
  gw_Ko γ ord ∧ (∀ i, i < 10 → ∀ j, j < 30 → gw_bit (γ 2 i) j = σ 28 (30 * i + j)) ∧ (∀ i, i < 6 → ∀ j, j < 10 → gw_bit (γ 3 i) j = σ 29 (10 * i + j)) ∧ (∀ i, i < 6 → gw_Lst γ i (gw_wl σ i)) ∧
  (σ 2 0 = nI ord.length ∧ ∀ i, i < 48 → (σ 3 i = -1 ↔ ¬ i ∈ ord)) ∧ ∀ j, j < gw_n σ 31 → gw_ix (σ 33 j) < 48 ∧ ¬ γ 8 (gw_ix (σ 33 j)) = 0
theorem gw_C.same {σ σ' γ : gw_S} {ord : List Nat} (h : gw_C σ γ ord) (h2 : σ' 2 = σ 2) (h3 : σ' 3 = σ 3) (h13 : σ' 13 = σ 13) (h14 : σ' 14 = σ 14) (h22 : σ' 22 = σ 22) (h28 : σ' 28 = σ 28) (h29 : σ' 29 = σ 29) (h31 : σ' 31 = σ 31) (h33 : σ' 33 = σ 33) : gw_C σ' γ ord := by
  obtain ⟨a1, a2, a3, a4, a5, a6⟩ := h
  refine ⟨a1, by rw [h28]; exact a2, by rw [h29]; exact a3, ?_, by rw [h2, h3]; exact a5, ?_⟩
  · intro i hi
    have e : gw_wl σ' i = gw_wl σ i := by unfold gw_wl gw_li; rw [h13, h14, h22]
    rw [e]
    exact a4 i hi
  · unfold gw_n
    rw [h31, h33]
    exact a6
def gw_cC (k : Nat) : Bool := !(k == 2 || k == 3 || k == 13 || k == 14 || k == 22 || k == 28 || k == 29 || k == 31 || k == 33)
theorem gw_C_up {σ γ : gw_S} {ord : List Nat} {k j : Nat} {v : Int32} (hk : gw_cC k = true) (h : gw_C σ γ ord) : gw_C (gw_up σ k j v) γ ord := by
  unfold gw_cC at hk
  simp only [Bool.not_eq_true', Bool.or_eq_false_iff, beq_eq_false_iff_ne] at hk
  exact h.same (gw_up_n _ _ _ (by omega)) (gw_up_n _ _ _ (by omega)) (gw_up_n _ _ _ (by omega)) (gw_up_n _ _ _ (by omega)) (gw_up_n _ _ _ (by omega)) (gw_up_n _ _ _ (by omega)) (gw_up_n _ _ _ (by omega)) (gw_up_n _ _ _ (by omega)) (gw_up_n _ _ _ (by omega))
/-- the names of what is thrown, by the code -/
def gw_T (L : List String) (k : Int32) : String := L.getD (gw_ix k - 1) ""
def gw_Qi (D : va_G) (ca : Nat → ClassId) (es : Nat → Nat) (A : Nat → Prop) (ad : Nat → Nat → Nat) (F : Int32 × gw_S) : Array Value → State → Outcome → State → Prop :=
  va_Qi (fun r (u : gw_U) => r = F.1 ∧ F.2 0 0 = 0 ∧ gw_C F.2 u.2.1 u.2.2) (fun u t => gw_gW D ca es A ad u.1 F.2 u.2.1 u.2.2 (gw_nu F.2) t.heap) A
def gw_XC (D : va_G) (ca : Nat → ClassId) (es : Nat → Nat) (A : Nat → Prop) (ad : Nat → Nat → Nat) (T : Int32 → String) (F : Int32 × gw_S) : String → State → State → Prop :=
  vx_X (fun (u : gw_U) => ¬ F.2 0 0 = 0 ∧ gw_C F.2 u.2.1 u.2.2) (fun E u t => E = T (F.2 0 0) ∧ gw_gW D ca es A ad u.1 F.2 u.2.1 u.2.2 (gw_nu F.2) t.heap) A
section GWX
variable {p : Program} {l : Launch} {e : Env} {R : Room} {s : State} {m : MethodId} {args : Array Value} {below : List Frame} {meth : Method} {c : Code} {H : Heap} {locs : List Loc} {cells slots : Nat}
variable {pc : Nat} {ls : Array Slot} {rest : List Value} {D : va_G} {A : Nat → Prop} {ca : Nat → ClassId} {es : Nat → Nat} {ad hd : Nat → Nat → Nat} {σ γ : gw_S} {ord : List Nat} {mc ms : Nat}
/-- a check has thrown: out of the method -/
theorem gw_out {Qc : Array Value → State → Outcome → State → Prop} {T : Int32 → String} {F : Int32 × gw_S} {K : Int32} {E : String} {ce : Cell} {q : Addr} {H1 : Heap} {locs1 : List Loc} (htab : ∀ x ∈ c.exceptionTable.toList, False) (hlocks : meth.locks = false) (hcell : H1[q]? = some ce) (hv : ce.vm = .none) (hcl : s.vm.findClass E = some ce.cls)
    (hF : F = gw_fail σ K) (hK0 : ¬ K = 0) (hE : E = T K) (hG : gw_gW D ca es A ad hd σ γ ord (gw_nu σ) H) (hC : gw_C σ γ ord) (hq : ∀ q : Nat, q < H.size → ¬ False → H1[q]? = H[q]?) (hS : va_S A s.heap H1 locs1) (hc : cells ≤ mc) (hs : slots ≤ ms) :
    vx_W p l e R s m args below meth c H1 locs1 cells slots (vx_MQ below Qc (gw_XC D ca es A ad T F) args s mc ms A) (F0 m pc ls rest) q := by
  refine vx_out (fun x hx => (htab x hx).elim) hlocks hcell hv hcl (fun t ht hW => ?_) hS.2.2 hc hs
  subst hF
  refine ⟨(hd, γ, ord), ⟨hK0, gw_C_up rfl (gw_C_up rfl hC)⟩, ⟨hE, ?_⟩, hS.F ht⟩
  rw [ht]
  exact gw_gkept (gw_gW.z (gw_gW.z hG)) (fun q h1 _ => hq q h1 id)
end GWX
theorem gw_capT {x : Int32} {n k : Nat} (hx : x = nI n) (hn : n ≤ k) (hk : k < 2147483648) (h : nI k ≤ x) : x = nI k := by
  rw [hx] at h ⊢
  have : ¬ n < k := fun q => nI_ge q (by omega) h
  rw [show n = k by omega]
theorem gw_capF {x y : Int32} (h : ¬ y ≤ x) : ¬ x = y := fun e => h (by rw [e]; exact Int32.le_refl _)
theorem gw_up_id {σ : gw_S} {k j : Nat} {v : Int32} (h : σ k j = v) : gw_up σ k j v = σ := by
  funext k' j'
  unfold gw_up upd
  by_cases q : k' = k
  · subst q
    rw [if_pos rfl]
    by_cases z : j' = j
    · subst z; simp [h]
    · simp [z]
  · rw [if_neg q]
/-- columns that the class's cells don't hold -/
def gw_gq (k : Nat) : Bool := k == 0 || k == 13 || k == 14 || k == 28 || k == 29
theorem gw_gW.gh {D : va_G} {ca : Nat → ClassId} {es : Nat → Nat} {A : Nat → Prop} {ad hd : Nat → Nat → Nat} {σ γ : gw_S} {ord : List Nat} {H : Heap} {ν : Nat → Nat} {k j : Nat} {v : Int32} (hk : gw_gq k = true) (h : gw_gW D ca es A ad hd σ γ ord ν H) : gw_gW D ca es A ad hd (gw_up σ k j v) γ ord ν H := by
  have e : gw_gE ca es ad hd (gw_up σ k j v) γ ord ν = gw_gE ca es ad hd σ γ ord ν := by
    simp only [gw_gq, Bool.or_eq_true, beq_iff_eq] at hk
    have N : ∀ q, (q ≠ 0 ∧ q ≠ 13 ∧ q ≠ 14 ∧ q ≠ 28 ∧ q ≠ 29) → gw_up σ k j v q = σ q := fun q hq => gw_up_n σ j v (by omega)
    funext ⟨r, x⟩
    match r with
    | 0 => simp only [gw_gE_0, gw_root, N 31 (by decide), N 7 (by decide), N 15 (by decide), N 1 (by decide), N 25 (by decide)]
    | 1 => simp only [gw_gE_1, N 2 (by decide)]
    | 2 => simp only [gw_gE_2]
    | 3 => simp only [gw_gE_3]
    | 4 => simp only [gw_gE_4]
    | 5 => simp only [gw_gE_5]
    | 6 =>
      rw [gw_gE_6, gw_gE_6, gw_gc_n σ γ (c := k) (j := j) (v := v) (by rcases hk with ((((q | q) | q) | q) | q) <;> subst q <;> rfl) x]
    | 7 => simp only [gw_gE_7]
    | 8 => simp only [gw_gE_8]
    | 9 => simp only [gw_gE_9]
    | 10 => simp only [gw_gE_10]
    | 11 => simp only [gw_gE_11, gw_acc5, N 3 (by decide), N 4 (by decide), N 5 (by decide), N 6 (by decide)]
    | 12 => simp only [gw_gE_12, gw_app8, N 16 (by decide), N 17 (by decide), N 18 (by decide), N 22 (by decide), N 20 (by decide), N 21 (by decide), N 23 (by decide), N 24 (by decide)]
    | 13 => simp only [gw_gE_13, N 19 (by decide)]
    | 14 => simp only [gw_gE_14, N 30 (by decide)]
    | 15 => simp only [gw_gE_15, gw_ent, N 32 (by decide), N 33 (by decide), N 34 (by decide), N 35 (by decide)]
    | r + 16 => simp only [gw_gE_16]
  unfold gw_gW
  rw [e]
  exact h
theorem gw_bit_xor {x : Int32} {j i : Nat} (hj : j < 32) (hi : i < 32) : gw_bit (x ^^^ ((1 : Int32) <<< (nI j &&& 31))) i = if i = j then (if gw_bit x i = 0 then 1 else 0) else gw_bit x i := by
  unfold gw_bit
  rw [gw_bit_bt hi, gw_bit_bt hi, gw_bt_xor hj hi]
  by_cases h : i = j
  · rw [if_pos h, if_pos h]
    cases bt x i <;> rfl
  · rw [if_neg h, if_neg h]
/-- a bit turned over, where it wasn't b -/
theorem gw_flip {x b : Int32} (hx : x = 0 ∨ x = 1) (hb : b = 0 ∨ b = 1) (h : ¬ x = b) : (if x = 0 then (1 : Int32) else 0) = b := by
  rcases hx with q | q <;> rcases hb with z | z <;> subst q <;> subst z <;> first | rfl | exact absurd rfl h
theorem gw_C_conf {σ γ : gw_S} {ord : List Nat} (h : gw_C σ γ ord) {i j : Nat} {b v : Int32} (hi : i < 10) (hj : j < 30) (hb : b = 0 ∨ b = 1) (hn : ¬ σ 28 (30 * i + j) = b) : gw_C (gw_up (gw_up σ 0 0 v) 28 (30 * i + j) b) (gw_up γ 2 i (γ 2 i ^^^ ((1 : Int32) <<< (nI j &&& 31)))) ord := by
  obtain ⟨a1, a2, a3, a4, a5, a6⟩ := h
  refine ⟨⟨a1.1, by rw [gw_up_n γ i _ (show (8 : Nat) ≠ 2 by decide)]; exact a1.2⟩, ?_, ?_, ?_, ?_, ?_⟩
  · intro i' hi' j' hj'
    rw [gw_up_s, gw_up_s]
    simp only [upd]
    rw [gw_up_n σ 0 v (show (28 : Nat) ≠ 0 by decide)]
    by_cases q : i' = i
    · subst q
      rw [if_pos rfl, gw_bit_xor (by omega) (by omega), a2 i' hi' j' hj']
      by_cases q2 : j' = j
      · subst q2
        rw [if_pos rfl, if_pos rfl]
        exact gw_flip (by rw [← a2 i' hi' j' hj']; exact gw_bit_01 _ _) hb hn
      · rw [if_neg q2, if_neg (by omega)]
    · rw [if_neg q, if_neg (by omega)]
      exact a2 i' hi' j' hj'
  · rw [gw_up_n γ i _ (show (3 : Nat) ≠ 2 by decide)]
    exact a3
  · intro c hc
    have := a4 c hc
    unfold gw_Lst at this ⊢
    rw [gw_up_n γ i _ (show (0 : Nat) ≠ 2 by decide), gw_up_n γ i _ (show (1 : Nat) ≠ 2 by decide)]
    exact this
  · exact a5
  · rw [gw_up_n γ i _ (show (8 : Nat) ≠ 2 by decide)]
    exact a6
theorem gw_C_seat {σ γ : gw_S} {ord : List Nat} (h : gw_C σ γ ord) {i j : Nat} {b v : Int32} (hi : i < 6) (hj : j < 10) (hb : b = 0 ∨ b = 1) (hn : ¬ σ 29 (10 * i + j) = b) : gw_C (gw_up (gw_up σ 0 0 v) 29 (10 * i + j) b) (gw_up γ 3 i (γ 3 i ^^^ ((1 : Int32) <<< (nI j &&& 31)))) ord := by
  obtain ⟨a1, a2, a3, a4, a5, a6⟩ := h
  refine ⟨⟨a1.1, by rw [gw_up_n γ i _ (show (8 : Nat) ≠ 3 by decide)]; exact a1.2⟩, ?_, ?_, ?_, ?_, ?_⟩
  · rw [gw_up_n γ i _ (show (2 : Nat) ≠ 3 by decide)]
    exact a2
  · intro i' hi' j' hj'
    rw [gw_up_s, gw_up_s]
    simp only [upd]
    rw [gw_up_n σ 0 v (show (29 : Nat) ≠ 0 by decide)]
    by_cases q : i' = i
    · subst q
      rw [if_pos rfl, gw_bit_xor (by omega) (by omega), a3 i' hi' j' hj']
      by_cases q2 : j' = j
      · subst q2
        rw [if_pos rfl, if_pos rfl]
        exact gw_flip (by rw [← a3 i' hi' j' hj']; exact gw_bit_01 _ _) hb hn
      · rw [if_neg q2, if_neg (by omega)]
    · rw [if_neg q, if_neg (by omega)]
      exact a3 i' hi' j' hj'
  · intro c hc
    have := a4 c hc
    unfold gw_Lst at this ⊢
    rw [gw_up_n γ i _ (show (0 : Nat) ≠ 3 by decide), gw_up_n γ i _ (show (1 : Nat) ≠ 3 by decide)]
    exact this
  · exact a5
  · rw [gw_up_n γ i _ (show (8 : Nat) ≠ 3 by decide)]
    exact a6
def gw_ask (σ : gw_S) (a : Nat) (x y z d : Int32) : gw_S := gw_up (gw_up (gw_up (gw_up σ 19 (3 * a + 0) x) 19 (3 * a + 1) y) 19 (3 * a + 2) z) 21 a d
/-- a void callee that changes the world -/
theorem gw_callv {p : Program} {l : Launch} {e : Env} {R : Room} {s : State} {m : MethodId} {args : Array Value} {below : List Frame} {meth : Method} {c : Code} {H H0 : Heap} {locs : List Loc} {cells slots mc ms : Nat} {Q : State → Prop} {pc : Nat} {ls : Array Slot} {rest st0 : List Value} {D : va_G} {A : Nat → Prop} {ca : Nat → ClassId} {es : Nat → Nat} {ad hd : Nat → Nat → Nat} {σ' γ' : gw_S} {ord' : List Nat} {ν' : Nat → Nat} {a : Array Value}
    (hr : va_Run p l e R s m args below meth c H locs cells slots mc ms (F0 m pc ls st0) rest (va_Qv (fun (_ : Unit) => True) (fun _ t => gw_gW D ca es A ad hd σ' γ' ord' ν' t.heap) A a) A) (hS : va_S A H0 H locs)
    (kk : ∀ (H1 : Heap) (locs1 : List Loc), gw_gW D ca es A ad hd σ' γ' ord' ν' H1 → va_S A H0 H1 locs1 → W p l e R s m args below meth c H1 locs1 (cells + mc) (slots + ms) Q (F0 m (pc + 3) ls rest)) : W p l e R s m args below meth c H locs cells slots Q (F0 m pc ls st0) :=
  va_callv hr hS (fun _ _ h => h) (fun _ h => h) (fun u t H1 locs1 ht _ _ hb _ _ hS1 => by subst ht; exact kk _ _ hb hS1)
theorem gw_lgn {i x : Int32} {n : Nat} (hx : x = nI n) (hn : n < 2147483647) (h : ¬ (-1 ≤ i ∧ i ≤ x - 1)) : ¬ i = -1 ∧ ¬ (0 ≤ i ∧ i ≤ x - 1) := by
  subst hx
  have h0 : (-1 : Int32) ≤ nI n - 1 := by
    simp only [Int32.le_iff_toInt_le]
    rw [Int32.toInt_sub, nI_toInt (by omega), show (1 : Int32).toInt = 1 from rfl, show (-1 : Int32).toInt = -1 from rfl, Int.bmod_eq_of_le (by omega) (by omega)]
    omega
  refine ⟨fun e => h ⟨by rw [e]; exact Int32.le_refl _, by rw [e]; exact h0⟩, fun q => h ⟨?_, q.2⟩⟩
  have := q.1
  simp only [Int32.le_iff_toInt_le] at this ⊢
  have e1 : (-1 : Int32).toInt = -1 := rfl
  have e0 : (0 : Int32).toInt = 0 := rfl
  omega
theorem gw_lgy {i x : Int32} (h : -1 ≤ i ∧ i ≤ x - 1) (h2 : ¬ i = -1) : 0 ≤ i ∧ i ≤ x - 1 := by
  refine ⟨?_, h.2⟩
  have := h.1
  simp only [Int32.le_iff_toInt_le, ← Int32.toInt_inj] at this h2 ⊢
  have e1 : (-1 : Int32).toInt = -1 := rfl
  have e0 : (0 : Int32).toInt = 0 := rfl
  omega
