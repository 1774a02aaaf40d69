/-! LEAVING A LIST: what the class's lists become -/
set_option maxRecDepth 100000
def gw_Lv (γ γ' : gw_S) (c : Nat) (L : List Nat) : Prop := (∀ k, k ≠ 0 → k ≠ 1 → γ' k = γ k) ∧ (∀ i, i ≠ c → γ' 0 i = γ 0 i) ∧ (∀ x, (x < 24 * c ∨ 24 * c + 24 ≤ x) → γ' 1 x = γ 1 x) ∧ gw_Lst γ' c L
/-- in the midst of moving up: places below k have moved -/
def gw_Mv (γ γ' : gw_S) (c p k : Nat) : Prop := (∀ i, i ≠ 0 → i ≠ 1 → γ' i = γ i) ∧ (∀ i, i ≠ c → γ' 0 i = γ 0 i) ∧ γ' 0 c = γ 0 c - 1 ∧ ∀ x, γ' 1 x = if 24 * c + p ≤ x ∧ x < 24 * c + k then γ 1 (x + 1) else γ 1 x
theorem gw_Mv.start {γ : gw_S} {c p : Nat} : gw_Mv γ (gw_up γ 0 c (γ 0 c - 1)) c p p := by
  refine ⟨fun i h _ => gw_up_n _ _ _ h, fun i h => ?_, ?_, fun x => ?_⟩
  · rw [gw_up_s]; simp only [upd]; rw [if_neg h]
  · rw [gw_up_s]; simp only [upd, if_true]
  · rw [gw_up_n _ _ _ (show (1 : Nat) ≠ 0 by decide), if_neg (by omega)]
theorem gw_Mv.step {γ γ' : gw_S} {c p k : Nat} (h : gw_Mv γ γ' c p k) (hp : p ≤ k) : gw_Mv γ (gw_up γ' 1 (24 * c + k) (γ' 1 (24 * c + k + 1))) c p (k + 1) := by
  obtain ⟨a, b, d, e⟩ := h
  refine ⟨fun i h0 h1 => by rw [gw_up_n _ _ _ h1]; exact a i h0 h1, fun i hi => by rw [gw_up_n _ _ _ (show (0 : Nat) ≠ 1 by decide)]; exact b i hi, by rw [gw_up_n _ _ _ (show (0 : Nat) ≠ 1 by decide)]; exact d, fun x => ?_⟩
  rw [gw_up_s]
  simp only [upd]
  by_cases hx : x = 24 * c + k
  · subst hx
    rw [if_pos rfl, e, if_neg (by omega), if_pos (by omega)]
  · rw [if_neg hx, e]
    by_cases h2 : 24 * c + p ≤ x ∧ x < 24 * c + k
    · rw [if_pos h2, if_pos (by omega)]
    · rw [if_neg h2, if_neg (by omega)]
theorem gw_Mv.fin {γ γ' : gw_S} {c a : Nat} {L1 L2 : List Nat} (h : gw_Mv γ γ' c L1.length (L1.length + L2.length)) (hL : gw_Lst γ c (L1 ++ a :: L2)) (hn : (L1 ++ a :: L2).length ≤ 24) : gw_Lv γ γ' c (L1 ++ L2) := by
  obtain ⟨p1, p2, p3, p4⟩ := h
  obtain ⟨l1, l2⟩ := hL
  simp only [List.length_append, List.length_cons] at l1 hn
  refine ⟨p1, p2, fun x hx => by rw [p4, if_neg (by omega)], ?_, fun k x hk => ?_⟩
  · rw [p3, l1, show L1.length + (L2.length + 1) = (L1.length + L2.length) + 1 by omega, nI_pred, List.length_append]
  · have hkl : k < L1.length + L2.length := by
      have := (List.getElem?_eq_some_iff.mp hk).1
      rwa [List.length_append] at this
    rw [p4]
    by_cases h1 : k < L1.length
    · rw [if_neg (by omega)]
      refine l2 k x ?_
      rw [List.getElem?_append_left h1] at hk ⊢
      exact hk
    · rw [if_pos (by omega), show 24 * c + k + 1 = 24 * c + (k + 1) by omega]
      refine l2 (k + 1) x ?_
      rw [List.getElem?_append_right (by omega)] at hk ⊢
      rw [show k + 1 - L1.length = (k - L1.length) + 1 by omega, List.getElem?_cons_succ]
      exact hk
theorem gw_lv_ne {γ : gw_S} {c a k : Nat} {L1 L2 : List Nat} (hL : gw_Lst γ c (L1 ++ a :: L2)) (hn1 : ∀ x, x ∈ L1 → x ≠ a ∧ x < 24) (hk : k < L1.length) (ha : a < 24) : ¬ γ 1 (24 * c + k) = nI a := by
  intro h
  have h1 := hL.2 k L1[k] (by rw [List.getElem?_append_left hk]; exact List.getElem?_eq_getElem hk)
  have h2 := hn1 L1[k] (List.getElem_mem hk)
  exact h2.1 ((gw_nI_eq (by omega) (by omega)).mp (h1.symm.trans h))
theorem gw_lv_eq {γ : gw_S} {c a k : Nat} {L1 L2 : List Nat} (hL : gw_Lst γ c (L1 ++ a :: L2)) (hk : k = L1.length) : γ 1 (24 * c + k) = nI a := hL.2 k a (by subst hk; simp)
theorem gw_lv_cnt {γ γ' : gw_S} {c a p k : Nat} {L1 L2 : List Nat} (h : gw_Mv γ γ' c p k) (hL : gw_Lst γ c (L1 ++ a :: L2)) : γ' 0 c = nI (L1.length + L2.length) := by
  rw [h.2.2.1, hL.1, List.length_append, List.length_cons, show L1.length + (L2.length + 1) = (L1.length + L2.length) + 1 by omega, nI_pred]
def gw_pl (σ : gw_S) (f : Nat) : List Nat → Int64 → Int64
  | [], n => n
  | j :: L, n => gw_pl σ f L (n + (σ f j).toInt64)
