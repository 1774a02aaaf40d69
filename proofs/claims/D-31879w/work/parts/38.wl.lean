/-! THE LIST OF THOSE THAT WAIT -/
set_option maxRecDepth 100000
def gw_wk (σ : gw_S) (c k j : Nat) : List Nat := ((List.range' k j).map (gw_li σ c)).filter (fun a => σ 22 a == 1)
theorem gw_wl_wk (σ : gw_S) (c : Nat) : gw_wl σ c = gw_wk σ c 0 (gw_ix (σ 13 c)) := by
  unfold gw_wl gw_wk
  rw [List.range_eq_range']
theorem gw_wk_s (σ : gw_S) (c k j : Nat) : gw_wk σ c k (j + 1) = if σ 22 (gw_li σ c k) = 1 then gw_li σ c k :: gw_wk σ c (k + 1) j else gw_wk σ c (k + 1) j := by
  unfold gw_wk
  rw [List.range'_succ, List.map_cons, List.filter_cons]
  by_cases h : σ 22 (gw_li σ c k) = 1
  · rw [if_pos h, if_pos (by rw [beq_iff_eq]; exact h)]
  · rw [if_neg h, if_neg (by rw [beq_iff_eq]; exact h)]
theorem gw_wt1 {σ : gw_S} {c : Nat} {i : Int32} : ∀ (j k : Nat) (n v : Int32), (gw_wt σ c i j k n v).1 = n + nI (gw_wk σ c k j).length
  | 0, k, n, v => by show n = n + nI 0; rw [nI_0, Int32.add_zero]
  | j + 1, k, n, v => by
    rw [gw_wk_s, gw_wt]
    by_cases h : σ 22 (gw_li σ c k) = 1
    · rw [if_pos h, if_pos h, gw_wt1 j, List.length_cons, nI_succ, Int32.add_assoc, Int32.add_comm 1]
    · rw [if_neg h, if_neg h, gw_wt1 j]
theorem gw_wt2 {σ : gw_S} {c q : Nat} (hq : q < 2147483648) : ∀ (j k m : Nat) (v : Int32), m + j < 2147483648 → (gw_wt σ c (nI q) j k (nI m) v).2 = (match (if m ≤ q then (gw_wk σ c k j)[q - m]? else none) with | some a => nI a | none => v)
  | 0, k, m, v, _ => by
    show v = _
    by_cases h : m ≤ q
    · rw [if_pos h]; rfl
    · rw [if_neg h]
  | j + 1, k, m, v, hm => by
    rw [gw_wk_s, gw_wt]
    by_cases h : σ 22 (gw_li σ c k) = 1
    · rw [if_pos h, if_pos h, ← nI_succ, gw_wt2 hq j (k + 1) (m + 1) _ (by omega)]
      by_cases e : m = q
      · subst e
        rw [if_neg (by omega), if_pos rfl, if_pos (Nat.le_refl _), Nat.sub_self]
        rfl
      · rw [if_neg (fun z => e ((gw_nI_eq (by omega) hq).mp z))]
        by_cases hl : m ≤ q
        · rw [if_pos (by omega), if_pos hl, show q - m = (q - (m + 1)) + 1 by omega]
          rfl
        · rw [if_neg (by omega), if_neg hl]
    · rw [if_neg h, if_neg h, gw_wt2 hq j (k + 1) m v (by omega)]
theorem gw_wait1 (σ : gw_S) (c : Nat) (i : Int32) : (gw_wait σ c i).1 = nI (gw_wl σ c).length := by
  unfold gw_wait
  rw [gw_wt1, gw_wl_wk, Int32.zero_add]
theorem gw_wait2 {σ : gw_S} {c q x : Nat} (h13 : gw_ix (σ 13 c) < 2147483648) (hq : q < 2147483648) (h : (gw_wl σ c)[q]? = some x) : (gw_wait σ c (nI q)).2 = nI x := by
  unfold gw_wait
  rw [gw_wl_wk] at h
  have := gw_wt2 (σ := σ) (c := c) hq (gw_ix (σ 13 c)) 0 0 (-1) (by omega)
  rw [show (0 : Int32) = nI 0 from rfl, this, if_pos (Nat.zero_le _), Nat.sub_zero, h]
