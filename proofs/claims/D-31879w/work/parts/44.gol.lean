/-! WHO COMES IN, by the list of those that wait -/
set_option maxRecDepth 100000
def gw_goL : List Nat → gw_S → gw_S × Int32
  | [], σ => (σ, 0)
  | a :: L, σ => if gw_can σ a then ((gw_goL L (gw_comes σ a)).1, (gw_goL L (gw_comes σ a)).2 + 1) else (σ, 0)
theorem gw_comes_22 (σ : gw_S) (a : Nat) {x : Nat} (hx : x ≠ a) : gw_comes σ a 22 x = σ 22 x := by
  unfold gw_comes
  rw [gw_up_s]
  simp only [upd]
  rw [if_neg hx, gw_resv_n (by decide), gw_resv_n (by decide), gw_resv_n (by decide)]
theorem gw_goM_L {c : Nat} : ∀ (n k : Nat) (σ : gw_S), (∀ i j, k ≤ i → i < j → j < k + n → gw_li σ c i ≠ gw_li σ c j) → gw_goM c n k σ = gw_goL (gw_wk σ c k n) σ
  | 0, k, σ, _ => rfl
  | n + 1, k, σ, hd => by
    have hrec : ∀ i j, k + 1 ≤ i → i < j → j < k + 1 + n → gw_li σ c i ≠ gw_li σ c j := fun i j h1 h2 h3 => hd i j (by omega) h2 (by omega)
    rw [gw_wk_s, gw_goM]
    by_cases h : σ 22 (gw_li σ c k) = 1
    · rw [if_pos h, if_pos h, gw_goL]
      by_cases hc : gw_can σ (gw_li σ c k)
      · rw [if_pos hc, if_pos hc]
        have h14 : (gw_comes σ (gw_li σ c k)) 14 = σ 14 := gw_comes_n ⟨Or.inl (by decide), by decide, by decide⟩
        have hli : ∀ i, gw_li (gw_comes σ (gw_li σ c k)) c i = gw_li σ c i := fun i => by unfold gw_li; rw [show (gw_comes σ (gw_ix (σ 14 (24 * c + k)))) 14 = σ 14 from h14]
        have hwk : gw_wk (gw_comes σ (gw_li σ c k)) c (k + 1) n = gw_wk σ c (k + 1) n := by
          unfold gw_wk
          rw [show gw_li (gw_comes σ (gw_li σ c k)) c = gw_li σ c from funext hli]
          refine List.filter_congr fun x hx => ?_
          obtain ⟨i, hi, rfl⟩ := List.mem_map.mp hx
          have hi2 := List.mem_range'_1.mp hi
          rw [gw_comes_22 σ _ (fun z => hd k i (Nat.le_refl _) (by omega) (by omega) z.symm)]
        rw [gw_goM_L n (k + 1) (gw_comes σ (gw_li σ c k)) (fun i j h1 h2 h3 => by rw [hli, hli]; exact hrec i j h1 h2 h3), hwk]
      · rw [if_neg hc, if_neg hc]
    · rw [if_neg h, if_neg h, gw_goM_L n (k + 1) σ hrec]
