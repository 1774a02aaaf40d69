/-! A NEW ENTRY OF THE LEDGER -/
set_option maxRecDepth 100000
def gw_push (σ : gw_S) (n : Nat) (kind : Int32) (t : Nat) (money app : Int32) : gw_S := gw_up (gw_up (gw_up (gw_up σ 35 n app) 32 n kind) 33 n (nI t)) 34 n money
theorem gw_push_n {σ : gw_S} {n t : Nat} {kind money app : Int32} {k : Nat} (h : k < 32 ∨ 35 < k) : gw_push σ n kind t money app k = σ k := by
  unfold gw_push
  rw [gw_up_n _ _ _ (by omega), gw_up_n _ _ _ (by omega), gw_up_n _ _ _ (by omega), gw_up_n _ _ _ (by omega)]
theorem gw_push_x {σ : gw_S} {n t x : Nat} {kind money app : Int32} (hx : x ≠ n) (k : Nat) : gw_push σ n kind t money app k x = σ k x := by
  unfold gw_push gw_up upd
  by_cases h34 : k = 34
  · subst h34; simp [hx]
  · by_cases h33 : k = 33
    · subst h33; simp [hx]
    · by_cases h32 : k = 32
      · subst h32; simp [hx]
      · by_cases h35 : k = 35
        · subst h35; simp [hx]
        · simp [h34, h33, h32, h35]
theorem gw_push_32 {σ : gw_S} {n t : Nat} {kind money app : Int32} : gw_push σ n kind t money app 32 n = kind := by simp [gw_push, gw_up, upd]
theorem gw_push_33 {σ : gw_S} {n t : Nat} {kind money app : Int32} : gw_push σ n kind t money app 33 n = nI t := by simp [gw_push, gw_up, upd]
theorem gw_push_34 {σ : gw_S} {n t : Nat} {kind money app : Int32} : gw_push σ n kind t money app 34 n = money := by simp [gw_push, gw_up, upd]
theorem gw_push_35 {σ : gw_S} {n t : Nat} {kind money app : Int32} : gw_push σ n kind t money app 35 n = app := by simp [gw_push, gw_up, upd]
def gw_nu1 (ν : Nat → Nat) (n : Nat) : Nat → Nat := fun i => if i < 2 then n + 1 else ν i
theorem gw_gE_ent {ca : Nat → ClassId} {es : Nat → Nat} {ad hd : Nat → Nat → Nat} {σ γ : gw_S} {ord : List Nat} {ν : Nat → Nat} {n t q : Nat} {kind money app : Int32} (h1 : ν 1 = n) : ∀ r : Nat × Nat, r ≠ (3, 0) → r ≠ (15, n) → gw_gE ca es ad (gw_hd hd 15 n q) (gw_push σ n kind t money app) γ ord (gw_nu1 ν n) r = gw_gE ca es ad hd σ γ ord ν r := by
  have n11 : gw_hd hd 15 n q 11 = hd 11 := gw_hd_n (by decide)
  have n10 : gw_hd hd 15 n q 10 = hd 10 := gw_hd_n (by decide)
  have N : ∀ k, k < 32 → gw_push σ n kind t money app k = σ k := fun k hk => gw_push_n (Or.inl hk)
  have v2 : gw_nu1 ν n 2 = ν 2 := rfl
  have v3 : gw_nu1 ν n 3 = ν 3 := rfl
  rintro ⟨k, x⟩ g1 g2
  match k, g1, g2 with
  | 0, g1, g2 => simp only [gw_gE_0, gw_root, N 31 (by decide), N 7 (by decide), N 15 (by decide), N 1 (by decide), N 25 (by decide)]
  | 1, g1, g2 => simp only [gw_gE_1, n11, N 2 (by decide)]
  | 2, g1, g2 => simp only [gw_gE_2, n10]
  | 3, g1, g2 =>
    match x, g1 with
    | 0, g1 => exact absurd rfl g1
    | x + 1, g1 => simp only [gw_gE_3, if_neg (show ¬ x + 1 = 0 by omega)]
  | 4, g1, g2 => simp only [gw_gE_4, n11]
  | 5, g1, g2 => simp only [gw_gE_5, v2]
  | 6, g1, g2 =>
    have e : gw_gc (gw_push σ n kind t money app) γ x = gw_gc σ γ x := by
      match x with
      | 0 => exact N 8 (by decide)
      | 1 => exact N 9 (by decide)
      | 2 => exact N 10 (by decide)
      | 3 => exact N 11 (by decide)
      | 4 => rfl
      | 5 => rfl
      | 6 => exact N 12 (by decide)
      | 7 => exact N 26 (by decide)
      | 8 => exact N 27 (by decide)
      | 9 => rfl
      | 10 => rfl
      | 11 => rfl
      | 12 => rfl
      | 13 => rfl
      | x + 14 => rfl
    simp only [gw_gE_6, e]
  | 7, g1, g2 => simp only [gw_gE_7]
  | 8, g1, g2 => simp only [gw_gE_8]
  | 9, g1, g2 => simp only [gw_gE_9]
  | 10, g1, g2 => simp only [gw_gE_10]
  | 11, g1, g2 => simp only [gw_gE_11, gw_acc5, n10, n11, N 3 (by decide), N 4 (by decide), N 5 (by decide), N 6 (by decide)]
  | 12, g1, g2 => simp only [gw_gE_12, gw_app8, v3, N 16 (by decide), N 17 (by decide), N 18 (by decide), N 22 (by decide), N 20 (by decide), N 21 (by decide), N 23 (by decide), N 24 (by decide)]
  | 13, g1, g2 => simp only [gw_gE_13, v3, N 19 (by decide)]
  | 14, g1, g2 => simp only [gw_gE_14, v3, N 30 (by decide)]
  | 15, g1, g2 =>
    have hx : x ≠ n := fun z => g2 (by rw [z])
    simp only [gw_gE_15]
    have e1 : gw_nu1 ν n 1 = n + 1 := rfl
    have e2 : gw_ent (gw_hd hd 15 n q) (gw_push σ n kind t money app) x = gw_ent hd σ x := by
      unfold gw_ent
      rw [gw_push_x hx, gw_push_x hx, gw_push_x hx, gw_push_x hx, n10]
    rw [e1, e2, h1]
    by_cases h : x < n
    · rw [if_pos h, if_pos (by omega)]
    · rw [if_neg h, if_neg (by omega)]
  | k + 16, g1, g2 => simp only [gw_gE_16]
