/-! STORES INTO THE CLASS's WORLD: each changes one role -/
set_option maxRecDepth 100000
theorem gw_gE_0 {ca : Nat → ClassId} {es : Nat → Nat} {ad hd : Nat → Nat → Nat} {σ γ : gw_S} {ord : List Nat} {ν : Nat → Nat} {x : Nat} : gw_gE ca es ad hd σ γ ord ν (0, x) = (if x = 0 then some (.inr (0, gw_root ad σ)) else none : Option va_E) := rfl
theorem gw_gE_1 {ca : Nat → ClassId} {es : Nat → Nat} {ad hd : Nat → Nat → Nat} {σ γ : gw_S} {ord : List Nat} {ν : Nat → Nat} {x : Nat} : gw_gE ca es ad hd σ γ ord ν (1, x) = (if x = 0 then some (.inr (1, [.ref (ad 4 0), va_rf (ord.head?.map (hd 11)), va_rf (ord.getLast?.map (hd 11)), .int (σ 2 0)])) else none : Option va_E) := rfl
theorem gw_gE_2 {ca : Nat → ClassId} {es : Nat → Nat} {ad hd : Nat → Nat → Nat} {σ γ : gw_S} {ord : List Nat} {ν : Nat → Nat} {x : Nat} : gw_gE ca es ad hd σ γ ord ν (2, x) = (if x = 0 then some (.inl (ca 2, 48, gw_rfA (fun i => if γ 8 i = 0 then none else some (hd 10 i)))) else none : Option va_E) := rfl
theorem gw_gE_3 {ca : Nat → ClassId} {es : Nat → Nat} {ad hd : Nat → Nat → Nat} {σ γ : gw_S} {ord : List Nat} {ν : Nat → Nat} {x : Nat} : gw_gE ca es ad hd σ γ ord ν (3, x) = (if x = 0 then some (.inl (ca 3, 400, gw_rfA (fun i => if i < ν 0 then some (hd 15 i) else none))) else none : Option va_E) := rfl
theorem gw_gE_4 {ca : Nat → ClassId} {es : Nat → Nat} {ad hd : Nat → Nat → Nat} {σ γ : gw_S} {ord : List Nat} {ν : Nat → Nat} {x : Nat} : gw_gE ca es ad hd σ γ ord ν (4, x) = (if x = 0 then some (.inl (ca 5, 16, gw_rfA (fun i => (gw_bk ord i).head?.map (hd 11)))) else none : Option va_E) := rfl
theorem gw_gE_5 {ca : Nat → ClassId} {es : Nat → Nat} {ad hd : Nat → Nat → Nat} {σ γ : gw_S} {ord : List Nat} {ν : Nat → Nat} {x : Nat} : gw_gE ca es ad hd σ γ ord ν (5, x) = (if x = 0 then some (.inl (ca 4, 24, gw_rfA (fun i => if i < ν 2 then some (ad 12 i) else none))) else none : Option va_E) := rfl
theorem gw_gE_6 {ca : Nat → ClassId} {es : Nat → Nat} {ad hd : Nat → Nat → Nat} {σ γ : gw_S} {ord : List Nat} {ν : Nat → Nat} {x : Nat} : gw_gE ca es ad hd σ γ ord ν (6, x) = (if x < 15 then some (.inl (ca (gw_gz x), gw_gl x, .inl (gw_gc σ γ x))) else none : Option va_E) := rfl
theorem gw_gE_7 {ca : Nat → ClassId} {es : Nat → Nat} {ad hd : Nat → Nat → Nat} {σ γ : gw_S} {ord : List Nat} {ν : Nat → Nat} {x : Nat} : gw_gE ca es ad hd σ γ ord ν (7, x) = (none : Option va_E) := rfl
theorem gw_gE_8 {ca : Nat → ClassId} {es : Nat → Nat} {ad hd : Nat → Nat → Nat} {σ γ : gw_S} {ord : List Nat} {ν : Nat → Nat} {x : Nat} : gw_gE ca es ad hd σ γ ord ν (8, x) = (none : Option va_E) := rfl
theorem gw_gE_9 {ca : Nat → ClassId} {es : Nat → Nat} {ad hd : Nat → Nat → Nat} {σ γ : gw_S} {ord : List Nat} {ν : Nat → Nat} {x : Nat} : gw_gE ca es ad hd σ γ ord ν (9, x) = (none : Option va_E) := rfl
theorem gw_gE_10 {ca : Nat → ClassId} {es : Nat → Nat} {ad hd : Nat → Nat → Nat} {σ γ : gw_S} {ord : List Nat} {ν : Nat → Nat} {x : Nat} : gw_gE ca es ad hd σ γ ord ν (10, x) = (if x < 48 ∧ ¬ γ 8 x = 0 then some (.inr (3, [.int (nI (x / 12)), .int (nI (x % 12))])) else none : Option va_E) := rfl
theorem gw_gE_11 {ca : Nat → ClassId} {es : Nat → Nat} {ad hd : Nat → Nat → Nat} {σ γ : gw_S} {ord : List Nat} {ν : Nat → Nat} {x : Nat} : gw_gE ca es ad hd σ γ ord ν (11, x) = (if x ∈ ord then some (.inr (4, gw_acc5 hd σ ord x)) else none : Option va_E) := rfl
theorem gw_gE_12 {ca : Nat → ClassId} {es : Nat → Nat} {ad hd : Nat → Nat → Nat} {σ γ : gw_S} {ord : List Nat} {ν : Nat → Nat} {x : Nat} : gw_gE ca es ad hd σ γ ord ν (12, x) = (if x < ν 3 then some (.inr (7, gw_app8 es ad σ x)) else none : Option va_E) := rfl
theorem gw_gE_13 {ca : Nat → ClassId} {es : Nat → Nat} {ad hd : Nat → Nat → Nat} {σ γ : gw_S} {ord : List Nat} {ν : Nat → Nat} {x : Nat} : gw_gE ca es ad hd σ γ ord ν (13, x) = (if x < ν 3 then some (.inl (ca 0, 3, .inl (fun i => if i < 3 then σ 19 (3 * x + i) else 0))) else none : Option va_E) := rfl
theorem gw_gE_14 {ca : Nat → ClassId} {es : Nat → Nat} {ad hd : Nat → Nat → Nat} {σ γ : gw_S} {ord : List Nat} {ν : Nat → Nat} {x : Nat} : gw_gE ca es ad hd σ γ ord ν (14, x) = (if x < ν 3 then some (.inl (ca 0, 10, .inl (fun i => if i < 10 ∧ x < 24 then σ 30 (24 * i + x) else 0))) else none : Option va_E) := rfl
theorem gw_gE_15 {ca : Nat → ClassId} {es : Nat → Nat} {ad hd : Nat → Nat → Nat} {σ γ : gw_S} {ord : List Nat} {ν : Nat → Nat} {x : Nat} : gw_gE ca es ad hd σ γ ord ν (15, x) = (if x < ν 1 then some (gw_ent hd σ x) else none : Option va_E) := rfl
theorem gw_gE_16 {ca : Nat → ClassId} {es : Nat → Nat} {ad hd : Nat → Nat → Nat} {σ γ : gw_S} {ord : List Nat} {ν : Nat → Nat} {k x : Nat} : gw_gE ca es ad hd σ γ ord ν (k + 16, x) = (none : Option va_E) := rfl
theorem gw_gc_n (σ γ : gw_S) {c j : Nat} {v : Int32} (h : (c == 8 || c == 9 || c == 10 || c == 11 || c == 12 || c == 26 || c == 27) = false) (x : Nat) : gw_gc (gw_up σ c j v) γ x = gw_gc σ γ x := by
  simp only [Bool.or_eq_false_iff, beq_eq_false_iff_ne] at h
  match x with
  | 0 => exact gw_up_n _ _ _ (by omega)
  | 1 => exact gw_up_n _ _ _ (by omega)
  | 2 => exact gw_up_n _ _ _ (by omega)
  | 3 => exact gw_up_n _ _ _ (by omega)
  | 4 => rfl
  | 5 => rfl
  | 6 => exact gw_up_n _ _ _ (by omega)
  | 7 => exact gw_up_n _ _ _ (by omega)
  | 8 => exact gw_up_n _ _ _ (by omega)
  | 9 => rfl
  | 10 => rfl
  | 11 => rfl
  | 12 => rfl
  | 13 => rfl
  | x + 14 => rfl
theorem gw_fr6_0 {ca : Nat → ClassId} {es : Nat → Nat} {ad hd : Nat → Nat → Nat} {σ γ : gw_S} {ord : List Nat} {ν : Nat → Nat} {j : Nat} {v : Int32} : ∀ r : Nat × Nat, r ≠ (6, 0) → gw_gE ca es ad hd (gw_up σ 8 j v) γ ord ν r = gw_gE ca es ad hd σ γ ord ν r := by
  rintro ⟨k, x⟩ h
  match k, h with
  | 0, h => simp only [gw_gE_0, gw_root, gw_up_n σ j v (show (31 : Nat) ≠ 8 by decide), gw_up_n σ j v (show (7 : Nat) ≠ 8 by decide), gw_up_n σ j v (show (15 : Nat) ≠ 8 by decide), gw_up_n σ j v (show (1 : Nat) ≠ 8 by decide), gw_up_n σ j v (show (25 : Nat) ≠ 8 by decide)]
  | 1, h => simp only [gw_gE_1, gw_up_n σ j v (show (2 : Nat) ≠ 8 by decide)]
  | 2, h => simp only [gw_gE_2]
  | 3, h => simp only [gw_gE_3]
  | 4, h => simp only [gw_gE_4]
  | 5, h => simp only [gw_gE_5]
  | 6, h => 
    match x, h with
    | 0, h => exact absurd rfl h
    | 1, h => simp only [gw_gE_6, gw_gc, gw_up_n σ j v (show (9 : Nat) ≠ 8 by decide)]
    | 2, h => simp only [gw_gE_6, gw_gc, gw_up_n σ j v (show (10 : Nat) ≠ 8 by decide)]
    | 3, h => simp only [gw_gE_6, gw_gc, gw_up_n σ j v (show (11 : Nat) ≠ 8 by decide)]
    | 4, h => simp only [gw_gE_6, gw_gc]
    | 5, h => simp only [gw_gE_6, gw_gc]
    | 6, h => simp only [gw_gE_6, gw_gc, gw_up_n σ j v (show (12 : Nat) ≠ 8 by decide)]
    | 7, h => simp only [gw_gE_6, gw_gc, gw_up_n σ j v (show (26 : Nat) ≠ 8 by decide)]
    | 8, h => simp only [gw_gE_6, gw_gc, gw_up_n σ j v (show (27 : Nat) ≠ 8 by decide)]
    | 9, h => simp only [gw_gE_6, gw_gc]
    | 10, h => simp only [gw_gE_6, gw_gc]
    | 11, h => simp only [gw_gE_6, gw_gc]
    | 12, h => simp only [gw_gE_6, gw_gc]
    | 13, h => simp only [gw_gE_6, gw_gc]
    | 14, h => simp only [gw_gE_6, gw_gc]
    | x + 15, h => simp only [gw_gE_6, if_neg (show ¬ x + 15 < 15 by omega)]
  | 7, h => simp only [gw_gE_7]
  | 8, h => simp only [gw_gE_8]
  | 9, h => simp only [gw_gE_9]
  | 10, h => simp only [gw_gE_10]
  | 11, h => simp only [gw_gE_11, gw_acc5, gw_up_n σ j v (show (3 : Nat) ≠ 8 by decide), gw_up_n σ j v (show (4 : Nat) ≠ 8 by decide), gw_up_n σ j v (show (5 : Nat) ≠ 8 by decide), gw_up_n σ j v (show (6 : Nat) ≠ 8 by decide)]
  | 12, h => simp only [gw_gE_12, gw_app8, gw_up_n σ j v (show (16 : Nat) ≠ 8 by decide), gw_up_n σ j v (show (17 : Nat) ≠ 8 by decide), gw_up_n σ j v (show (18 : Nat) ≠ 8 by decide), gw_up_n σ j v (show (22 : Nat) ≠ 8 by decide), gw_up_n σ j v (show (20 : Nat) ≠ 8 by decide), gw_up_n σ j v (show (21 : Nat) ≠ 8 by decide), gw_up_n σ j v (show (23 : Nat) ≠ 8 by decide), gw_up_n σ j v (show (24 : Nat) ≠ 8 by decide)]
  | 13, h => simp only [gw_gE_13, gw_up_n σ j v (show (19 : Nat) ≠ 8 by decide)]
  | 14, h => simp only [gw_gE_14, gw_up_n σ j v (show (30 : Nat) ≠ 8 by decide)]
  | 15, h => simp only [gw_gE_15, gw_ent, gw_up_n σ j v (show (32 : Nat) ≠ 8 by decide), gw_up_n σ j v (show (33 : Nat) ≠ 8 by decide), gw_up_n σ j v (show (34 : Nat) ≠ 8 by decide), gw_up_n σ j v (show (35 : Nat) ≠ 8 by decide)]
  | k + 16, h => simp only [gw_gE_16]
theorem gw_fr6_1 {ca : Nat → ClassId} {es : Nat → Nat} {ad hd : Nat → Nat → Nat} {σ γ : gw_S} {ord : List Nat} {ν : Nat → Nat} {j : Nat} {v : Int32} : ∀ r : Nat × Nat, r ≠ (6, 1) → gw_gE ca es ad hd (gw_up σ 9 j v) γ ord ν r = gw_gE ca es ad hd σ γ ord ν r := by
  rintro ⟨k, x⟩ h
  match k, h with
  | 0, h => simp only [gw_gE_0, gw_root, gw_up_n σ j v (show (31 : Nat) ≠ 9 by decide), gw_up_n σ j v (show (7 : Nat) ≠ 9 by decide), gw_up_n σ j v (show (15 : Nat) ≠ 9 by decide), gw_up_n σ j v (show (1 : Nat) ≠ 9 by decide), gw_up_n σ j v (show (25 : Nat) ≠ 9 by decide)]
  | 1, h => simp only [gw_gE_1, gw_up_n σ j v (show (2 : Nat) ≠ 9 by decide)]
  | 2, h => simp only [gw_gE_2]
  | 3, h => simp only [gw_gE_3]
  | 4, h => simp only [gw_gE_4]
  | 5, h => simp only [gw_gE_5]
  | 6, h => 
    match x, h with
    | 0, h => simp only [gw_gE_6, gw_gc, gw_up_n σ j v (show (8 : Nat) ≠ 9 by decide)]
    | 1, h => exact absurd rfl h
    | 2, h => simp only [gw_gE_6, gw_gc, gw_up_n σ j v (show (10 : Nat) ≠ 9 by decide)]
    | 3, h => simp only [gw_gE_6, gw_gc, gw_up_n σ j v (show (11 : Nat) ≠ 9 by decide)]
    | 4, h => simp only [gw_gE_6, gw_gc]
    | 5, h => simp only [gw_gE_6, gw_gc]
    | 6, h => simp only [gw_gE_6, gw_gc, gw_up_n σ j v (show (12 : Nat) ≠ 9 by decide)]
    | 7, h => simp only [gw_gE_6, gw_gc, gw_up_n σ j v (show (26 : Nat) ≠ 9 by decide)]
    | 8, h => simp only [gw_gE_6, gw_gc, gw_up_n σ j v (show (27 : Nat) ≠ 9 by decide)]
    | 9, h => simp only [gw_gE_6, gw_gc]
    | 10, h => simp only [gw_gE_6, gw_gc]
    | 11, h => simp only [gw_gE_6, gw_gc]
    | 12, h => simp only [gw_gE_6, gw_gc]
    | 13, h => simp only [gw_gE_6, gw_gc]
    | 14, h => simp only [gw_gE_6, gw_gc]
    | x + 15, h => simp only [gw_gE_6, if_neg (show ¬ x + 15 < 15 by omega)]
  | 7, h => simp only [gw_gE_7]
  | 8, h => simp only [gw_gE_8]
  | 9, h => simp only [gw_gE_9]
  | 10, h => simp only [gw_gE_10]
  | 11, h => simp only [gw_gE_11, gw_acc5, gw_up_n σ j v (show (3 : Nat) ≠ 9 by decide), gw_up_n σ j v (show (4 : Nat) ≠ 9 by decide), gw_up_n σ j v (show (5 : Nat) ≠ 9 by decide), gw_up_n σ j v (show (6 : Nat) ≠ 9 by decide)]
  | 12, h => simp only [gw_gE_12, gw_app8, gw_up_n σ j v (show (16 : Nat) ≠ 9 by decide), gw_up_n σ j v (show (17 : Nat) ≠ 9 by decide), gw_up_n σ j v (show (18 : Nat) ≠ 9 by decide), gw_up_n σ j v (show (22 : Nat) ≠ 9 by decide), gw_up_n σ j v (show (20 : Nat) ≠ 9 by decide), gw_up_n σ j v (show (21 : Nat) ≠ 9 by decide), gw_up_n σ j v (show (23 : Nat) ≠ 9 by decide), gw_up_n σ j v (show (24 : Nat) ≠ 9 by decide)]
  | 13, h => simp only [gw_gE_13, gw_up_n σ j v (show (19 : Nat) ≠ 9 by decide)]
  | 14, h => simp only [gw_gE_14, gw_up_n σ j v (show (30 : Nat) ≠ 9 by decide)]
  | 15, h => simp only [gw_gE_15, gw_ent, gw_up_n σ j v (show (32 : Nat) ≠ 9 by decide), gw_up_n σ j v (show (33 : Nat) ≠ 9 by decide), gw_up_n σ j v (show (34 : Nat) ≠ 9 by decide), gw_up_n σ j v (show (35 : Nat) ≠ 9 by decide)]
  | k + 16, h => simp only [gw_gE_16]
theorem gw_fr6_2 {ca : Nat → ClassId} {es : Nat → Nat} {ad hd : Nat → Nat → Nat} {σ γ : gw_S} {ord : List Nat} {ν : Nat → Nat} {j : Nat} {v : Int32} : ∀ r : Nat × Nat, r ≠ (6, 2) → gw_gE ca es ad hd (gw_up σ 10 j v) γ ord ν r = gw_gE ca es ad hd σ γ ord ν r := by
  rintro ⟨k, x⟩ h
  match k, h with
  | 0, h => simp only [gw_gE_0, gw_root, gw_up_n σ j v (show (31 : Nat) ≠ 10 by decide), gw_up_n σ j v (show (7 : Nat) ≠ 10 by decide), gw_up_n σ j v (show (15 : Nat) ≠ 10 by decide), gw_up_n σ j v (show (1 : Nat) ≠ 10 by decide), gw_up_n σ j v (show (25 : Nat) ≠ 10 by decide)]
  | 1, h => simp only [gw_gE_1, gw_up_n σ j v (show (2 : Nat) ≠ 10 by decide)]
  | 2, h => simp only [gw_gE_2]
  | 3, h => simp only [gw_gE_3]
  | 4, h => simp only [gw_gE_4]
  | 5, h => simp only [gw_gE_5]
  | 6, h => 
    match x, h with
    | 0, h => simp only [gw_gE_6, gw_gc, gw_up_n σ j v (show (8 : Nat) ≠ 10 by decide)]
    | 1, h => simp only [gw_gE_6, gw_gc, gw_up_n σ j v (show (9 : Nat) ≠ 10 by decide)]
    | 2, h => exact absurd rfl h
    | 3, h => simp only [gw_gE_6, gw_gc, gw_up_n σ j v (show (11 : Nat) ≠ 10 by decide)]
    | 4, h => simp only [gw_gE_6, gw_gc]
    | 5, h => simp only [gw_gE_6, gw_gc]
    | 6, h => simp only [gw_gE_6, gw_gc, gw_up_n σ j v (show (12 : Nat) ≠ 10 by decide)]
    | 7, h => simp only [gw_gE_6, gw_gc, gw_up_n σ j v (show (26 : Nat) ≠ 10 by decide)]
    | 8, h => simp only [gw_gE_6, gw_gc, gw_up_n σ j v (show (27 : Nat) ≠ 10 by decide)]
    | 9, h => simp only [gw_gE_6, gw_gc]
    | 10, h => simp only [gw_gE_6, gw_gc]
    | 11, h => simp only [gw_gE_6, gw_gc]
    | 12, h => simp only [gw_gE_6, gw_gc]
    | 13, h => simp only [gw_gE_6, gw_gc]
    | 14, h => simp only [gw_gE_6, gw_gc]
    | x + 15, h => simp only [gw_gE_6, if_neg (show ¬ x + 15 < 15 by omega)]
  | 7, h => simp only [gw_gE_7]
  | 8, h => simp only [gw_gE_8]
  | 9, h => simp only [gw_gE_9]
  | 10, h => simp only [gw_gE_10]
  | 11, h => simp only [gw_gE_11, gw_acc5, gw_up_n σ j v (show (3 : Nat) ≠ 10 by decide), gw_up_n σ j v (show (4 : Nat) ≠ 10 by decide), gw_up_n σ j v (show (5 : Nat) ≠ 10 by decide), gw_up_n σ j v (show (6 : Nat) ≠ 10 by decide)]
  | 12, h => simp only [gw_gE_12, gw_app8, gw_up_n σ j v (show (16 : Nat) ≠ 10 by decide), gw_up_n σ j v (show (17 : Nat) ≠ 10 by decide), gw_up_n σ j v (show (18 : Nat) ≠ 10 by decide), gw_up_n σ j v (show (22 : Nat) ≠ 10 by decide), gw_up_n σ j v (show (20 : Nat) ≠ 10 by decide), gw_up_n σ j v (show (21 : Nat) ≠ 10 by decide), gw_up_n σ j v (show (23 : Nat) ≠ 10 by decide), gw_up_n σ j v (show (24 : Nat) ≠ 10 by decide)]
  | 13, h => simp only [gw_gE_13, gw_up_n σ j v (show (19 : Nat) ≠ 10 by decide)]
  | 14, h => simp only [gw_gE_14, gw_up_n σ j v (show (30 : Nat) ≠ 10 by decide)]
  | 15, h => simp only [gw_gE_15, gw_ent, gw_up_n σ j v (show (32 : Nat) ≠ 10 by decide), gw_up_n σ j v (show (33 : Nat) ≠ 10 by decide), gw_up_n σ j v (show (34 : Nat) ≠ 10 by decide), gw_up_n σ j v (show (35 : Nat) ≠ 10 by decide)]
  | k + 16, h => simp only [gw_gE_16]
theorem gw_fr6_3 {ca : Nat → ClassId} {es : Nat → Nat} {ad hd : Nat → Nat → Nat} {σ γ : gw_S} {ord : List Nat} {ν : Nat → Nat} {j : Nat} {v : Int32} : ∀ r : Nat × Nat, r ≠ (6, 3) → gw_gE ca es ad hd (gw_up σ 11 j v) γ ord ν r = gw_gE ca es ad hd σ γ ord ν r := by
  rintro ⟨k, x⟩ h
  match k, h with
  | 0, h => simp only [gw_gE_0, gw_root, gw_up_n σ j v (show (31 : Nat) ≠ 11 by decide), gw_up_n σ j v (show (7 : Nat) ≠ 11 by decide), gw_up_n σ j v (show (15 : Nat) ≠ 11 by decide), gw_up_n σ j v (show (1 : Nat) ≠ 11 by decide), gw_up_n σ j v (show (25 : Nat) ≠ 11 by decide)]
  | 1, h => simp only [gw_gE_1, gw_up_n σ j v (show (2 : Nat) ≠ 11 by decide)]
  | 2, h => simp only [gw_gE_2]
  | 3, h => simp only [gw_gE_3]
  | 4, h => simp only [gw_gE_4]
  | 5, h => simp only [gw_gE_5]
  | 6, h => 
    match x, h with
    | 0, h => simp only [gw_gE_6, gw_gc, gw_up_n σ j v (show (8 : Nat) ≠ 11 by decide)]
    | 1, h => simp only [gw_gE_6, gw_gc, gw_up_n σ j v (show (9 : Nat) ≠ 11 by decide)]
    | 2, h => simp only [gw_gE_6, gw_gc, gw_up_n σ j v (show (10 : Nat) ≠ 11 by decide)]
    | 3, h => exact absurd rfl h
    | 4, h => simp only [gw_gE_6, gw_gc]
    | 5, h => simp only [gw_gE_6, gw_gc]
    | 6, h => simp only [gw_gE_6, gw_gc, gw_up_n σ j v (show (12 : Nat) ≠ 11 by decide)]
    | 7, h => simp only [gw_gE_6, gw_gc, gw_up_n σ j v (show (26 : Nat) ≠ 11 by decide)]
    | 8, h => simp only [gw_gE_6, gw_gc, gw_up_n σ j v (show (27 : Nat) ≠ 11 by decide)]
    | 9, h => simp only [gw_gE_6, gw_gc]
    | 10, h => simp only [gw_gE_6, gw_gc]
    | 11, h => simp only [gw_gE_6, gw_gc]
    | 12, h => simp only [gw_gE_6, gw_gc]
    | 13, h => simp only [gw_gE_6, gw_gc]
    | 14, h => simp only [gw_gE_6, gw_gc]
    | x + 15, h => simp only [gw_gE_6, if_neg (show ¬ x + 15 < 15 by omega)]
  | 7, h => simp only [gw_gE_7]
  | 8, h => simp only [gw_gE_8]
  | 9, h => simp only [gw_gE_9]
  | 10, h => simp only [gw_gE_10]
  | 11, h => simp only [gw_gE_11, gw_acc5, gw_up_n σ j v (show (3 : Nat) ≠ 11 by decide), gw_up_n σ j v (show (4 : Nat) ≠ 11 by decide), gw_up_n σ j v (show (5 : Nat) ≠ 11 by decide), gw_up_n σ j v (show (6 : Nat) ≠ 11 by decide)]
  | 12, h => simp only [gw_gE_12, gw_app8, gw_up_n σ j v (show (16 : Nat) ≠ 11 by decide), gw_up_n σ j v (show (17 : Nat) ≠ 11 by decide), gw_up_n σ j v (show (18 : Nat) ≠ 11 by decide), gw_up_n σ j v (show (22 : Nat) ≠ 11 by decide), gw_up_n σ j v (show (20 : Nat) ≠ 11 by decide), gw_up_n σ j v (show (21 : Nat) ≠ 11 by decide), gw_up_n σ j v (show (23 : Nat) ≠ 11 by decide), gw_up_n σ j v (show (24 : Nat) ≠ 11 by decide)]
  | 13, h => simp only [gw_gE_13, gw_up_n σ j v (show (19 : Nat) ≠ 11 by decide)]
  | 14, h => simp only [gw_gE_14, gw_up_n σ j v (show (30 : Nat) ≠ 11 by decide)]
  | 15, h => simp only [gw_gE_15, gw_ent, gw_up_n σ j v (show (32 : Nat) ≠ 11 by decide), gw_up_n σ j v (show (33 : Nat) ≠ 11 by decide), gw_up_n σ j v (show (34 : Nat) ≠ 11 by decide), gw_up_n σ j v (show (35 : Nat) ≠ 11 by decide)]
  | k + 16, h => simp only [gw_gE_16]
theorem gw_fr6_4 {ca : Nat → ClassId} {es : Nat → Nat} {ad hd : Nat → Nat → Nat} {σ γ : gw_S} {ord : List Nat} {ν : Nat → Nat} {j : Nat} {v : Int32} : ∀ r : Nat × Nat, r ≠ (6, 4) → gw_gE ca es ad hd σ (gw_up γ 0 j v) ord ν r = gw_gE ca es ad hd σ γ ord ν r := by
  rintro ⟨k, x⟩ h
  match k, h with
  | 0, h => simp only [gw_gE_0, gw_root]
  | 1, h => simp only [gw_gE_1]
  | 2, h => simp only [gw_gE_2, gw_up_n γ j v (show (8 : Nat) ≠ 0 by decide)]
  | 3, h => simp only [gw_gE_3]
  | 4, h => simp only [gw_gE_4]
  | 5, h => simp only [gw_gE_5]
  | 6, h => 
    match x, h with
    | 0, h => simp only [gw_gE_6, gw_gc]
    | 1, h => simp only [gw_gE_6, gw_gc]
    | 2, h => simp only [gw_gE_6, gw_gc]
    | 3, h => simp only [gw_gE_6, gw_gc]
    | 4, h => exact absurd rfl h
    | 5, h => simp only [gw_gE_6, gw_gc, gw_up_n γ j v (show (1 : Nat) ≠ 0 by decide)]
    | 6, h => simp only [gw_gE_6, gw_gc]
    | 7, h => simp only [gw_gE_6, gw_gc]
    | 8, h => simp only [gw_gE_6, gw_gc]
    | 9, h => simp only [gw_gE_6, gw_gc, gw_up_n γ j v (show (2 : Nat) ≠ 0 by decide)]
    | 10, h => simp only [gw_gE_6, gw_gc, gw_up_n γ j v (show (3 : Nat) ≠ 0 by decide)]
    | 11, h => simp only [gw_gE_6, gw_gc, gw_up_n γ j v (show (4 : Nat) ≠ 0 by decide)]
    | 12, h => simp only [gw_gE_6, gw_gc, gw_up_n γ j v (show (5 : Nat) ≠ 0 by decide)]
    | 13, h => simp only [gw_gE_6, gw_gc, gw_up_n γ j v (show (6 : Nat) ≠ 0 by decide)]
    | 14, h => simp only [gw_gE_6, gw_gc, gw_up_n γ j v (show (7 : Nat) ≠ 0 by decide)]
    | x + 15, h => simp only [gw_gE_6, if_neg (show ¬ x + 15 < 15 by omega)]
  | 7, h => simp only [gw_gE_7]
  | 8, h => simp only [gw_gE_8]
  | 9, h => simp only [gw_gE_9]
  | 10, h => simp only [gw_gE_10, gw_up_n γ j v (show (8 : Nat) ≠ 0 by decide)]
  | 11, h => simp only [gw_gE_11, gw_acc5]
  | 12, h => simp only [gw_gE_12, gw_app8]
  | 13, h => simp only [gw_gE_13]
  | 14, h => simp only [gw_gE_14]
  | 15, h => simp only [gw_gE_15, gw_ent]
  | k + 16, h => simp only [gw_gE_16]
theorem gw_fr6_5 {ca : Nat → ClassId} {es : Nat → Nat} {ad hd : Nat → Nat → Nat} {σ γ : gw_S} {ord : List Nat} {ν : Nat → Nat} {j : Nat} {v : Int32} : ∀ r : Nat × Nat, r ≠ (6, 5) → gw_gE ca es ad hd σ (gw_up γ 1 j v) ord ν r = gw_gE ca es ad hd σ γ ord ν r := by
  rintro ⟨k, x⟩ h
  match k, h with
  | 0, h => simp only [gw_gE_0, gw_root]
  | 1, h => simp only [gw_gE_1]
  | 2, h => simp only [gw_gE_2, gw_up_n γ j v (show (8 : Nat) ≠ 1 by decide)]
  | 3, h => simp only [gw_gE_3]
  | 4, h => simp only [gw_gE_4]
  | 5, h => simp only [gw_gE_5]
  | 6, h => 
    match x, h with
    | 0, h => simp only [gw_gE_6, gw_gc]
    | 1, h => simp only [gw_gE_6, gw_gc]
    | 2, h => simp only [gw_gE_6, gw_gc]
    | 3, h => simp only [gw_gE_6, gw_gc]
    | 4, h => simp only [gw_gE_6, gw_gc, gw_up_n γ j v (show (0 : Nat) ≠ 1 by decide)]
    | 5, h => exact absurd rfl h
    | 6, h => simp only [gw_gE_6, gw_gc]
    | 7, h => simp only [gw_gE_6, gw_gc]
    | 8, h => simp only [gw_gE_6, gw_gc]
    | 9, h => simp only [gw_gE_6, gw_gc, gw_up_n γ j v (show (2 : Nat) ≠ 1 by decide)]
    | 10, h => simp only [gw_gE_6, gw_gc, gw_up_n γ j v (show (3 : Nat) ≠ 1 by decide)]
    | 11, h => simp only [gw_gE_6, gw_gc, gw_up_n γ j v (show (4 : Nat) ≠ 1 by decide)]
    | 12, h => simp only [gw_gE_6, gw_gc, gw_up_n γ j v (show (5 : Nat) ≠ 1 by decide)]
    | 13, h => simp only [gw_gE_6, gw_gc, gw_up_n γ j v (show (6 : Nat) ≠ 1 by decide)]
    | 14, h => simp only [gw_gE_6, gw_gc, gw_up_n γ j v (show (7 : Nat) ≠ 1 by decide)]
    | x + 15, h => simp only [gw_gE_6, if_neg (show ¬ x + 15 < 15 by omega)]
  | 7, h => simp only [gw_gE_7]
  | 8, h => simp only [gw_gE_8]
  | 9, h => simp only [gw_gE_9]
  | 10, h => simp only [gw_gE_10, gw_up_n γ j v (show (8 : Nat) ≠ 1 by decide)]
  | 11, h => simp only [gw_gE_11, gw_acc5]
  | 12, h => simp only [gw_gE_12, gw_app8]
  | 13, h => simp only [gw_gE_13]
  | 14, h => simp only [gw_gE_14]
  | 15, h => simp only [gw_gE_15, gw_ent]
  | k + 16, h => simp only [gw_gE_16]
theorem gw_fr6_6 {ca : Nat → ClassId} {es : Nat → Nat} {ad hd : Nat → Nat → Nat} {σ γ : gw_S} {ord : List Nat} {ν : Nat → Nat} {j : Nat} {v : Int32} : ∀ r : Nat × Nat, r ≠ (6, 6) → gw_gE ca es ad hd (gw_up σ 12 j v) γ ord ν r = gw_gE ca es ad hd σ γ ord ν r := by
  rintro ⟨k, x⟩ h
  match k, h with
  | 0, h => simp only [gw_gE_0, gw_root, gw_up_n σ j v (show (31 : Nat) ≠ 12 by decide), gw_up_n σ j v (show (7 : Nat) ≠ 12 by decide), gw_up_n σ j v (show (15 : Nat) ≠ 12 by decide), gw_up_n σ j v (show (1 : Nat) ≠ 12 by decide), gw_up_n σ j v (show (25 : Nat) ≠ 12 by decide)]
  | 1, h => simp only [gw_gE_1, gw_up_n σ j v (show (2 : Nat) ≠ 12 by decide)]
  | 2, h => simp only [gw_gE_2]
  | 3, h => simp only [gw_gE_3]
  | 4, h => simp only [gw_gE_4]
  | 5, h => simp only [gw_gE_5]
  | 6, h => 
    match x, h with
    | 0, h => simp only [gw_gE_6, gw_gc, gw_up_n σ j v (show (8 : Nat) ≠ 12 by decide)]
    | 1, h => simp only [gw_gE_6, gw_gc, gw_up_n σ j v (show (9 : Nat) ≠ 12 by decide)]
    | 2, h => simp only [gw_gE_6, gw_gc, gw_up_n σ j v (show (10 : Nat) ≠ 12 by decide)]
    | 3, h => simp only [gw_gE_6, gw_gc, gw_up_n σ j v (show (11 : Nat) ≠ 12 by decide)]
    | 4, h => simp only [gw_gE_6, gw_gc]
    | 5, h => simp only [gw_gE_6, gw_gc]
    | 6, h => exact absurd rfl h
    | 7, h => simp only [gw_gE_6, gw_gc, gw_up_n σ j v (show (26 : Nat) ≠ 12 by decide)]
    | 8, h => simp only [gw_gE_6, gw_gc, gw_up_n σ j v (show (27 : Nat) ≠ 12 by decide)]
    | 9, h => simp only [gw_gE_6, gw_gc]
    | 10, h => simp only [gw_gE_6, gw_gc]
    | 11, h => simp only [gw_gE_6, gw_gc]
    | 12, h => simp only [gw_gE_6, gw_gc]
    | 13, h => simp only [gw_gE_6, gw_gc]
    | 14, h => simp only [gw_gE_6, gw_gc]
    | x + 15, h => simp only [gw_gE_6, if_neg (show ¬ x + 15 < 15 by omega)]
  | 7, h => simp only [gw_gE_7]
  | 8, h => simp only [gw_gE_8]
  | 9, h => simp only [gw_gE_9]
  | 10, h => simp only [gw_gE_10]
  | 11, h => simp only [gw_gE_11, gw_acc5, gw_up_n σ j v (show (3 : Nat) ≠ 12 by decide), gw_up_n σ j v (show (4 : Nat) ≠ 12 by decide), gw_up_n σ j v (show (5 : Nat) ≠ 12 by decide), gw_up_n σ j v (show (6 : Nat) ≠ 12 by decide)]
  | 12, h => simp only [gw_gE_12, gw_app8, gw_up_n σ j v (show (16 : Nat) ≠ 12 by decide), gw_up_n σ j v (show (17 : Nat) ≠ 12 by decide), gw_up_n σ j v (show (18 : Nat) ≠ 12 by decide), gw_up_n σ j v (show (22 : Nat) ≠ 12 by decide), gw_up_n σ j v (show (20 : Nat) ≠ 12 by decide), gw_up_n σ j v (show (21 : Nat) ≠ 12 by decide), gw_up_n σ j v (show (23 : Nat) ≠ 12 by decide), gw_up_n σ j v (show (24 : Nat) ≠ 12 by decide)]
  | 13, h => simp only [gw_gE_13, gw_up_n σ j v (show (19 : Nat) ≠ 12 by decide)]
  | 14, h => simp only [gw_gE_14, gw_up_n σ j v (show (30 : Nat) ≠ 12 by decide)]
  | 15, h => simp only [gw_gE_15, gw_ent, gw_up_n σ j v (show (32 : Nat) ≠ 12 by decide), gw_up_n σ j v (show (33 : Nat) ≠ 12 by decide), gw_up_n σ j v (show (34 : Nat) ≠ 12 by decide), gw_up_n σ j v (show (35 : Nat) ≠ 12 by decide)]
  | k + 16, h => simp only [gw_gE_16]
theorem gw_fr6_7 {ca : Nat → ClassId} {es : Nat → Nat} {ad hd : Nat → Nat → Nat} {σ γ : gw_S} {ord : List Nat} {ν : Nat → Nat} {j : Nat} {v : Int32} : ∀ r : Nat × Nat, r ≠ (6, 7) → gw_gE ca es ad hd (gw_up σ 26 j v) γ ord ν r = gw_gE ca es ad hd σ γ ord ν r := by
  rintro ⟨k, x⟩ h
  match k, h with
  | 0, h => simp only [gw_gE_0, gw_root, gw_up_n σ j v (show (31 : Nat) ≠ 26 by decide), gw_up_n σ j v (show (7 : Nat) ≠ 26 by decide), gw_up_n σ j v (show (15 : Nat) ≠ 26 by decide), gw_up_n σ j v (show (1 : Nat) ≠ 26 by decide), gw_up_n σ j v (show (25 : Nat) ≠ 26 by decide)]
  | 1, h => simp only [gw_gE_1, gw_up_n σ j v (show (2 : Nat) ≠ 26 by decide)]
  | 2, h => simp only [gw_gE_2]
  | 3, h => simp only [gw_gE_3]
  | 4, h => simp only [gw_gE_4]
  | 5, h => simp only [gw_gE_5]
  | 6, h => 
    match x, h with
    | 0, h => simp only [gw_gE_6, gw_gc, gw_up_n σ j v (show (8 : Nat) ≠ 26 by decide)]
    | 1, h => simp only [gw_gE_6, gw_gc, gw_up_n σ j v (show (9 : Nat) ≠ 26 by decide)]
    | 2, h => simp only [gw_gE_6, gw_gc, gw_up_n σ j v (show (10 : Nat) ≠ 26 by decide)]
    | 3, h => simp only [gw_gE_6, gw_gc, gw_up_n σ j v (show (11 : Nat) ≠ 26 by decide)]
    | 4, h => simp only [gw_gE_6, gw_gc]
    | 5, h => simp only [gw_gE_6, gw_gc]
    | 6, h => simp only [gw_gE_6, gw_gc, gw_up_n σ j v (show (12 : Nat) ≠ 26 by decide)]
    | 7, h => exact absurd rfl h
    | 8, h => simp only [gw_gE_6, gw_gc, gw_up_n σ j v (show (27 : Nat) ≠ 26 by decide)]
    | 9, h => simp only [gw_gE_6, gw_gc]
    | 10, h => simp only [gw_gE_6, gw_gc]
    | 11, h => simp only [gw_gE_6, gw_gc]
    | 12, h => simp only [gw_gE_6, gw_gc]
    | 13, h => simp only [gw_gE_6, gw_gc]
    | 14, h => simp only [gw_gE_6, gw_gc]
    | x + 15, h => simp only [gw_gE_6, if_neg (show ¬ x + 15 < 15 by omega)]
  | 7, h => simp only [gw_gE_7]
  | 8, h => simp only [gw_gE_8]
  | 9, h => simp only [gw_gE_9]
  | 10, h => simp only [gw_gE_10]
  | 11, h => simp only [gw_gE_11, gw_acc5, gw_up_n σ j v (show (3 : Nat) ≠ 26 by decide), gw_up_n σ j v (show (4 : Nat) ≠ 26 by decide), gw_up_n σ j v (show (5 : Nat) ≠ 26 by decide), gw_up_n σ j v (show (6 : Nat) ≠ 26 by decide)]
  | 12, h => simp only [gw_gE_12, gw_app8, gw_up_n σ j v (show (16 : Nat) ≠ 26 by decide), gw_up_n σ j v (show (17 : Nat) ≠ 26 by decide), gw_up_n σ j v (show (18 : Nat) ≠ 26 by decide), gw_up_n σ j v (show (22 : Nat) ≠ 26 by decide), gw_up_n σ j v (show (20 : Nat) ≠ 26 by decide), gw_up_n σ j v (show (21 : Nat) ≠ 26 by decide), gw_up_n σ j v (show (23 : Nat) ≠ 26 by decide), gw_up_n σ j v (show (24 : Nat) ≠ 26 by decide)]
  | 13, h => simp only [gw_gE_13, gw_up_n σ j v (show (19 : Nat) ≠ 26 by decide)]
  | 14, h => simp only [gw_gE_14, gw_up_n σ j v (show (30 : Nat) ≠ 26 by decide)]
  | 15, h => simp only [gw_gE_15, gw_ent, gw_up_n σ j v (show (32 : Nat) ≠ 26 by decide), gw_up_n σ j v (show (33 : Nat) ≠ 26 by decide), gw_up_n σ j v (show (34 : Nat) ≠ 26 by decide), gw_up_n σ j v (show (35 : Nat) ≠ 26 by decide)]
  | k + 16, h => simp only [gw_gE_16]
theorem gw_fr6_8 {ca : Nat → ClassId} {es : Nat → Nat} {ad hd : Nat → Nat → Nat} {σ γ : gw_S} {ord : List Nat} {ν : Nat → Nat} {j : Nat} {v : Int32} : ∀ r : Nat × Nat, r ≠ (6, 8) → gw_gE ca es ad hd (gw_up σ 27 j v) γ ord ν r = gw_gE ca es ad hd σ γ ord ν r := by
  rintro ⟨k, x⟩ h
  match k, h with
  | 0, h => simp only [gw_gE_0, gw_root, gw_up_n σ j v (show (31 : Nat) ≠ 27 by decide), gw_up_n σ j v (show (7 : Nat) ≠ 27 by decide), gw_up_n σ j v (show (15 : Nat) ≠ 27 by decide), gw_up_n σ j v (show (1 : Nat) ≠ 27 by decide), gw_up_n σ j v (show (25 : Nat) ≠ 27 by decide)]
  | 1, h => simp only [gw_gE_1, gw_up_n σ j v (show (2 : Nat) ≠ 27 by decide)]
  | 2, h => simp only [gw_gE_2]
  | 3, h => simp only [gw_gE_3]
  | 4, h => simp only [gw_gE_4]
  | 5, h => simp only [gw_gE_5]
  | 6, h => 
    match x, h with
    | 0, h => simp only [gw_gE_6, gw_gc, gw_up_n σ j v (show (8 : Nat) ≠ 27 by decide)]
    | 1, h => simp only [gw_gE_6, gw_gc, gw_up_n σ j v (show (9 : Nat) ≠ 27 by decide)]
    | 2, h => simp only [gw_gE_6, gw_gc, gw_up_n σ j v (show (10 : Nat) ≠ 27 by decide)]
    | 3, h => simp only [gw_gE_6, gw_gc, gw_up_n σ j v (show (11 : Nat) ≠ 27 by decide)]
    | 4, h => simp only [gw_gE_6, gw_gc]
    | 5, h => simp only [gw_gE_6, gw_gc]
    | 6, h => simp only [gw_gE_6, gw_gc, gw_up_n σ j v (show (12 : Nat) ≠ 27 by decide)]
    | 7, h => simp only [gw_gE_6, gw_gc, gw_up_n σ j v (show (26 : Nat) ≠ 27 by decide)]
    | 8, h => exact absurd rfl h
    | 9, h => simp only [gw_gE_6, gw_gc]
    | 10, h => simp only [gw_gE_6, gw_gc]
    | 11, h => simp only [gw_gE_6, gw_gc]
    | 12, h => simp only [gw_gE_6, gw_gc]
    | 13, h => simp only [gw_gE_6, gw_gc]
    | 14, h => simp only [gw_gE_6, gw_gc]
    | x + 15, h => simp only [gw_gE_6, if_neg (show ¬ x + 15 < 15 by omega)]
  | 7, h => simp only [gw_gE_7]
  | 8, h => simp only [gw_gE_8]
  | 9, h => simp only [gw_gE_9]
  | 10, h => simp only [gw_gE_10]
  | 11, h => simp only [gw_gE_11, gw_acc5, gw_up_n σ j v (show (3 : Nat) ≠ 27 by decide), gw_up_n σ j v (show (4 : Nat) ≠ 27 by decide), gw_up_n σ j v (show (5 : Nat) ≠ 27 by decide), gw_up_n σ j v (show (6 : Nat) ≠ 27 by decide)]
  | 12, h => simp only [gw_gE_12, gw_app8, gw_up_n σ j v (show (16 : Nat) ≠ 27 by decide), gw_up_n σ j v (show (17 : Nat) ≠ 27 by decide), gw_up_n σ j v (show (18 : Nat) ≠ 27 by decide), gw_up_n σ j v (show (22 : Nat) ≠ 27 by decide), gw_up_n σ j v (show (20 : Nat) ≠ 27 by decide), gw_up_n σ j v (show (21 : Nat) ≠ 27 by decide), gw_up_n σ j v (show (23 : Nat) ≠ 27 by decide), gw_up_n σ j v (show (24 : Nat) ≠ 27 by decide)]
  | 13, h => simp only [gw_gE_13, gw_up_n σ j v (show (19 : Nat) ≠ 27 by decide)]
  | 14, h => simp only [gw_gE_14, gw_up_n σ j v (show (30 : Nat) ≠ 27 by decide)]
  | 15, h => simp only [gw_gE_15, gw_ent, gw_up_n σ j v (show (32 : Nat) ≠ 27 by decide), gw_up_n σ j v (show (33 : Nat) ≠ 27 by decide), gw_up_n σ j v (show (34 : Nat) ≠ 27 by decide), gw_up_n σ j v (show (35 : Nat) ≠ 27 by decide)]
  | k + 16, h => simp only [gw_gE_16]
theorem gw_fr6_9 {ca : Nat → ClassId} {es : Nat → Nat} {ad hd : Nat → Nat → Nat} {σ γ : gw_S} {ord : List Nat} {ν : Nat → Nat} {j : Nat} {v : Int32} : ∀ r : Nat × Nat, r ≠ (6, 9) → gw_gE ca es ad hd σ (gw_up γ 2 j v) ord ν r = gw_gE ca es ad hd σ γ ord ν r := by
  rintro ⟨k, x⟩ h
  match k, h with
  | 0, h => simp only [gw_gE_0, gw_root]
  | 1, h => simp only [gw_gE_1]
  | 2, h => simp only [gw_gE_2, gw_up_n γ j v (show (8 : Nat) ≠ 2 by decide)]
  | 3, h => simp only [gw_gE_3]
  | 4, h => simp only [gw_gE_4]
  | 5, h => simp only [gw_gE_5]
  | 6, h => 
    match x, h with
    | 0, h => simp only [gw_gE_6, gw_gc]
    | 1, h => simp only [gw_gE_6, gw_gc]
    | 2, h => simp only [gw_gE_6, gw_gc]
    | 3, h => simp only [gw_gE_6, gw_gc]
    | 4, h => simp only [gw_gE_6, gw_gc, gw_up_n γ j v (show (0 : Nat) ≠ 2 by decide)]
    | 5, h => simp only [gw_gE_6, gw_gc, gw_up_n γ j v (show (1 : Nat) ≠ 2 by decide)]
    | 6, h => simp only [gw_gE_6, gw_gc]
    | 7, h => simp only [gw_gE_6, gw_gc]
    | 8, h => simp only [gw_gE_6, gw_gc]
    | 9, h => exact absurd rfl h
    | 10, h => simp only [gw_gE_6, gw_gc, gw_up_n γ j v (show (3 : Nat) ≠ 2 by decide)]
    | 11, h => simp only [gw_gE_6, gw_gc, gw_up_n γ j v (show (4 : Nat) ≠ 2 by decide)]
    | 12, h => simp only [gw_gE_6, gw_gc, gw_up_n γ j v (show (5 : Nat) ≠ 2 by decide)]
    | 13, h => simp only [gw_gE_6, gw_gc, gw_up_n γ j v (show (6 : Nat) ≠ 2 by decide)]
    | 14, h => simp only [gw_gE_6, gw_gc, gw_up_n γ j v (show (7 : Nat) ≠ 2 by decide)]
    | x + 15, h => simp only [gw_gE_6, if_neg (show ¬ x + 15 < 15 by omega)]
  | 7, h => simp only [gw_gE_7]
  | 8, h => simp only [gw_gE_8]
  | 9, h => simp only [gw_gE_9]
  | 10, h => simp only [gw_gE_10, gw_up_n γ j v (show (8 : Nat) ≠ 2 by decide)]
  | 11, h => simp only [gw_gE_11, gw_acc5]
  | 12, h => simp only [gw_gE_12, gw_app8]
  | 13, h => simp only [gw_gE_13]
  | 14, h => simp only [gw_gE_14]
  | 15, h => simp only [gw_gE_15, gw_ent]
  | k + 16, h => simp only [gw_gE_16]
theorem gw_fr6_10 {ca : Nat → ClassId} {es : Nat → Nat} {ad hd : Nat → Nat → Nat} {σ γ : gw_S} {ord : List Nat} {ν : Nat → Nat} {j : Nat} {v : Int32} : ∀ r : Nat × Nat, r ≠ (6, 10) → gw_gE ca es ad hd σ (gw_up γ 3 j v) ord ν r = gw_gE ca es ad hd σ γ ord ν r := by
  rintro ⟨k, x⟩ h
  match k, h with
  | 0, h => simp only [gw_gE_0, gw_root]
  | 1, h => simp only [gw_gE_1]
  | 2, h => simp only [gw_gE_2, gw_up_n γ j v (show (8 : Nat) ≠ 3 by decide)]
  | 3, h => simp only [gw_gE_3]
  | 4, h => simp only [gw_gE_4]
  | 5, h => simp only [gw_gE_5]
  | 6, h => 
    match x, h with
    | 0, h => simp only [gw_gE_6, gw_gc]
    | 1, h => simp only [gw_gE_6, gw_gc]
    | 2, h => simp only [gw_gE_6, gw_gc]
    | 3, h => simp only [gw_gE_6, gw_gc]
    | 4, h => simp only [gw_gE_6, gw_gc, gw_up_n γ j v (show (0 : Nat) ≠ 3 by decide)]
    | 5, h => simp only [gw_gE_6, gw_gc, gw_up_n γ j v (show (1 : Nat) ≠ 3 by decide)]
    | 6, h => simp only [gw_gE_6, gw_gc]
    | 7, h => simp only [gw_gE_6, gw_gc]
    | 8, h => simp only [gw_gE_6, gw_gc]
    | 9, h => simp only [gw_gE_6, gw_gc, gw_up_n γ j v (show (2 : Nat) ≠ 3 by decide)]
    | 10, h => exact absurd rfl h
    | 11, h => simp only [gw_gE_6, gw_gc, gw_up_n γ j v (show (4 : Nat) ≠ 3 by decide)]
    | 12, h => simp only [gw_gE_6, gw_gc, gw_up_n γ j v (show (5 : Nat) ≠ 3 by decide)]
    | 13, h => simp only [gw_gE_6, gw_gc, gw_up_n γ j v (show (6 : Nat) ≠ 3 by decide)]
    | 14, h => simp only [gw_gE_6, gw_gc, gw_up_n γ j v (show (7 : Nat) ≠ 3 by decide)]
    | x + 15, h => simp only [gw_gE_6, if_neg (show ¬ x + 15 < 15 by omega)]
  | 7, h => simp only [gw_gE_7]
  | 8, h => simp only [gw_gE_8]
  | 9, h => simp only [gw_gE_9]
  | 10, h => simp only [gw_gE_10, gw_up_n γ j v (show (8 : Nat) ≠ 3 by decide)]
  | 11, h => simp only [gw_gE_11, gw_acc5]
  | 12, h => simp only [gw_gE_12, gw_app8]
  | 13, h => simp only [gw_gE_13]
  | 14, h => simp only [gw_gE_14]
  | 15, h => simp only [gw_gE_15, gw_ent]
  | k + 16, h => simp only [gw_gE_16]
theorem gw_fr6_11 {ca : Nat → ClassId} {es : Nat → Nat} {ad hd : Nat → Nat → Nat} {σ γ : gw_S} {ord : List Nat} {ν : Nat → Nat} {j : Nat} {v : Int32} : ∀ r : Nat × Nat, r ≠ (6, 11) → gw_gE ca es ad hd σ (gw_up γ 4 j v) ord ν r = gw_gE ca es ad hd σ γ ord ν r := by
  rintro ⟨k, x⟩ h
  match k, h with
  | 0, h => simp only [gw_gE_0, gw_root]
  | 1, h => simp only [gw_gE_1]
  | 2, h => simp only [gw_gE_2, gw_up_n γ j v (show (8 : Nat) ≠ 4 by decide)]
  | 3, h => simp only [gw_gE_3]
  | 4, h => simp only [gw_gE_4]
  | 5, h => simp only [gw_gE_5]
  | 6, h => 
    match x, h with
    | 0, h => simp only [gw_gE_6, gw_gc]
    | 1, h => simp only [gw_gE_6, gw_gc]
    | 2, h => simp only [gw_gE_6, gw_gc]
    | 3, h => simp only [gw_gE_6, gw_gc]
    | 4, h => simp only [gw_gE_6, gw_gc, gw_up_n γ j v (show (0 : Nat) ≠ 4 by decide)]
    | 5, h => simp only [gw_gE_6, gw_gc, gw_up_n γ j v (show (1 : Nat) ≠ 4 by decide)]
    | 6, h => simp only [gw_gE_6, gw_gc]
    | 7, h => simp only [gw_gE_6, gw_gc]
    | 8, h => simp only [gw_gE_6, gw_gc]
    | 9, h => simp only [gw_gE_6, gw_gc, gw_up_n γ j v (show (2 : Nat) ≠ 4 by decide)]
    | 10, h => simp only [gw_gE_6, gw_gc, gw_up_n γ j v (show (3 : Nat) ≠ 4 by decide)]
    | 11, h => exact absurd rfl h
    | 12, h => simp only [gw_gE_6, gw_gc, gw_up_n γ j v (show (5 : Nat) ≠ 4 by decide)]
    | 13, h => simp only [gw_gE_6, gw_gc, gw_up_n γ j v (show (6 : Nat) ≠ 4 by decide)]
    | 14, h => simp only [gw_gE_6, gw_gc, gw_up_n γ j v (show (7 : Nat) ≠ 4 by decide)]
    | x + 15, h => simp only [gw_gE_6, if_neg (show ¬ x + 15 < 15 by omega)]
  | 7, h => simp only [gw_gE_7]
  | 8, h => simp only [gw_gE_8]
  | 9, h => simp only [gw_gE_9]
  | 10, h => simp only [gw_gE_10, gw_up_n γ j v (show (8 : Nat) ≠ 4 by decide)]
  | 11, h => simp only [gw_gE_11, gw_acc5]
  | 12, h => simp only [gw_gE_12, gw_app8]
  | 13, h => simp only [gw_gE_13]
  | 14, h => simp only [gw_gE_14]
  | 15, h => simp only [gw_gE_15, gw_ent]
  | k + 16, h => simp only [gw_gE_16]
theorem gw_fr6_12 {ca : Nat → ClassId} {es : Nat → Nat} {ad hd : Nat → Nat → Nat} {σ γ : gw_S} {ord : List Nat} {ν : Nat → Nat} {j : Nat} {v : Int32} : ∀ r : Nat × Nat, r ≠ (6, 12) → gw_gE ca es ad hd σ (gw_up γ 5 j v) ord ν r = gw_gE ca es ad hd σ γ ord ν r := by
  rintro ⟨k, x⟩ h
  match k, h with
  | 0, h => simp only [gw_gE_0, gw_root]
  | 1, h => simp only [gw_gE_1]
  | 2, h => simp only [gw_gE_2, gw_up_n γ j v (show (8 : Nat) ≠ 5 by decide)]
  | 3, h => simp only [gw_gE_3]
  | 4, h => simp only [gw_gE_4]
  | 5, h => simp only [gw_gE_5]
  | 6, h => 
    match x, h with
    | 0, h => simp only [gw_gE_6, gw_gc]
    | 1, h => simp only [gw_gE_6, gw_gc]
    | 2, h => simp only [gw_gE_6, gw_gc]
    | 3, h => simp only [gw_gE_6, gw_gc]
    | 4, h => simp only [gw_gE_6, gw_gc, gw_up_n γ j v (show (0 : Nat) ≠ 5 by decide)]
    | 5, h => simp only [gw_gE_6, gw_gc, gw_up_n γ j v (show (1 : Nat) ≠ 5 by decide)]
    | 6, h => simp only [gw_gE_6, gw_gc]
    | 7, h => simp only [gw_gE_6, gw_gc]
    | 8, h => simp only [gw_gE_6, gw_gc]
    | 9, h => simp only [gw_gE_6, gw_gc, gw_up_n γ j v (show (2 : Nat) ≠ 5 by decide)]
    | 10, h => simp only [gw_gE_6, gw_gc, gw_up_n γ j v (show (3 : Nat) ≠ 5 by decide)]
    | 11, h => simp only [gw_gE_6, gw_gc, gw_up_n γ j v (show (4 : Nat) ≠ 5 by decide)]
    | 12, h => exact absurd rfl h
    | 13, h => simp only [gw_gE_6, gw_gc, gw_up_n γ j v (show (6 : Nat) ≠ 5 by decide)]
    | 14, h => simp only [gw_gE_6, gw_gc, gw_up_n γ j v (show (7 : Nat) ≠ 5 by decide)]
    | x + 15, h => simp only [gw_gE_6, if_neg (show ¬ x + 15 < 15 by omega)]
  | 7, h => simp only [gw_gE_7]
  | 8, h => simp only [gw_gE_8]
  | 9, h => simp only [gw_gE_9]
  | 10, h => simp only [gw_gE_10, gw_up_n γ j v (show (8 : Nat) ≠ 5 by decide)]
  | 11, h => simp only [gw_gE_11, gw_acc5]
  | 12, h => simp only [gw_gE_12, gw_app8]
  | 13, h => simp only [gw_gE_13]
  | 14, h => simp only [gw_gE_14]
  | 15, h => simp only [gw_gE_15, gw_ent]
  | k + 16, h => simp only [gw_gE_16]
theorem gw_fr6_13 {ca : Nat → ClassId} {es : Nat → Nat} {ad hd : Nat → Nat → Nat} {σ γ : gw_S} {ord : List Nat} {ν : Nat → Nat} {j : Nat} {v : Int32} : ∀ r : Nat × Nat, r ≠ (6, 13) → gw_gE ca es ad hd σ (gw_up γ 6 j v) ord ν r = gw_gE ca es ad hd σ γ ord ν r := by
  rintro ⟨k, x⟩ h
  match k, h with
  | 0, h => simp only [gw_gE_0, gw_root]
  | 1, h => simp only [gw_gE_1]
  | 2, h => simp only [gw_gE_2, gw_up_n γ j v (show (8 : Nat) ≠ 6 by decide)]
  | 3, h => simp only [gw_gE_3]
  | 4, h => simp only [gw_gE_4]
  | 5, h => simp only [gw_gE_5]
  | 6, h => 
    match x, h with
    | 0, h => simp only [gw_gE_6, gw_gc]
    | 1, h => simp only [gw_gE_6, gw_gc]
    | 2, h => simp only [gw_gE_6, gw_gc]
    | 3, h => simp only [gw_gE_6, gw_gc]
    | 4, h => simp only [gw_gE_6, gw_gc, gw_up_n γ j v (show (0 : Nat) ≠ 6 by decide)]
    | 5, h => simp only [gw_gE_6, gw_gc, gw_up_n γ j v (show (1 : Nat) ≠ 6 by decide)]
    | 6, h => simp only [gw_gE_6, gw_gc]
    | 7, h => simp only [gw_gE_6, gw_gc]
    | 8, h => simp only [gw_gE_6, gw_gc]
    | 9, h => simp only [gw_gE_6, gw_gc, gw_up_n γ j v (show (2 : Nat) ≠ 6 by decide)]
    | 10, h => simp only [gw_gE_6, gw_gc, gw_up_n γ j v (show (3 : Nat) ≠ 6 by decide)]
    | 11, h => simp only [gw_gE_6, gw_gc, gw_up_n γ j v (show (4 : Nat) ≠ 6 by decide)]
    | 12, h => simp only [gw_gE_6, gw_gc, gw_up_n γ j v (show (5 : Nat) ≠ 6 by decide)]
    | 13, h => exact absurd rfl h
    | 14, h => simp only [gw_gE_6, gw_gc, gw_up_n γ j v (show (7 : Nat) ≠ 6 by decide)]
    | x + 15, h => simp only [gw_gE_6, if_neg (show ¬ x + 15 < 15 by omega)]
  | 7, h => simp only [gw_gE_7]
  | 8, h => simp only [gw_gE_8]
  | 9, h => simp only [gw_gE_9]
  | 10, h => simp only [gw_gE_10, gw_up_n γ j v (show (8 : Nat) ≠ 6 by decide)]
  | 11, h => simp only [gw_gE_11, gw_acc5]
  | 12, h => simp only [gw_gE_12, gw_app8]
  | 13, h => simp only [gw_gE_13]
  | 14, h => simp only [gw_gE_14]
  | 15, h => simp only [gw_gE_15, gw_ent]
  | k + 16, h => simp only [gw_gE_16]
theorem gw_fr6_14 {ca : Nat → ClassId} {es : Nat → Nat} {ad hd : Nat → Nat → Nat} {σ γ : gw_S} {ord : List Nat} {ν : Nat → Nat} {j : Nat} {v : Int32} : ∀ r : Nat × Nat, r ≠ (6, 14) → gw_gE ca es ad hd σ (gw_up γ 7 j v) ord ν r = gw_gE ca es ad hd σ γ ord ν r := by
  rintro ⟨k, x⟩ h
  match k, h with
  | 0, h => simp only [gw_gE_0, gw_root]
  | 1, h => simp only [gw_gE_1]
  | 2, h => simp only [gw_gE_2, gw_up_n γ j v (show (8 : Nat) ≠ 7 by decide)]
  | 3, h => simp only [gw_gE_3]
  | 4, h => simp only [gw_gE_4]
  | 5, h => simp only [gw_gE_5]
  | 6, h => 
    match x, h with
    | 0, h => simp only [gw_gE_6, gw_gc]
    | 1, h => simp only [gw_gE_6, gw_gc]
    | 2, h => simp only [gw_gE_6, gw_gc]
    | 3, h => simp only [gw_gE_6, gw_gc]
    | 4, h => simp only [gw_gE_6, gw_gc, gw_up_n γ j v (show (0 : Nat) ≠ 7 by decide)]
    | 5, h => simp only [gw_gE_6, gw_gc, gw_up_n γ j v (show (1 : Nat) ≠ 7 by decide)]
    | 6, h => simp only [gw_gE_6, gw_gc]
    | 7, h => simp only [gw_gE_6, gw_gc]
    | 8, h => simp only [gw_gE_6, gw_gc]
    | 9, h => simp only [gw_gE_6, gw_gc, gw_up_n γ j v (show (2 : Nat) ≠ 7 by decide)]
    | 10, h => simp only [gw_gE_6, gw_gc, gw_up_n γ j v (show (3 : Nat) ≠ 7 by decide)]
    | 11, h => simp only [gw_gE_6, gw_gc, gw_up_n γ j v (show (4 : Nat) ≠ 7 by decide)]
    | 12, h => simp only [gw_gE_6, gw_gc, gw_up_n γ j v (show (5 : Nat) ≠ 7 by decide)]
    | 13, h => simp only [gw_gE_6, gw_gc, gw_up_n γ j v (show (6 : Nat) ≠ 7 by decide)]
    | 14, h => exact absurd rfl h
    | x + 15, h => simp only [gw_gE_6, if_neg (show ¬ x + 15 < 15 by omega)]
  | 7, h => simp only [gw_gE_7]
  | 8, h => simp only [gw_gE_8]
  | 9, h => simp only [gw_gE_9]
  | 10, h => simp only [gw_gE_10, gw_up_n γ j v (show (8 : Nat) ≠ 7 by decide)]
  | 11, h => simp only [gw_gE_11, gw_acc5]
  | 12, h => simp only [gw_gE_12, gw_app8]
  | 13, h => simp only [gw_gE_13]
  | 14, h => simp only [gw_gE_14]
  | 15, h => simp only [gw_gE_15, gw_ent]
  | k + 16, h => simp only [gw_gE_16]
theorem gw_fr0_7 {ca : Nat → ClassId} {es : Nat → Nat} {ad hd : Nat → Nat → Nat} {σ γ : gw_S} {ord : List Nat} {ν : Nat → Nat} {v : Int32} : ∀ r : Nat × Nat, r ≠ (0, 0) → gw_gE ca es ad hd (gw_up σ 7 0 v) γ ord ν r = gw_gE ca es ad hd σ γ ord ν r := by
  rintro ⟨k, x⟩ h
  match k, h with
  | 0, h => 
    match x, h with
    | 0, h => exact absurd rfl h
    | x + 1, h => simp only [gw_gE_0, if_neg (show ¬ x + 1 = 0 by omega)]
  | 1, h => simp only [gw_gE_1, gw_up_n σ 0 v (show (2 : Nat) ≠ 7 by decide)]
  | 2, h => simp only [gw_gE_2]
  | 3, h => simp only [gw_gE_3]
  | 4, h => simp only [gw_gE_4]
  | 5, h => simp only [gw_gE_5]
  | 6, h => simp only [gw_gE_6, gw_gc_n σ γ (c := 7) (j := 0) (v := v) (by decide)]
  | 7, h => simp only [gw_gE_7]
  | 8, h => simp only [gw_gE_8]
  | 9, h => simp only [gw_gE_9]
  | 10, h => simp only [gw_gE_10]
  | 11, h => simp only [gw_gE_11, gw_acc5, gw_up_n σ 0 v (show (3 : Nat) ≠ 7 by decide), gw_up_n σ 0 v (show (4 : Nat) ≠ 7 by decide), gw_up_n σ 0 v (show (5 : Nat) ≠ 7 by decide), gw_up_n σ 0 v (show (6 : Nat) ≠ 7 by decide)]
  | 12, h => simp only [gw_gE_12, gw_app8, gw_up_n σ 0 v (show (16 : Nat) ≠ 7 by decide), gw_up_n σ 0 v (show (17 : Nat) ≠ 7 by decide), gw_up_n σ 0 v (show (18 : Nat) ≠ 7 by decide), gw_up_n σ 0 v (show (22 : Nat) ≠ 7 by decide), gw_up_n σ 0 v (show (20 : Nat) ≠ 7 by decide), gw_up_n σ 0 v (show (21 : Nat) ≠ 7 by decide), gw_up_n σ 0 v (show (23 : Nat) ≠ 7 by decide), gw_up_n σ 0 v (show (24 : Nat) ≠ 7 by decide)]
  | 13, h => simp only [gw_gE_13, gw_up_n σ 0 v (show (19 : Nat) ≠ 7 by decide)]
  | 14, h => simp only [gw_gE_14, gw_up_n σ 0 v (show (30 : Nat) ≠ 7 by decide)]
  | 15, h => simp only [gw_gE_15, gw_ent, gw_up_n σ 0 v (show (32 : Nat) ≠ 7 by decide), gw_up_n σ 0 v (show (33 : Nat) ≠ 7 by decide), gw_up_n σ 0 v (show (34 : Nat) ≠ 7 by decide), gw_up_n σ 0 v (show (35 : Nat) ≠ 7 by decide)]
  | k + 16, h => simp only [gw_gE_16]
theorem gw_fr0_1 {ca : Nat → ClassId} {es : Nat → Nat} {ad hd : Nat → Nat → Nat} {σ γ : gw_S} {ord : List Nat} {ν : Nat → Nat} {v : Int32} : ∀ r : Nat × Nat, r ≠ (0, 0) → gw_gE ca es ad hd (gw_up σ 1 0 v) γ ord ν r = gw_gE ca es ad hd σ γ ord ν r := by
  rintro ⟨k, x⟩ h
  match k, h with
  | 0, h => 
    match x, h with
    | 0, h => exact absurd rfl h
    | x + 1, h => simp only [gw_gE_0, if_neg (show ¬ x + 1 = 0 by omega)]
  | 1, h => simp only [gw_gE_1, gw_up_n σ 0 v (show (2 : Nat) ≠ 1 by decide)]
  | 2, h => simp only [gw_gE_2]
  | 3, h => simp only [gw_gE_3]
  | 4, h => simp only [gw_gE_4]
  | 5, h => simp only [gw_gE_5]
  | 6, h => simp only [gw_gE_6, gw_gc_n σ γ (c := 1) (j := 0) (v := v) (by decide)]
  | 7, h => simp only [gw_gE_7]
  | 8, h => simp only [gw_gE_8]
  | 9, h => simp only [gw_gE_9]
  | 10, h => simp only [gw_gE_10]
  | 11, h => simp only [gw_gE_11, gw_acc5, gw_up_n σ 0 v (show (3 : Nat) ≠ 1 by decide), gw_up_n σ 0 v (show (4 : Nat) ≠ 1 by decide), gw_up_n σ 0 v (show (5 : Nat) ≠ 1 by decide), gw_up_n σ 0 v (show (6 : Nat) ≠ 1 by decide)]
  | 12, h => simp only [gw_gE_12, gw_app8, gw_up_n σ 0 v (show (16 : Nat) ≠ 1 by decide), gw_up_n σ 0 v (show (17 : Nat) ≠ 1 by decide), gw_up_n σ 0 v (show (18 : Nat) ≠ 1 by decide), gw_up_n σ 0 v (show (22 : Nat) ≠ 1 by decide), gw_up_n σ 0 v (show (20 : Nat) ≠ 1 by decide), gw_up_n σ 0 v (show (21 : Nat) ≠ 1 by decide), gw_up_n σ 0 v (show (23 : Nat) ≠ 1 by decide), gw_up_n σ 0 v (show (24 : Nat) ≠ 1 by decide)]
  | 13, h => simp only [gw_gE_13, gw_up_n σ 0 v (show (19 : Nat) ≠ 1 by decide)]
  | 14, h => simp only [gw_gE_14, gw_up_n σ 0 v (show (30 : Nat) ≠ 1 by decide)]
  | 15, h => simp only [gw_gE_15, gw_ent, gw_up_n σ 0 v (show (32 : Nat) ≠ 1 by decide), gw_up_n σ 0 v (show (33 : Nat) ≠ 1 by decide), gw_up_n σ 0 v (show (34 : Nat) ≠ 1 by decide), gw_up_n σ 0 v (show (35 : Nat) ≠ 1 by decide)]
  | k + 16, h => simp only [gw_gE_16]
theorem gw_fr0_25 {ca : Nat → ClassId} {es : Nat → Nat} {ad hd : Nat → Nat → Nat} {σ γ : gw_S} {ord : List Nat} {ν : Nat → Nat} {v : Int32} : ∀ r : Nat × Nat, r ≠ (0, 0) → gw_gE ca es ad hd (gw_up σ 25 0 v) γ ord ν r = gw_gE ca es ad hd σ γ ord ν r := by
  rintro ⟨k, x⟩ h
  match k, h with
  | 0, h => 
    match x, h with
    | 0, h => exact absurd rfl h
    | x + 1, h => simp only [gw_gE_0, if_neg (show ¬ x + 1 = 0 by omega)]
  | 1, h => simp only [gw_gE_1, gw_up_n σ 0 v (show (2 : Nat) ≠ 25 by decide)]
  | 2, h => simp only [gw_gE_2]
  | 3, h => simp only [gw_gE_3]
  | 4, h => simp only [gw_gE_4]
  | 5, h => simp only [gw_gE_5]
  | 6, h => simp only [gw_gE_6, gw_gc_n σ γ (c := 25) (j := 0) (v := v) (by decide)]
  | 7, h => simp only [gw_gE_7]
  | 8, h => simp only [gw_gE_8]
  | 9, h => simp only [gw_gE_9]
  | 10, h => simp only [gw_gE_10]
  | 11, h => simp only [gw_gE_11, gw_acc5, gw_up_n σ 0 v (show (3 : Nat) ≠ 25 by decide), gw_up_n σ 0 v (show (4 : Nat) ≠ 25 by decide), gw_up_n σ 0 v (show (5 : Nat) ≠ 25 by decide), gw_up_n σ 0 v (show (6 : Nat) ≠ 25 by decide)]
  | 12, h => simp only [gw_gE_12, gw_app8, gw_up_n σ 0 v (show (16 : Nat) ≠ 25 by decide), gw_up_n σ 0 v (show (17 : Nat) ≠ 25 by decide), gw_up_n σ 0 v (show (18 : Nat) ≠ 25 by decide), gw_up_n σ 0 v (show (22 : Nat) ≠ 25 by decide), gw_up_n σ 0 v (show (20 : Nat) ≠ 25 by decide), gw_up_n σ 0 v (show (21 : Nat) ≠ 25 by decide), gw_up_n σ 0 v (show (23 : Nat) ≠ 25 by decide), gw_up_n σ 0 v (show (24 : Nat) ≠ 25 by decide)]
  | 13, h => simp only [gw_gE_13, gw_up_n σ 0 v (show (19 : Nat) ≠ 25 by decide)]
  | 14, h => simp only [gw_gE_14, gw_up_n σ 0 v (show (30 : Nat) ≠ 25 by decide)]
  | 15, h => simp only [gw_gE_15, gw_ent, gw_up_n σ 0 v (show (32 : Nat) ≠ 25 by decide), gw_up_n σ 0 v (show (33 : Nat) ≠ 25 by decide), gw_up_n σ 0 v (show (34 : Nat) ≠ 25 by decide), gw_up_n σ 0 v (show (35 : Nat) ≠ 25 by decide)]
  | k + 16, h => simp only [gw_gE_16]
theorem gw_fr0_15 {ca : Nat → ClassId} {es : Nat → Nat} {ad hd : Nat → Nat → Nat} {σ γ : gw_S} {ord : List Nat} {ν : Nat → Nat} {v : Int32} : ∀ r : Nat × Nat, r ≠ (0, 0) → gw_gE ca es ad hd (gw_up σ 15 0 v) γ ord ν r = gw_gE ca es ad hd σ γ ord ν r := by
  rintro ⟨k, x⟩ h
  match k, h with
  | 0, h => 
    match x, h with
    | 0, h => exact absurd rfl h
    | x + 1, h => simp only [gw_gE_0, if_neg (show ¬ x + 1 = 0 by omega)]
  | 1, h => simp only [gw_gE_1, gw_up_n σ 0 v (show (2 : Nat) ≠ 15 by decide)]
  | 2, h => simp only [gw_gE_2]
  | 3, h => simp only [gw_gE_3]
  | 4, h => simp only [gw_gE_4]
  | 5, h => simp only [gw_gE_5]
  | 6, h => simp only [gw_gE_6, gw_gc_n σ γ (c := 15) (j := 0) (v := v) (by decide)]
  | 7, h => simp only [gw_gE_7]
  | 8, h => simp only [gw_gE_8]
  | 9, h => simp only [gw_gE_9]
  | 10, h => simp only [gw_gE_10]
  | 11, h => simp only [gw_gE_11, gw_acc5, gw_up_n σ 0 v (show (3 : Nat) ≠ 15 by decide), gw_up_n σ 0 v (show (4 : Nat) ≠ 15 by decide), gw_up_n σ 0 v (show (5 : Nat) ≠ 15 by decide), gw_up_n σ 0 v (show (6 : Nat) ≠ 15 by decide)]
  | 12, h => simp only [gw_gE_12, gw_app8, gw_up_n σ 0 v (show (16 : Nat) ≠ 15 by decide), gw_up_n σ 0 v (show (17 : Nat) ≠ 15 by decide), gw_up_n σ 0 v (show (18 : Nat) ≠ 15 by decide), gw_up_n σ 0 v (show (22 : Nat) ≠ 15 by decide), gw_up_n σ 0 v (show (20 : Nat) ≠ 15 by decide), gw_up_n σ 0 v (show (21 : Nat) ≠ 15 by decide), gw_up_n σ 0 v (show (23 : Nat) ≠ 15 by decide), gw_up_n σ 0 v (show (24 : Nat) ≠ 15 by decide)]
  | 13, h => simp only [gw_gE_13, gw_up_n σ 0 v (show (19 : Nat) ≠ 15 by decide)]
  | 14, h => simp only [gw_gE_14, gw_up_n σ 0 v (show (30 : Nat) ≠ 15 by decide)]
  | 15, h => simp only [gw_gE_15, gw_ent, gw_up_n σ 0 v (show (32 : Nat) ≠ 15 by decide), gw_up_n σ 0 v (show (33 : Nat) ≠ 15 by decide), gw_up_n σ 0 v (show (34 : Nat) ≠ 15 by decide), gw_up_n σ 0 v (show (35 : Nat) ≠ 15 by decide)]
  | k + 16, h => simp only [gw_gE_16]
theorem gw_fr0_31 {ca : Nat → ClassId} {es : Nat → Nat} {ad hd : Nat → Nat → Nat} {σ γ : gw_S} {ord : List Nat} {ν : Nat → Nat} {v : Int32} : ∀ r : Nat × Nat, r ≠ (0, 0) → gw_gE ca es ad hd (gw_up σ 31 0 v) γ ord ν r = gw_gE ca es ad hd σ γ ord ν r := by
  rintro ⟨k, x⟩ h
  match k, h with
  | 0, h => 
    match x, h with
    | 0, h => exact absurd rfl h
    | x + 1, h => simp only [gw_gE_0, if_neg (show ¬ x + 1 = 0 by omega)]
  | 1, h => simp only [gw_gE_1, gw_up_n σ 0 v (show (2 : Nat) ≠ 31 by decide)]
  | 2, h => simp only [gw_gE_2]
  | 3, h => simp only [gw_gE_3]
  | 4, h => simp only [gw_gE_4]
  | 5, h => simp only [gw_gE_5]
  | 6, h => simp only [gw_gE_6, gw_gc_n σ γ (c := 31) (j := 0) (v := v) (by decide)]
  | 7, h => simp only [gw_gE_7]
  | 8, h => simp only [gw_gE_8]
  | 9, h => simp only [gw_gE_9]
  | 10, h => simp only [gw_gE_10]
  | 11, h => simp only [gw_gE_11, gw_acc5, gw_up_n σ 0 v (show (3 : Nat) ≠ 31 by decide), gw_up_n σ 0 v (show (4 : Nat) ≠ 31 by decide), gw_up_n σ 0 v (show (5 : Nat) ≠ 31 by decide), gw_up_n σ 0 v (show (6 : Nat) ≠ 31 by decide)]
  | 12, h => simp only [gw_gE_12, gw_app8, gw_up_n σ 0 v (show (16 : Nat) ≠ 31 by decide), gw_up_n σ 0 v (show (17 : Nat) ≠ 31 by decide), gw_up_n σ 0 v (show (18 : Nat) ≠ 31 by decide), gw_up_n σ 0 v (show (22 : Nat) ≠ 31 by decide), gw_up_n σ 0 v (show (20 : Nat) ≠ 31 by decide), gw_up_n σ 0 v (show (21 : Nat) ≠ 31 by decide), gw_up_n σ 0 v (show (23 : Nat) ≠ 31 by decide), gw_up_n σ 0 v (show (24 : Nat) ≠ 31 by decide)]
  | 13, h => simp only [gw_gE_13, gw_up_n σ 0 v (show (19 : Nat) ≠ 31 by decide)]
  | 14, h => simp only [gw_gE_14, gw_up_n σ 0 v (show (30 : Nat) ≠ 31 by decide)]
  | 15, h => simp only [gw_gE_15, gw_ent, gw_up_n σ 0 v (show (32 : Nat) ≠ 31 by decide), gw_up_n σ 0 v (show (33 : Nat) ≠ 31 by decide), gw_up_n σ 0 v (show (34 : Nat) ≠ 31 by decide), gw_up_n σ 0 v (show (35 : Nat) ≠ 31 by decide)]
  | k + 16, h => simp only [gw_gE_16]
theorem gw_app8_16 {es : Nat → Nat} {ad : Nat → Nat → Nat} {σ : gw_S} {j x : Nat} {v : Int32} (hx : ¬ x = j) : gw_app8 es ad (gw_up σ 16 j v) x = gw_app8 es ad σ x := by
  have e : (gw_up σ 16 j v) 16 x = σ 16 x := by rw [gw_up_s]; simp only [upd]; rw [if_neg hx]
  unfold gw_app8
  rw [e, gw_up_n σ j v (show (17 : Nat) ≠ 16 by decide), gw_up_n σ j v (show (18 : Nat) ≠ 16 by decide), gw_up_n σ j v (show (20 : Nat) ≠ 16 by decide), gw_up_n σ j v (show (21 : Nat) ≠ 16 by decide), gw_up_n σ j v (show (22 : Nat) ≠ 16 by decide), gw_up_n σ j v (show (23 : Nat) ≠ 16 by decide), gw_up_n σ j v (show (24 : Nat) ≠ 16 by decide)]
theorem gw_fr12_16 {ca : Nat → ClassId} {es : Nat → Nat} {ad hd : Nat → Nat → Nat} {σ γ : gw_S} {ord : List Nat} {ν : Nat → Nat} {j : Nat} {v : Int32} : ∀ r : Nat × Nat, r ≠ (12, j) → gw_gE ca es ad hd (gw_up σ 16 j v) γ ord ν r = gw_gE ca es ad hd σ γ ord ν r := by
  rintro ⟨k, x⟩ h
  match k, h with
  | 0, h => simp only [gw_gE_0, gw_root, gw_up_n σ j v (show (31 : Nat) ≠ 16 by decide), gw_up_n σ j v (show (7 : Nat) ≠ 16 by decide), gw_up_n σ j v (show (15 : Nat) ≠ 16 by decide), gw_up_n σ j v (show (1 : Nat) ≠ 16 by decide), gw_up_n σ j v (show (25 : Nat) ≠ 16 by decide)]
  | 1, h => simp only [gw_gE_1, gw_up_n σ j v (show (2 : Nat) ≠ 16 by decide)]
  | 2, h => simp only [gw_gE_2]
  | 3, h => simp only [gw_gE_3]
  | 4, h => simp only [gw_gE_4]
  | 5, h => simp only [gw_gE_5]
  | 6, h => simp only [gw_gE_6, gw_gc_n σ γ (c := 16) (j := j) (v := v) (by decide)]
  | 7, h => simp only [gw_gE_7]
  | 8, h => simp only [gw_gE_8]
  | 9, h => simp only [gw_gE_9]
  | 10, h => simp only [gw_gE_10]
  | 11, h => simp only [gw_gE_11, gw_acc5, gw_up_n σ j v (show (3 : Nat) ≠ 16 by decide), gw_up_n σ j v (show (4 : Nat) ≠ 16 by decide), gw_up_n σ j v (show (5 : Nat) ≠ 16 by decide), gw_up_n σ j v (show (6 : Nat) ≠ 16 by decide)]
  | 12, h => 
    by_cases hx : x = j
    · subst hx; exact absurd rfl h
    · exact congrArg (fun L => if x < ν 3 then some (Sum.inr (7, L)) else none) (gw_app8_16 hx)
  | 13, h => simp only [gw_gE_13, gw_up_n σ j v (show (19 : Nat) ≠ 16 by decide)]
  | 14, h => simp only [gw_gE_14, gw_up_n σ j v (show (30 : Nat) ≠ 16 by decide)]
  | 15, h => simp only [gw_gE_15, gw_ent, gw_up_n σ j v (show (32 : Nat) ≠ 16 by decide), gw_up_n σ j v (show (33 : Nat) ≠ 16 by decide), gw_up_n σ j v (show (34 : Nat) ≠ 16 by decide), gw_up_n σ j v (show (35 : Nat) ≠ 16 by decide)]
  | k + 16, h => simp only [gw_gE_16]
theorem gw_app8_17 {es : Nat → Nat} {ad : Nat → Nat → Nat} {σ : gw_S} {j x : Nat} {v : Int32} (hx : ¬ x = j) : gw_app8 es ad (gw_up σ 17 j v) x = gw_app8 es ad σ x := by
  have e : (gw_up σ 17 j v) 17 x = σ 17 x := by rw [gw_up_s]; simp only [upd]; rw [if_neg hx]
  unfold gw_app8
  rw [e, gw_up_n σ j v (show (16 : Nat) ≠ 17 by decide), gw_up_n σ j v (show (18 : Nat) ≠ 17 by decide), gw_up_n σ j v (show (20 : Nat) ≠ 17 by decide), gw_up_n σ j v (show (21 : Nat) ≠ 17 by decide), gw_up_n σ j v (show (22 : Nat) ≠ 17 by decide), gw_up_n σ j v (show (23 : Nat) ≠ 17 by decide), gw_up_n σ j v (show (24 : Nat) ≠ 17 by decide)]
theorem gw_fr12_17 {ca : Nat → ClassId} {es : Nat → Nat} {ad hd : Nat → Nat → Nat} {σ γ : gw_S} {ord : List Nat} {ν : Nat → Nat} {j : Nat} {v : Int32} : ∀ r : Nat × Nat, r ≠ (12, j) → gw_gE ca es ad hd (gw_up σ 17 j v) γ ord ν r = gw_gE ca es ad hd σ γ ord ν r := by
  rintro ⟨k, x⟩ h
  match k, h with
  | 0, h => simp only [gw_gE_0, gw_root, gw_up_n σ j v (show (31 : Nat) ≠ 17 by decide), gw_up_n σ j v (show (7 : Nat) ≠ 17 by decide), gw_up_n σ j v (show (15 : Nat) ≠ 17 by decide), gw_up_n σ j v (show (1 : Nat) ≠ 17 by decide), gw_up_n σ j v (show (25 : Nat) ≠ 17 by decide)]
  | 1, h => simp only [gw_gE_1, gw_up_n σ j v (show (2 : Nat) ≠ 17 by decide)]
  | 2, h => simp only [gw_gE_2]
  | 3, h => simp only [gw_gE_3]
  | 4, h => simp only [gw_gE_4]
  | 5, h => simp only [gw_gE_5]
  | 6, h => simp only [gw_gE_6, gw_gc_n σ γ (c := 17) (j := j) (v := v) (by decide)]
  | 7, h => simp only [gw_gE_7]
  | 8, h => simp only [gw_gE_8]
  | 9, h => simp only [gw_gE_9]
  | 10, h => simp only [gw_gE_10]
  | 11, h => simp only [gw_gE_11, gw_acc5, gw_up_n σ j v (show (3 : Nat) ≠ 17 by decide), gw_up_n σ j v (show (4 : Nat) ≠ 17 by decide), gw_up_n σ j v (show (5 : Nat) ≠ 17 by decide), gw_up_n σ j v (show (6 : Nat) ≠ 17 by decide)]
  | 12, h => 
    by_cases hx : x = j
    · subst hx; exact absurd rfl h
    · exact congrArg (fun L => if x < ν 3 then some (Sum.inr (7, L)) else none) (gw_app8_17 hx)
  | 13, h => simp only [gw_gE_13, gw_up_n σ j v (show (19 : Nat) ≠ 17 by decide)]
  | 14, h => simp only [gw_gE_14, gw_up_n σ j v (show (30 : Nat) ≠ 17 by decide)]
  | 15, h => simp only [gw_gE_15, gw_ent, gw_up_n σ j v (show (32 : Nat) ≠ 17 by decide), gw_up_n σ j v (show (33 : Nat) ≠ 17 by decide), gw_up_n σ j v (show (34 : Nat) ≠ 17 by decide), gw_up_n σ j v (show (35 : Nat) ≠ 17 by decide)]
  | k + 16, h => simp only [gw_gE_16]
theorem gw_app8_18 {es : Nat → Nat} {ad : Nat → Nat → Nat} {σ : gw_S} {j x : Nat} {v : Int32} (hx : ¬ x = j) : gw_app8 es ad (gw_up σ 18 j v) x = gw_app8 es ad σ x := by
  have e : (gw_up σ 18 j v) 18 x = σ 18 x := by rw [gw_up_s]; simp only [upd]; rw [if_neg hx]
  unfold gw_app8
  rw [e, gw_up_n σ j v (show (16 : Nat) ≠ 18 by decide), gw_up_n σ j v (show (17 : Nat) ≠ 18 by decide), gw_up_n σ j v (show (20 : Nat) ≠ 18 by decide), gw_up_n σ j v (show (21 : Nat) ≠ 18 by decide), gw_up_n σ j v (show (22 : Nat) ≠ 18 by decide), gw_up_n σ j v (show (23 : Nat) ≠ 18 by decide), gw_up_n σ j v (show (24 : Nat) ≠ 18 by decide)]
theorem gw_fr12_18 {ca : Nat → ClassId} {es : Nat → Nat} {ad hd : Nat → Nat → Nat} {σ γ : gw_S} {ord : List Nat} {ν : Nat → Nat} {j : Nat} {v : Int32} : ∀ r : Nat × Nat, r ≠ (12, j) → gw_gE ca es ad hd (gw_up σ 18 j v) γ ord ν r = gw_gE ca es ad hd σ γ ord ν r := by
  rintro ⟨k, x⟩ h
  match k, h with
  | 0, h => simp only [gw_gE_0, gw_root, gw_up_n σ j v (show (31 : Nat) ≠ 18 by decide), gw_up_n σ j v (show (7 : Nat) ≠ 18 by decide), gw_up_n σ j v (show (15 : Nat) ≠ 18 by decide), gw_up_n σ j v (show (1 : Nat) ≠ 18 by decide), gw_up_n σ j v (show (25 : Nat) ≠ 18 by decide)]
  | 1, h => simp only [gw_gE_1, gw_up_n σ j v (show (2 : Nat) ≠ 18 by decide)]
  | 2, h => simp only [gw_gE_2]
  | 3, h => simp only [gw_gE_3]
  | 4, h => simp only [gw_gE_4]
  | 5, h => simp only [gw_gE_5]
  | 6, h => simp only [gw_gE_6, gw_gc_n σ γ (c := 18) (j := j) (v := v) (by decide)]
  | 7, h => simp only [gw_gE_7]
  | 8, h => simp only [gw_gE_8]
  | 9, h => simp only [gw_gE_9]
  | 10, h => simp only [gw_gE_10]
  | 11, h => simp only [gw_gE_11, gw_acc5, gw_up_n σ j v (show (3 : Nat) ≠ 18 by decide), gw_up_n σ j v (show (4 : Nat) ≠ 18 by decide), gw_up_n σ j v (show (5 : Nat) ≠ 18 by decide), gw_up_n σ j v (show (6 : Nat) ≠ 18 by decide)]
  | 12, h => 
    by_cases hx : x = j
    · subst hx; exact absurd rfl h
    · exact congrArg (fun L => if x < ν 3 then some (Sum.inr (7, L)) else none) (gw_app8_18 hx)
  | 13, h => simp only [gw_gE_13, gw_up_n σ j v (show (19 : Nat) ≠ 18 by decide)]
  | 14, h => simp only [gw_gE_14, gw_up_n σ j v (show (30 : Nat) ≠ 18 by decide)]
  | 15, h => simp only [gw_gE_15, gw_ent, gw_up_n σ j v (show (32 : Nat) ≠ 18 by decide), gw_up_n σ j v (show (33 : Nat) ≠ 18 by decide), gw_up_n σ j v (show (34 : Nat) ≠ 18 by decide), gw_up_n σ j v (show (35 : Nat) ≠ 18 by decide)]
  | k + 16, h => simp only [gw_gE_16]
theorem gw_app8_20 {es : Nat → Nat} {ad : Nat → Nat → Nat} {σ : gw_S} {j x : Nat} {v : Int32} (hx : ¬ x = j) : gw_app8 es ad (gw_up σ 20 j v) x = gw_app8 es ad σ x := by
  have e : (gw_up σ 20 j v) 20 x = σ 20 x := by rw [gw_up_s]; simp only [upd]; rw [if_neg hx]
  unfold gw_app8
  rw [e, gw_up_n σ j v (show (16 : Nat) ≠ 20 by decide), gw_up_n σ j v (show (17 : Nat) ≠ 20 by decide), gw_up_n σ j v (show (18 : Nat) ≠ 20 by decide), gw_up_n σ j v (show (21 : Nat) ≠ 20 by decide), gw_up_n σ j v (show (22 : Nat) ≠ 20 by decide), gw_up_n σ j v (show (23 : Nat) ≠ 20 by decide), gw_up_n σ j v (show (24 : Nat) ≠ 20 by decide)]
theorem gw_fr12_20 {ca : Nat → ClassId} {es : Nat → Nat} {ad hd : Nat → Nat → Nat} {σ γ : gw_S} {ord : List Nat} {ν : Nat → Nat} {j : Nat} {v : Int32} : ∀ r : Nat × Nat, r ≠ (12, j) → gw_gE ca es ad hd (gw_up σ 20 j v) γ ord ν r = gw_gE ca es ad hd σ γ ord ν r := by
  rintro ⟨k, x⟩ h
  match k, h with
  | 0, h => simp only [gw_gE_0, gw_root, gw_up_n σ j v (show (31 : Nat) ≠ 20 by decide), gw_up_n σ j v (show (7 : Nat) ≠ 20 by decide), gw_up_n σ j v (show (15 : Nat) ≠ 20 by decide), gw_up_n σ j v (show (1 : Nat) ≠ 20 by decide), gw_up_n σ j v (show (25 : Nat) ≠ 20 by decide)]
  | 1, h => simp only [gw_gE_1, gw_up_n σ j v (show (2 : Nat) ≠ 20 by decide)]
  | 2, h => simp only [gw_gE_2]
  | 3, h => simp only [gw_gE_3]
  | 4, h => simp only [gw_gE_4]
  | 5, h => simp only [gw_gE_5]
  | 6, h => simp only [gw_gE_6, gw_gc_n σ γ (c := 20) (j := j) (v := v) (by decide)]
  | 7, h => simp only [gw_gE_7]
  | 8, h => simp only [gw_gE_8]
  | 9, h => simp only [gw_gE_9]
  | 10, h => simp only [gw_gE_10]
  | 11, h => simp only [gw_gE_11, gw_acc5, gw_up_n σ j v (show (3 : Nat) ≠ 20 by decide), gw_up_n σ j v (show (4 : Nat) ≠ 20 by decide), gw_up_n σ j v (show (5 : Nat) ≠ 20 by decide), gw_up_n σ j v (show (6 : Nat) ≠ 20 by decide)]
  | 12, h => 
    by_cases hx : x = j
    · subst hx; exact absurd rfl h
    · exact congrArg (fun L => if x < ν 3 then some (Sum.inr (7, L)) else none) (gw_app8_20 hx)
  | 13, h => simp only [gw_gE_13, gw_up_n σ j v (show (19 : Nat) ≠ 20 by decide)]
  | 14, h => simp only [gw_gE_14, gw_up_n σ j v (show (30 : Nat) ≠ 20 by decide)]
  | 15, h => simp only [gw_gE_15, gw_ent, gw_up_n σ j v (show (32 : Nat) ≠ 20 by decide), gw_up_n σ j v (show (33 : Nat) ≠ 20 by decide), gw_up_n σ j v (show (34 : Nat) ≠ 20 by decide), gw_up_n σ j v (show (35 : Nat) ≠ 20 by decide)]
  | k + 16, h => simp only [gw_gE_16]
theorem gw_app8_21 {es : Nat → Nat} {ad : Nat → Nat → Nat} {σ : gw_S} {j x : Nat} {v : Int32} (hx : ¬ x = j) : gw_app8 es ad (gw_up σ 21 j v) x = gw_app8 es ad σ x := by
  have e : (gw_up σ 21 j v) 21 x = σ 21 x := by rw [gw_up_s]; simp only [upd]; rw [if_neg hx]
  unfold gw_app8
  rw [e, gw_up_n σ j v (show (16 : Nat) ≠ 21 by decide), gw_up_n σ j v (show (17 : Nat) ≠ 21 by decide), gw_up_n σ j v (show (18 : Nat) ≠ 21 by decide), gw_up_n σ j v (show (20 : Nat) ≠ 21 by decide), gw_up_n σ j v (show (22 : Nat) ≠ 21 by decide), gw_up_n σ j v (show (23 : Nat) ≠ 21 by decide), gw_up_n σ j v (show (24 : Nat) ≠ 21 by decide)]
theorem gw_fr12_21 {ca : Nat → ClassId} {es : Nat → Nat} {ad hd : Nat → Nat → Nat} {σ γ : gw_S} {ord : List Nat} {ν : Nat → Nat} {j : Nat} {v : Int32} : ∀ r : Nat × Nat, r ≠ (12, j) → gw_gE ca es ad hd (gw_up σ 21 j v) γ ord ν r = gw_gE ca es ad hd σ γ ord ν r := by
  rintro ⟨k, x⟩ h
  match k, h with
  | 0, h => simp only [gw_gE_0, gw_root, gw_up_n σ j v (show (31 : Nat) ≠ 21 by decide), gw_up_n σ j v (show (7 : Nat) ≠ 21 by decide), gw_up_n σ j v (show (15 : Nat) ≠ 21 by decide), gw_up_n σ j v (show (1 : Nat) ≠ 21 by decide), gw_up_n σ j v (show (25 : Nat) ≠ 21 by decide)]
  | 1, h => simp only [gw_gE_1, gw_up_n σ j v (show (2 : Nat) ≠ 21 by decide)]
  | 2, h => simp only [gw_gE_2]
  | 3, h => simp only [gw_gE_3]
  | 4, h => simp only [gw_gE_4]
  | 5, h => simp only [gw_gE_5]
  | 6, h => simp only [gw_gE_6, gw_gc_n σ γ (c := 21) (j := j) (v := v) (by decide)]
  | 7, h => simp only [gw_gE_7]
  | 8, h => simp only [gw_gE_8]
  | 9, h => simp only [gw_gE_9]
  | 10, h => simp only [gw_gE_10]
  | 11, h => simp only [gw_gE_11, gw_acc5, gw_up_n σ j v (show (3 : Nat) ≠ 21 by decide), gw_up_n σ j v (show (4 : Nat) ≠ 21 by decide), gw_up_n σ j v (show (5 : Nat) ≠ 21 by decide), gw_up_n σ j v (show (6 : Nat) ≠ 21 by decide)]
  | 12, h => 
    by_cases hx : x = j
    · subst hx; exact absurd rfl h
    · exact congrArg (fun L => if x < ν 3 then some (Sum.inr (7, L)) else none) (gw_app8_21 hx)
  | 13, h => simp only [gw_gE_13, gw_up_n σ j v (show (19 : Nat) ≠ 21 by decide)]
  | 14, h => simp only [gw_gE_14, gw_up_n σ j v (show (30 : Nat) ≠ 21 by decide)]
  | 15, h => simp only [gw_gE_15, gw_ent, gw_up_n σ j v (show (32 : Nat) ≠ 21 by decide), gw_up_n σ j v (show (33 : Nat) ≠ 21 by decide), gw_up_n σ j v (show (34 : Nat) ≠ 21 by decide), gw_up_n σ j v (show (35 : Nat) ≠ 21 by decide)]
  | k + 16, h => simp only [gw_gE_16]
theorem gw_app8_22 {es : Nat → Nat} {ad : Nat → Nat → Nat} {σ : gw_S} {j x : Nat} {v : Int32} (hx : ¬ x = j) : gw_app8 es ad (gw_up σ 22 j v) x = gw_app8 es ad σ x := by
  have e : (gw_up σ 22 j v) 22 x = σ 22 x := by rw [gw_up_s]; simp only [upd]; rw [if_neg hx]
  unfold gw_app8
  rw [e, gw_up_n σ j v (show (16 : Nat) ≠ 22 by decide), gw_up_n σ j v (show (17 : Nat) ≠ 22 by decide), gw_up_n σ j v (show (18 : Nat) ≠ 22 by decide), gw_up_n σ j v (show (20 : Nat) ≠ 22 by decide), gw_up_n σ j v (show (21 : Nat) ≠ 22 by decide), gw_up_n σ j v (show (23 : Nat) ≠ 22 by decide), gw_up_n σ j v (show (24 : Nat) ≠ 22 by decide)]
theorem gw_fr12_22 {ca : Nat → ClassId} {es : Nat → Nat} {ad hd : Nat → Nat → Nat} {σ γ : gw_S} {ord : List Nat} {ν : Nat → Nat} {j : Nat} {v : Int32} : ∀ r : Nat × Nat, r ≠ (12, j) → gw_gE ca es ad hd (gw_up σ 22 j v) γ ord ν r = gw_gE ca es ad hd σ γ ord ν r := by
  rintro ⟨k, x⟩ h
  match k, h with
  | 0, h => simp only [gw_gE_0, gw_root, gw_up_n σ j v (show (31 : Nat) ≠ 22 by decide), gw_up_n σ j v (show (7 : Nat) ≠ 22 by decide), gw_up_n σ j v (show (15 : Nat) ≠ 22 by decide), gw_up_n σ j v (show (1 : Nat) ≠ 22 by decide), gw_up_n σ j v (show (25 : Nat) ≠ 22 by decide)]
  | 1, h => simp only [gw_gE_1, gw_up_n σ j v (show (2 : Nat) ≠ 22 by decide)]
  | 2, h => simp only [gw_gE_2]
  | 3, h => simp only [gw_gE_3]
  | 4, h => simp only [gw_gE_4]
  | 5, h => simp only [gw_gE_5]
  | 6, h => simp only [gw_gE_6, gw_gc_n σ γ (c := 22) (j := j) (v := v) (by decide)]
  | 7, h => simp only [gw_gE_7]
  | 8, h => simp only [gw_gE_8]
  | 9, h => simp only [gw_gE_9]
  | 10, h => simp only [gw_gE_10]
  | 11, h => simp only [gw_gE_11, gw_acc5, gw_up_n σ j v (show (3 : Nat) ≠ 22 by decide), gw_up_n σ j v (show (4 : Nat) ≠ 22 by decide), gw_up_n σ j v (show (5 : Nat) ≠ 22 by decide), gw_up_n σ j v (show (6 : Nat) ≠ 22 by decide)]
  | 12, h => 
    by_cases hx : x = j
    · subst hx; exact absurd rfl h
    · exact congrArg (fun L => if x < ν 3 then some (Sum.inr (7, L)) else none) (gw_app8_22 hx)
  | 13, h => simp only [gw_gE_13, gw_up_n σ j v (show (19 : Nat) ≠ 22 by decide)]
  | 14, h => simp only [gw_gE_14, gw_up_n σ j v (show (30 : Nat) ≠ 22 by decide)]
  | 15, h => simp only [gw_gE_15, gw_ent, gw_up_n σ j v (show (32 : Nat) ≠ 22 by decide), gw_up_n σ j v (show (33 : Nat) ≠ 22 by decide), gw_up_n σ j v (show (34 : Nat) ≠ 22 by decide), gw_up_n σ j v (show (35 : Nat) ≠ 22 by decide)]
  | k + 16, h => simp only [gw_gE_16]
theorem gw_app8_23 {es : Nat → Nat} {ad : Nat → Nat → Nat} {σ : gw_S} {j x : Nat} {v : Int32} (hx : ¬ x = j) : gw_app8 es ad (gw_up σ 23 j v) x = gw_app8 es ad σ x := by
  have e : (gw_up σ 23 j v) 23 x = σ 23 x := by rw [gw_up_s]; simp only [upd]; rw [if_neg hx]
  unfold gw_app8
  rw [e, gw_up_n σ j v (show (16 : Nat) ≠ 23 by decide), gw_up_n σ j v (show (17 : Nat) ≠ 23 by decide), gw_up_n σ j v (show (18 : Nat) ≠ 23 by decide), gw_up_n σ j v (show (20 : Nat) ≠ 23 by decide), gw_up_n σ j v (show (21 : Nat) ≠ 23 by decide), gw_up_n σ j v (show (22 : Nat) ≠ 23 by decide), gw_up_n σ j v (show (24 : Nat) ≠ 23 by decide)]
theorem gw_fr12_23 {ca : Nat → ClassId} {es : Nat → Nat} {ad hd : Nat → Nat → Nat} {σ γ : gw_S} {ord : List Nat} {ν : Nat → Nat} {j : Nat} {v : Int32} : ∀ r : Nat × Nat, r ≠ (12, j) → gw_gE ca es ad hd (gw_up σ 23 j v) γ ord ν r = gw_gE ca es ad hd σ γ ord ν r := by
  rintro ⟨k, x⟩ h
  match k, h with
  | 0, h => simp only [gw_gE_0, gw_root, gw_up_n σ j v (show (31 : Nat) ≠ 23 by decide), gw_up_n σ j v (show (7 : Nat) ≠ 23 by decide), gw_up_n σ j v (show (15 : Nat) ≠ 23 by decide), gw_up_n σ j v (show (1 : Nat) ≠ 23 by decide), gw_up_n σ j v (show (25 : Nat) ≠ 23 by decide)]
  | 1, h => simp only [gw_gE_1, gw_up_n σ j v (show (2 : Nat) ≠ 23 by decide)]
  | 2, h => simp only [gw_gE_2]
  | 3, h => simp only [gw_gE_3]
  | 4, h => simp only [gw_gE_4]
  | 5, h => simp only [gw_gE_5]
  | 6, h => simp only [gw_gE_6, gw_gc_n σ γ (c := 23) (j := j) (v := v) (by decide)]
  | 7, h => simp only [gw_gE_7]
  | 8, h => simp only [gw_gE_8]
  | 9, h => simp only [gw_gE_9]
  | 10, h => simp only [gw_gE_10]
  | 11, h => simp only [gw_gE_11, gw_acc5, gw_up_n σ j v (show (3 : Nat) ≠ 23 by decide), gw_up_n σ j v (show (4 : Nat) ≠ 23 by decide), gw_up_n σ j v (show (5 : Nat) ≠ 23 by decide), gw_up_n σ j v (show (6 : Nat) ≠ 23 by decide)]
  | 12, h => 
    by_cases hx : x = j
    · subst hx; exact absurd rfl h
    · exact congrArg (fun L => if x < ν 3 then some (Sum.inr (7, L)) else none) (gw_app8_23 hx)
  | 13, h => simp only [gw_gE_13, gw_up_n σ j v (show (19 : Nat) ≠ 23 by decide)]
  | 14, h => simp only [gw_gE_14, gw_up_n σ j v (show (30 : Nat) ≠ 23 by decide)]
  | 15, h => simp only [gw_gE_15, gw_ent, gw_up_n σ j v (show (32 : Nat) ≠ 23 by decide), gw_up_n σ j v (show (33 : Nat) ≠ 23 by decide), gw_up_n σ j v (show (34 : Nat) ≠ 23 by decide), gw_up_n σ j v (show (35 : Nat) ≠ 23 by decide)]
  | k + 16, h => simp only [gw_gE_16]
theorem gw_app8_24 {es : Nat → Nat} {ad : Nat → Nat → Nat} {σ : gw_S} {j x : Nat} {v : Int32} (hx : ¬ x = j) : gw_app8 es ad (gw_up σ 24 j v) x = gw_app8 es ad σ x := by
  have e : (gw_up σ 24 j v) 24 x = σ 24 x := by rw [gw_up_s]; simp only [upd]; rw [if_neg hx]
  unfold gw_app8
  rw [e, gw_up_n σ j v (show (16 : Nat) ≠ 24 by decide), gw_up_n σ j v (show (17 : Nat) ≠ 24 by decide), gw_up_n σ j v (show (18 : Nat) ≠ 24 by decide), gw_up_n σ j v (show (20 : Nat) ≠ 24 by decide), gw_up_n σ j v (show (21 : Nat) ≠ 24 by decide), gw_up_n σ j v (show (22 : Nat) ≠ 24 by decide), gw_up_n σ j v (show (23 : Nat) ≠ 24 by decide)]
theorem gw_fr12_24 {ca : Nat → ClassId} {es : Nat → Nat} {ad hd : Nat → Nat → Nat} {σ γ : gw_S} {ord : List Nat} {ν : Nat → Nat} {j : Nat} {v : Int32} : ∀ r : Nat × Nat, r ≠ (12, j) → gw_gE ca es ad hd (gw_up σ 24 j v) γ ord ν r = gw_gE ca es ad hd σ γ ord ν r := by
  rintro ⟨k, x⟩ h
  match k, h with
  | 0, h => simp only [gw_gE_0, gw_root, gw_up_n σ j v (show (31 : Nat) ≠ 24 by decide), gw_up_n σ j v (show (7 : Nat) ≠ 24 by decide), gw_up_n σ j v (show (15 : Nat) ≠ 24 by decide), gw_up_n σ j v (show (1 : Nat) ≠ 24 by decide), gw_up_n σ j v (show (25 : Nat) ≠ 24 by decide)]
  | 1, h => simp only [gw_gE_1, gw_up_n σ j v (show (2 : Nat) ≠ 24 by decide)]
  | 2, h => simp only [gw_gE_2]
  | 3, h => simp only [gw_gE_3]
  | 4, h => simp only [gw_gE_4]
  | 5, h => simp only [gw_gE_5]
  | 6, h => simp only [gw_gE_6, gw_gc_n σ γ (c := 24) (j := j) (v := v) (by decide)]
  | 7, h => simp only [gw_gE_7]
  | 8, h => simp only [gw_gE_8]
  | 9, h => simp only [gw_gE_9]
  | 10, h => simp only [gw_gE_10]
  | 11, h => simp only [gw_gE_11, gw_acc5, gw_up_n σ j v (show (3 : Nat) ≠ 24 by decide), gw_up_n σ j v (show (4 : Nat) ≠ 24 by decide), gw_up_n σ j v (show (5 : Nat) ≠ 24 by decide), gw_up_n σ j v (show (6 : Nat) ≠ 24 by decide)]
  | 12, h => 
    by_cases hx : x = j
    · subst hx; exact absurd rfl h
    · exact congrArg (fun L => if x < ν 3 then some (Sum.inr (7, L)) else none) (gw_app8_24 hx)
  | 13, h => simp only [gw_gE_13, gw_up_n σ j v (show (19 : Nat) ≠ 24 by decide)]
  | 14, h => simp only [gw_gE_14, gw_up_n σ j v (show (30 : Nat) ≠ 24 by decide)]
  | 15, h => simp only [gw_gE_15, gw_ent, gw_up_n σ j v (show (32 : Nat) ≠ 24 by decide), gw_up_n σ j v (show (33 : Nat) ≠ 24 by decide), gw_up_n σ j v (show (34 : Nat) ≠ 24 by decide), gw_up_n σ j v (show (35 : Nat) ≠ 24 by decide)]
  | k + 16, h => simp only [gw_gE_16]
theorem gw_acc5_3 {hd : Nat → Nat → Nat} {σ : gw_S} {ord : List Nat} {j x : Nat} {v : Int32} (hx : ¬ x = j) : gw_acc5 hd (gw_up σ 3 j v) ord x = gw_acc5 hd σ ord x := by
  have e : (gw_up σ 3 j v) 3 x = σ 3 x := by rw [gw_up_s]; simp only [upd]; rw [if_neg hx]
  unfold gw_acc5
  rw [e, gw_up_n σ j v (show (4 : Nat) ≠ 3 by decide), gw_up_n σ j v (show (5 : Nat) ≠ 3 by decide), gw_up_n σ j v (show (6 : Nat) ≠ 3 by decide)]
theorem gw_fr11_3 {ca : Nat → ClassId} {es : Nat → Nat} {ad hd : Nat → Nat → Nat} {σ γ : gw_S} {ord : List Nat} {ν : Nat → Nat} {j : Nat} {v : Int32} : ∀ r : Nat × Nat, r ≠ (11, j) → gw_gE ca es ad hd (gw_up σ 3 j v) γ ord ν r = gw_gE ca es ad hd σ γ ord ν r := by
  rintro ⟨k, x⟩ h
  match k, h with
  | 0, h => simp only [gw_gE_0, gw_root, gw_up_n σ j v (show (31 : Nat) ≠ 3 by decide), gw_up_n σ j v (show (7 : Nat) ≠ 3 by decide), gw_up_n σ j v (show (15 : Nat) ≠ 3 by decide), gw_up_n σ j v (show (1 : Nat) ≠ 3 by decide), gw_up_n σ j v (show (25 : Nat) ≠ 3 by decide)]
  | 1, h => simp only [gw_gE_1, gw_up_n σ j v (show (2 : Nat) ≠ 3 by decide)]
  | 2, h => simp only [gw_gE_2]
  | 3, h => simp only [gw_gE_3]
  | 4, h => simp only [gw_gE_4]
  | 5, h => simp only [gw_gE_5]
  | 6, h => simp only [gw_gE_6, gw_gc_n σ γ (c := 3) (j := j) (v := v) (by decide)]
  | 7, h => simp only [gw_gE_7]
  | 8, h => simp only [gw_gE_8]
  | 9, h => simp only [gw_gE_9]
  | 10, h => simp only [gw_gE_10]
  | 11, h => 
    by_cases hx : x = j
    · subst hx; exact absurd rfl h
    · exact congrArg (fun L => if x ∈ ord then some (Sum.inr (4, L)) else none) (gw_acc5_3 hx)
  | 12, h => simp only [gw_gE_12, gw_app8, gw_up_n σ j v (show (16 : Nat) ≠ 3 by decide), gw_up_n σ j v (show (17 : Nat) ≠ 3 by decide), gw_up_n σ j v (show (18 : Nat) ≠ 3 by decide), gw_up_n σ j v (show (22 : Nat) ≠ 3 by decide), gw_up_n σ j v (show (20 : Nat) ≠ 3 by decide), gw_up_n σ j v (show (21 : Nat) ≠ 3 by decide), gw_up_n σ j v (show (23 : Nat) ≠ 3 by decide), gw_up_n σ j v (show (24 : Nat) ≠ 3 by decide)]
  | 13, h => simp only [gw_gE_13, gw_up_n σ j v (show (19 : Nat) ≠ 3 by decide)]
  | 14, h => simp only [gw_gE_14, gw_up_n σ j v (show (30 : Nat) ≠ 3 by decide)]
  | 15, h => simp only [gw_gE_15, gw_ent, gw_up_n σ j v (show (32 : Nat) ≠ 3 by decide), gw_up_n σ j v (show (33 : Nat) ≠ 3 by decide), gw_up_n σ j v (show (34 : Nat) ≠ 3 by decide), gw_up_n σ j v (show (35 : Nat) ≠ 3 by decide)]
  | k + 16, h => simp only [gw_gE_16]
theorem gw_acc5_4 {hd : Nat → Nat → Nat} {σ : gw_S} {ord : List Nat} {j x : Nat} {v : Int32} (hx : ¬ x = j) : gw_acc5 hd (gw_up σ 4 j v) ord x = gw_acc5 hd σ ord x := by
  have e : (gw_up σ 4 j v) 4 x = σ 4 x := by rw [gw_up_s]; simp only [upd]; rw [if_neg hx]
  unfold gw_acc5
  rw [e, gw_up_n σ j v (show (3 : Nat) ≠ 4 by decide), gw_up_n σ j v (show (5 : Nat) ≠ 4 by decide), gw_up_n σ j v (show (6 : Nat) ≠ 4 by decide)]
theorem gw_fr11_4 {ca : Nat → ClassId} {es : Nat → Nat} {ad hd : Nat → Nat → Nat} {σ γ : gw_S} {ord : List Nat} {ν : Nat → Nat} {j : Nat} {v : Int32} : ∀ r : Nat × Nat, r ≠ (11, j) → gw_gE ca es ad hd (gw_up σ 4 j v) γ ord ν r = gw_gE ca es ad hd σ γ ord ν r := by
  rintro ⟨k, x⟩ h
  match k, h with
  | 0, h => simp only [gw_gE_0, gw_root, gw_up_n σ j v (show (31 : Nat) ≠ 4 by decide), gw_up_n σ j v (show (7 : Nat) ≠ 4 by decide), gw_up_n σ j v (show (15 : Nat) ≠ 4 by decide), gw_up_n σ j v (show (1 : Nat) ≠ 4 by decide), gw_up_n σ j v (show (25 : Nat) ≠ 4 by decide)]
  | 1, h => simp only [gw_gE_1, gw_up_n σ j v (show (2 : Nat) ≠ 4 by decide)]
  | 2, h => simp only [gw_gE_2]
  | 3, h => simp only [gw_gE_3]
  | 4, h => simp only [gw_gE_4]
  | 5, h => simp only [gw_gE_5]
  | 6, h => simp only [gw_gE_6, gw_gc_n σ γ (c := 4) (j := j) (v := v) (by decide)]
  | 7, h => simp only [gw_gE_7]
  | 8, h => simp only [gw_gE_8]
  | 9, h => simp only [gw_gE_9]
  | 10, h => simp only [gw_gE_10]
  | 11, h => 
    by_cases hx : x = j
    · subst hx; exact absurd rfl h
    · exact congrArg (fun L => if x ∈ ord then some (Sum.inr (4, L)) else none) (gw_acc5_4 hx)
  | 12, h => simp only [gw_gE_12, gw_app8, gw_up_n σ j v (show (16 : Nat) ≠ 4 by decide), gw_up_n σ j v (show (17 : Nat) ≠ 4 by decide), gw_up_n σ j v (show (18 : Nat) ≠ 4 by decide), gw_up_n σ j v (show (22 : Nat) ≠ 4 by decide), gw_up_n σ j v (show (20 : Nat) ≠ 4 by decide), gw_up_n σ j v (show (21 : Nat) ≠ 4 by decide), gw_up_n σ j v (show (23 : Nat) ≠ 4 by decide), gw_up_n σ j v (show (24 : Nat) ≠ 4 by decide)]
  | 13, h => simp only [gw_gE_13, gw_up_n σ j v (show (19 : Nat) ≠ 4 by decide)]
  | 14, h => simp only [gw_gE_14, gw_up_n σ j v (show (30 : Nat) ≠ 4 by decide)]
  | 15, h => simp only [gw_gE_15, gw_ent, gw_up_n σ j v (show (32 : Nat) ≠ 4 by decide), gw_up_n σ j v (show (33 : Nat) ≠ 4 by decide), gw_up_n σ j v (show (34 : Nat) ≠ 4 by decide), gw_up_n σ j v (show (35 : Nat) ≠ 4 by decide)]
  | k + 16, h => simp only [gw_gE_16]
theorem gw_acc5_5 {hd : Nat → Nat → Nat} {σ : gw_S} {ord : List Nat} {j x : Nat} {v : Int32} (hx : ¬ x = j) : gw_acc5 hd (gw_up σ 5 j v) ord x = gw_acc5 hd σ ord x := by
  have e : (gw_up σ 5 j v) 5 x = σ 5 x := by rw [gw_up_s]; simp only [upd]; rw [if_neg hx]
  unfold gw_acc5
  rw [e, gw_up_n σ j v (show (3 : Nat) ≠ 5 by decide), gw_up_n σ j v (show (4 : Nat) ≠ 5 by decide), gw_up_n σ j v (show (6 : Nat) ≠ 5 by decide)]
theorem gw_fr11_5 {ca : Nat → ClassId} {es : Nat → Nat} {ad hd : Nat → Nat → Nat} {σ γ : gw_S} {ord : List Nat} {ν : Nat → Nat} {j : Nat} {v : Int32} : ∀ r : Nat × Nat, r ≠ (11, j) → gw_gE ca es ad hd (gw_up σ 5 j v) γ ord ν r = gw_gE ca es ad hd σ γ ord ν r := by
  rintro ⟨k, x⟩ h
  match k, h with
  | 0, h => simp only [gw_gE_0, gw_root, gw_up_n σ j v (show (31 : Nat) ≠ 5 by decide), gw_up_n σ j v (show (7 : Nat) ≠ 5 by decide), gw_up_n σ j v (show (15 : Nat) ≠ 5 by decide), gw_up_n σ j v (show (1 : Nat) ≠ 5 by decide), gw_up_n σ j v (show (25 : Nat) ≠ 5 by decide)]
  | 1, h => simp only [gw_gE_1, gw_up_n σ j v (show (2 : Nat) ≠ 5 by decide)]
  | 2, h => simp only [gw_gE_2]
  | 3, h => simp only [gw_gE_3]
  | 4, h => simp only [gw_gE_4]
  | 5, h => simp only [gw_gE_5]
  | 6, h => simp only [gw_gE_6, gw_gc_n σ γ (c := 5) (j := j) (v := v) (by decide)]
  | 7, h => simp only [gw_gE_7]
  | 8, h => simp only [gw_gE_8]
  | 9, h => simp only [gw_gE_9]
  | 10, h => simp only [gw_gE_10]
  | 11, h => 
    by_cases hx : x = j
    · subst hx; exact absurd rfl h
    · exact congrArg (fun L => if x ∈ ord then some (Sum.inr (4, L)) else none) (gw_acc5_5 hx)
  | 12, h => simp only [gw_gE_12, gw_app8, gw_up_n σ j v (show (16 : Nat) ≠ 5 by decide), gw_up_n σ j v (show (17 : Nat) ≠ 5 by decide), gw_up_n σ j v (show (18 : Nat) ≠ 5 by decide), gw_up_n σ j v (show (22 : Nat) ≠ 5 by decide), gw_up_n σ j v (show (20 : Nat) ≠ 5 by decide), gw_up_n σ j v (show (21 : Nat) ≠ 5 by decide), gw_up_n σ j v (show (23 : Nat) ≠ 5 by decide), gw_up_n σ j v (show (24 : Nat) ≠ 5 by decide)]
  | 13, h => simp only [gw_gE_13, gw_up_n σ j v (show (19 : Nat) ≠ 5 by decide)]
  | 14, h => simp only [gw_gE_14, gw_up_n σ j v (show (30 : Nat) ≠ 5 by decide)]
  | 15, h => simp only [gw_gE_15, gw_ent, gw_up_n σ j v (show (32 : Nat) ≠ 5 by decide), gw_up_n σ j v (show (33 : Nat) ≠ 5 by decide), gw_up_n σ j v (show (34 : Nat) ≠ 5 by decide), gw_up_n σ j v (show (35 : Nat) ≠ 5 by decide)]
  | k + 16, h => simp only [gw_gE_16]
theorem gw_acc5_6 {hd : Nat → Nat → Nat} {σ : gw_S} {ord : List Nat} {j x : Nat} {v : Int32} (hx : ¬ x = j) : gw_acc5 hd (gw_up σ 6 j v) ord x = gw_acc5 hd σ ord x := by
  have e : (gw_up σ 6 j v) 6 x = σ 6 x := by rw [gw_up_s]; simp only [upd]; rw [if_neg hx]
  unfold gw_acc5
  rw [e, gw_up_n σ j v (show (3 : Nat) ≠ 6 by decide), gw_up_n σ j v (show (4 : Nat) ≠ 6 by decide), gw_up_n σ j v (show (5 : Nat) ≠ 6 by decide)]
theorem gw_fr11_6 {ca : Nat → ClassId} {es : Nat → Nat} {ad hd : Nat → Nat → Nat} {σ γ : gw_S} {ord : List Nat} {ν : Nat → Nat} {j : Nat} {v : Int32} : ∀ r : Nat × Nat, r ≠ (11, j) → gw_gE ca es ad hd (gw_up σ 6 j v) γ ord ν r = gw_gE ca es ad hd σ γ ord ν r := by
  rintro ⟨k, x⟩ h
  match k, h with
  | 0, h => simp only [gw_gE_0, gw_root, gw_up_n σ j v (show (31 : Nat) ≠ 6 by decide), gw_up_n σ j v (show (7 : Nat) ≠ 6 by decide), gw_up_n σ j v (show (15 : Nat) ≠ 6 by decide), gw_up_n σ j v (show (1 : Nat) ≠ 6 by decide), gw_up_n σ j v (show (25 : Nat) ≠ 6 by decide)]
  | 1, h => simp only [gw_gE_1, gw_up_n σ j v (show (2 : Nat) ≠ 6 by decide)]
  | 2, h => simp only [gw_gE_2]
  | 3, h => simp only [gw_gE_3]
  | 4, h => simp only [gw_gE_4]
  | 5, h => simp only [gw_gE_5]
  | 6, h => simp only [gw_gE_6, gw_gc_n σ γ (c := 6) (j := j) (v := v) (by decide)]
  | 7, h => simp only [gw_gE_7]
  | 8, h => simp only [gw_gE_8]
  | 9, h => simp only [gw_gE_9]
  | 10, h => simp only [gw_gE_10]
  | 11, h => 
    by_cases hx : x = j
    · subst hx; exact absurd rfl h
    · exact congrArg (fun L => if x ∈ ord then some (Sum.inr (4, L)) else none) (gw_acc5_6 hx)
  | 12, h => simp only [gw_gE_12, gw_app8, gw_up_n σ j v (show (16 : Nat) ≠ 6 by decide), gw_up_n σ j v (show (17 : Nat) ≠ 6 by decide), gw_up_n σ j v (show (18 : Nat) ≠ 6 by decide), gw_up_n σ j v (show (22 : Nat) ≠ 6 by decide), gw_up_n σ j v (show (20 : Nat) ≠ 6 by decide), gw_up_n σ j v (show (21 : Nat) ≠ 6 by decide), gw_up_n σ j v (show (23 : Nat) ≠ 6 by decide), gw_up_n σ j v (show (24 : Nat) ≠ 6 by decide)]
  | 13, h => simp only [gw_gE_13, gw_up_n σ j v (show (19 : Nat) ≠ 6 by decide)]
  | 14, h => simp only [gw_gE_14, gw_up_n σ j v (show (30 : Nat) ≠ 6 by decide)]
  | 15, h => simp only [gw_gE_15, gw_ent, gw_up_n σ j v (show (32 : Nat) ≠ 6 by decide), gw_up_n σ j v (show (33 : Nat) ≠ 6 by decide), gw_up_n σ j v (show (34 : Nat) ≠ 6 by decide), gw_up_n σ j v (show (35 : Nat) ≠ 6 by decide)]
  | k + 16, h => simp only [gw_gE_16]
theorem gw_fr13 {ca : Nat → ClassId} {es : Nat → Nat} {ad hd : Nat → Nat → Nat} {σ γ : gw_S} {ord : List Nat} {ν : Nat → Nat} {i j : Nat} {v : Int32} (hi : i < 3) : ∀ r : Nat × Nat, r ≠ (13, j) → gw_gE ca es ad hd (gw_up σ 19 (3 * j + i) v) γ ord ν r = gw_gE ca es ad hd σ γ ord ν r := by
  rintro ⟨k, x⟩ h
  match k, h with
  | 0, h => simp only [gw_gE_0, gw_root, gw_up_n σ (3 * j + i) v (show (31 : Nat) ≠ 19 by decide), gw_up_n σ (3 * j + i) v (show (7 : Nat) ≠ 19 by decide), gw_up_n σ (3 * j + i) v (show (15 : Nat) ≠ 19 by decide), gw_up_n σ (3 * j + i) v (show (1 : Nat) ≠ 19 by decide), gw_up_n σ (3 * j + i) v (show (25 : Nat) ≠ 19 by decide)]
  | 1, h => simp only [gw_gE_1, gw_up_n σ (3 * j + i) v (show (2 : Nat) ≠ 19 by decide)]
  | 2, h => simp only [gw_gE_2]
  | 3, h => simp only [gw_gE_3]
  | 4, h => simp only [gw_gE_4]
  | 5, h => simp only [gw_gE_5]
  | 6, h => simp only [gw_gE_6, gw_gc_n σ γ (c := 19) (j := (3 * j + i)) (v := v) (by decide)]
  | 7, h => simp only [gw_gE_7]
  | 8, h => simp only [gw_gE_8]
  | 9, h => simp only [gw_gE_9]
  | 10, h => simp only [gw_gE_10]
  | 11, h => simp only [gw_gE_11, gw_acc5, gw_up_n σ (3 * j + i) v (show (3 : Nat) ≠ 19 by decide), gw_up_n σ (3 * j + i) v (show (4 : Nat) ≠ 19 by decide), gw_up_n σ (3 * j + i) v (show (5 : Nat) ≠ 19 by decide), gw_up_n σ (3 * j + i) v (show (6 : Nat) ≠ 19 by decide)]
  | 12, h => simp only [gw_gE_12, gw_app8, gw_up_n σ (3 * j + i) v (show (16 : Nat) ≠ 19 by decide), gw_up_n σ (3 * j + i) v (show (17 : Nat) ≠ 19 by decide), gw_up_n σ (3 * j + i) v (show (18 : Nat) ≠ 19 by decide), gw_up_n σ (3 * j + i) v (show (22 : Nat) ≠ 19 by decide), gw_up_n σ (3 * j + i) v (show (20 : Nat) ≠ 19 by decide), gw_up_n σ (3 * j + i) v (show (21 : Nat) ≠ 19 by decide), gw_up_n σ (3 * j + i) v (show (23 : Nat) ≠ 19 by decide), gw_up_n σ (3 * j + i) v (show (24 : Nat) ≠ 19 by decide)]
  | 13, h => 
    by_cases hx : x = j
    · subst hx; exact absurd rfl h
    · show (if x < ν 3 then some (Sum.inl (ca 0, 3, Sum.inl _)) else none) = (if x < ν 3 then some (Sum.inl (ca 0, 3, Sum.inl _)) else none)
      have e : (fun i' => if i' < 3 then (gw_up σ 19 (3 * j + i) v) 19 (3 * x + i') else 0) = (fun i' => if i' < 3 then σ 19 (3 * x + i') else 0) := by
        funext i'
        by_cases q : i' < 3
        · rw [if_pos q, if_pos q, gw_up_s]; simp only [upd]; rw [if_neg (by omega)]
        · rw [if_neg q, if_neg q]
      rw [e]
  | 14, h => simp only [gw_gE_14, gw_up_n σ (3 * j + i) v (show (30 : Nat) ≠ 19 by decide)]
  | 15, h => simp only [gw_gE_15, gw_ent, gw_up_n σ (3 * j + i) v (show (32 : Nat) ≠ 19 by decide), gw_up_n σ (3 * j + i) v (show (33 : Nat) ≠ 19 by decide), gw_up_n σ (3 * j + i) v (show (34 : Nat) ≠ 19 by decide), gw_up_n σ (3 * j + i) v (show (35 : Nat) ≠ 19 by decide)]
  | k + 16, h => simp only [gw_gE_16]
theorem gw_fr14 {ca : Nat → ClassId} {es : Nat → Nat} {ad hd : Nat → Nat → Nat} {σ γ : gw_S} {ord : List Nat} {ν : Nat → Nat} {i j : Nat} {v : Int32} (hj : j < 24) : ∀ r : Nat × Nat, r ≠ (14, j) → gw_gE ca es ad hd (gw_up σ 30 (24 * i + j) v) γ ord ν r = gw_gE ca es ad hd σ γ ord ν r := by
  rintro ⟨k, x⟩ h
  match k, h with
  | 0, h => simp only [gw_gE_0, gw_root, gw_up_n σ (24 * i + j) v (show (31 : Nat) ≠ 30 by decide), gw_up_n σ (24 * i + j) v (show (7 : Nat) ≠ 30 by decide), gw_up_n σ (24 * i + j) v (show (15 : Nat) ≠ 30 by decide), gw_up_n σ (24 * i + j) v (show (1 : Nat) ≠ 30 by decide), gw_up_n σ (24 * i + j) v (show (25 : Nat) ≠ 30 by decide)]
  | 1, h => simp only [gw_gE_1, gw_up_n σ (24 * i + j) v (show (2 : Nat) ≠ 30 by decide)]
  | 2, h => simp only [gw_gE_2]
  | 3, h => simp only [gw_gE_3]
  | 4, h => simp only [gw_gE_4]
  | 5, h => simp only [gw_gE_5]
  | 6, h => simp only [gw_gE_6, gw_gc_n σ γ (c := 30) (j := (24 * i + j)) (v := v) (by decide)]
  | 7, h => simp only [gw_gE_7]
  | 8, h => simp only [gw_gE_8]
  | 9, h => simp only [gw_gE_9]
  | 10, h => simp only [gw_gE_10]
  | 11, h => simp only [gw_gE_11, gw_acc5, gw_up_n σ (24 * i + j) v (show (3 : Nat) ≠ 30 by decide), gw_up_n σ (24 * i + j) v (show (4 : Nat) ≠ 30 by decide), gw_up_n σ (24 * i + j) v (show (5 : Nat) ≠ 30 by decide), gw_up_n σ (24 * i + j) v (show (6 : Nat) ≠ 30 by decide)]
  | 12, h => simp only [gw_gE_12, gw_app8, gw_up_n σ (24 * i + j) v (show (16 : Nat) ≠ 30 by decide), gw_up_n σ (24 * i + j) v (show (17 : Nat) ≠ 30 by decide), gw_up_n σ (24 * i + j) v (show (18 : Nat) ≠ 30 by decide), gw_up_n σ (24 * i + j) v (show (22 : Nat) ≠ 30 by decide), gw_up_n σ (24 * i + j) v (show (20 : Nat) ≠ 30 by decide), gw_up_n σ (24 * i + j) v (show (21 : Nat) ≠ 30 by decide), gw_up_n σ (24 * i + j) v (show (23 : Nat) ≠ 30 by decide), gw_up_n σ (24 * i + j) v (show (24 : Nat) ≠ 30 by decide)]
  | 13, h => simp only [gw_gE_13, gw_up_n σ (24 * i + j) v (show (19 : Nat) ≠ 30 by decide)]
  | 14, h => 
    by_cases hx : x = j
    · subst hx; exact absurd rfl h
    · show (if x < ν 3 then some (Sum.inl (ca 0, 10, Sum.inl _)) else none) = (if x < ν 3 then some (Sum.inl (ca 0, 10, Sum.inl _)) else none)
      have e : (fun i' => if i' < 10 ∧ x < 24 then (gw_up σ 30 (24 * i + j) v) 30 (24 * i' + x) else 0) = (fun i' => if i' < 10 ∧ x < 24 then σ 30 (24 * i' + x) else 0) := by
        funext i'
        by_cases q : i' < 10 ∧ x < 24
        · rw [if_pos q, if_pos q, gw_up_s]; simp only [upd]; rw [if_neg (by omega)]
        · rw [if_neg q, if_neg q]
      rw [e]
  | 15, h => simp only [gw_gE_15, gw_ent, gw_up_n σ (24 * i + j) v (show (32 : Nat) ≠ 30 by decide), gw_up_n σ (24 * i + j) v (show (33 : Nat) ≠ 30 by decide), gw_up_n σ (24 * i + j) v (show (34 : Nat) ≠ 30 by decide), gw_up_n σ (24 * i + j) v (show (35 : Nat) ≠ 30 by decide)]
  | k + 16, h => simp only [gw_gE_16]
section GWS
variable {p : Program} {l : Launch} {e : Env} {R : Room} {s : State} {m : MethodId} {args : Array Value} {below : List Frame} {meth : Method} {c : Code} {H : Heap} {locs : List Loc} {cells slots : Nat} {Q : State → Prop}
variable {cc : ByteArray} {pc : Nat} {ls : Array Slot} {rest st0 : List Value} {D : va_G} {A : Nat → Prop} {ca : Nat → ClassId} {es : Nat → Nat} {H0 : Heap} {ad hd : Nat → Nat → Nat} {σ γ : gw_S} {ord : List Nat} {ν : Nat → Nat} {a : Array Value} {mc ms : Nat}
theorem gw_gst0 {j : Nat} (hexec : p.tables.exec = Jvm.exec) (hb : c.code = cc) (hK : va_K D gw_cl (gw_tys ca) s) (hG : gw_gW D ca es A ad hd σ γ ord ν H) (hS : va_S A H0 H locs) (hj : j < 6) (hdg : decode cc pc = .ok (.iastore, 1)) {v : Int32}
    (kk : ∀ (H1 : Heap) (locs1 : List Loc), gw_gW D ca es A ad hd (gw_up σ 8 j v) γ ord ν H1 → va_S A H0 H1 locs1 → W p l e R s m args below meth c H1 locs1 cells slots Q (F0 m (pc + 1) ls rest)) : W p l e R s m args below meth c H locs cells slots Q (F0 m pc ls (.int v :: .int (nI j) :: .ref (ad 6 0) :: rest)) := by
  refine gw_ast hexec hb hK hS (gw_c6 hG 0 (by decide)) (gw_gA hG (6, 0) rfl) (vp_in_nI hj (by decide)) hdg fun H1 locs1 he1 oq hz1 hS1 => ?_
  rw [gw_ix_nI (by omega)] at he1
  refine kk H1 locs1 (gw_W.set hG (r := (6, 0)) rfl rfl gw_fr6_0 ?_ oq) hS1
  show va_at D gw_cl (ad 6 0, .inl (ca 0, 6, .inl ((gw_up σ 8 j v) 8))) H1
  rw [gw_up_s]
  exact he1
theorem gw_gst1 {j : Nat} (hexec : p.tables.exec = Jvm.exec) (hb : c.code = cc) (hK : va_K D gw_cl (gw_tys ca) s) (hG : gw_gW D ca es A ad hd σ γ ord ν H) (hS : va_S A H0 H locs) (hj : j < 6) (hdg : decode cc pc = .ok (.iastore, 1)) {v : Int32}
    (kk : ∀ (H1 : Heap) (locs1 : List Loc), gw_gW D ca es A ad hd (gw_up σ 9 j v) γ ord ν H1 → va_S A H0 H1 locs1 → W p l e R s m args below meth c H1 locs1 cells slots Q (F0 m (pc + 1) ls rest)) : W p l e R s m args below meth c H locs cells slots Q (F0 m pc ls (.int v :: .int (nI j) :: .ref (ad 6 1) :: rest)) := by
  refine gw_ast hexec hb hK hS (gw_c6 hG 1 (by decide)) (gw_gA hG (6, 1) rfl) (vp_in_nI hj (by decide)) hdg fun H1 locs1 he1 oq hz1 hS1 => ?_
  rw [gw_ix_nI (by omega)] at he1
  refine kk H1 locs1 (gw_W.set hG (r := (6, 1)) rfl rfl gw_fr6_1 ?_ oq) hS1
  show va_at D gw_cl (ad 6 1, .inl (ca 0, 6, .inl ((gw_up σ 9 j v) 9))) H1
  rw [gw_up_s]
  exact he1
theorem gw_gst2 {j : Nat} (hexec : p.tables.exec = Jvm.exec) (hb : c.code = cc) (hK : va_K D gw_cl (gw_tys ca) s) (hG : gw_gW D ca es A ad hd σ γ ord ν H) (hS : va_S A H0 H locs) (hj : j < 6) (hdg : decode cc pc = .ok (.iastore, 1)) {v : Int32}
    (kk : ∀ (H1 : Heap) (locs1 : List Loc), gw_gW D ca es A ad hd (gw_up σ 10 j v) γ ord ν H1 → va_S A H0 H1 locs1 → W p l e R s m args below meth c H1 locs1 cells slots Q (F0 m (pc + 1) ls rest)) : W p l e R s m args below meth c H locs cells slots Q (F0 m pc ls (.int v :: .int (nI j) :: .ref (ad 6 2) :: rest)) := by
  refine gw_ast hexec hb hK hS (gw_c6 hG 2 (by decide)) (gw_gA hG (6, 2) rfl) (vp_in_nI hj (by decide)) hdg fun H1 locs1 he1 oq hz1 hS1 => ?_
  rw [gw_ix_nI (by omega)] at he1
  refine kk H1 locs1 (gw_W.set hG (r := (6, 2)) rfl rfl gw_fr6_2 ?_ oq) hS1
  show va_at D gw_cl (ad 6 2, .inl (ca 0, 6, .inl ((gw_up σ 10 j v) 10))) H1
  rw [gw_up_s]
  exact he1
theorem gw_gst3 {j : Nat} (hexec : p.tables.exec = Jvm.exec) (hb : c.code = cc) (hK : va_K D gw_cl (gw_tys ca) s) (hG : gw_gW D ca es A ad hd σ γ ord ν H) (hS : va_S A H0 H locs) (hj : j < 6) (hdg : decode cc pc = .ok (.iastore, 1)) {v : Int32}
    (kk : ∀ (H1 : Heap) (locs1 : List Loc), gw_gW D ca es A ad hd (gw_up σ 11 j v) γ ord ν H1 → va_S A H0 H1 locs1 → W p l e R s m args below meth c H1 locs1 cells slots Q (F0 m (pc + 1) ls rest)) : W p l e R s m args below meth c H locs cells slots Q (F0 m pc ls (.int v :: .int (nI j) :: .ref (ad 6 3) :: rest)) := by
  refine gw_ast hexec hb hK hS (gw_c6 hG 3 (by decide)) (gw_gA hG (6, 3) rfl) (vp_in_nI hj (by decide)) hdg fun H1 locs1 he1 oq hz1 hS1 => ?_
  rw [gw_ix_nI (by omega)] at he1
  refine kk H1 locs1 (gw_W.set hG (r := (6, 3)) rfl rfl gw_fr6_3 ?_ oq) hS1
  show va_at D gw_cl (ad 6 3, .inl (ca 0, 6, .inl ((gw_up σ 11 j v) 11))) H1
  rw [gw_up_s]
  exact he1
theorem gw_gst4 {j : Nat} (hexec : p.tables.exec = Jvm.exec) (hb : c.code = cc) (hK : va_K D gw_cl (gw_tys ca) s) (hG : gw_gW D ca es A ad hd σ γ ord ν H) (hS : va_S A H0 H locs) (hj : j < 6) (hdg : decode cc pc = .ok (.iastore, 1)) {v : Int32}
    (kk : ∀ (H1 : Heap) (locs1 : List Loc), gw_gW D ca es A ad hd σ (gw_up γ 0 j v) ord ν H1 → va_S A H0 H1 locs1 → W p l e R s m args below meth c H1 locs1 cells slots Q (F0 m (pc + 1) ls rest)) : W p l e R s m args below meth c H locs cells slots Q (F0 m pc ls (.int v :: .int (nI j) :: .ref (ad 6 4) :: rest)) := by
  refine gw_ast hexec hb hK hS (gw_c6 hG 4 (by decide)) (gw_gA hG (6, 4) rfl) (vp_in_nI hj (by decide)) hdg fun H1 locs1 he1 oq hz1 hS1 => ?_
  rw [gw_ix_nI (by omega)] at he1
  refine kk H1 locs1 (gw_W.set hG (r := (6, 4)) rfl rfl gw_fr6_4 ?_ oq) hS1
  show va_at D gw_cl (ad 6 4, .inl (ca 0, 6, .inl ((gw_up γ 0 j v) 0))) H1
  rw [gw_up_s]
  exact he1
theorem gw_gst5 {j : Nat} (hexec : p.tables.exec = Jvm.exec) (hb : c.code = cc) (hK : va_K D gw_cl (gw_tys ca) s) (hG : gw_gW D ca es A ad hd σ γ ord ν H) (hS : va_S A H0 H locs) (hj : j < 144) (hdg : decode cc pc = .ok (.iastore, 1)) {v : Int32}
    (kk : ∀ (H1 : Heap) (locs1 : List Loc), gw_gW D ca es A ad hd σ (gw_up γ 1 j v) ord ν H1 → va_S A H0 H1 locs1 → W p l e R s m args below meth c H1 locs1 cells slots Q (F0 m (pc + 1) ls rest)) : W p l e R s m args below meth c H locs cells slots Q (F0 m pc ls (.int v :: .int (nI j) :: .ref (ad 6 5) :: rest)) := by
  refine gw_ast hexec hb hK hS (gw_c6 hG 5 (by decide)) (gw_gA hG (6, 5) rfl) (vp_in_nI hj (by decide)) hdg fun H1 locs1 he1 oq hz1 hS1 => ?_
  rw [gw_ix_nI (by omega)] at he1
  refine kk H1 locs1 (gw_W.set hG (r := (6, 5)) rfl rfl gw_fr6_5 ?_ oq) hS1
  show va_at D gw_cl (ad 6 5, .inl (ca 0, 144, .inl ((gw_up γ 1 j v) 1))) H1
  rw [gw_up_s]
  exact he1
theorem gw_gst6 {j : Nat} (hexec : p.tables.exec = Jvm.exec) (hb : c.code = cc) (hK : va_K D gw_cl (gw_tys ca) s) (hG : gw_gW D ca es A ad hd σ γ ord ν H) (hS : va_S A H0 H locs) (hj : j < 6) (hdg : decode cc pc = .ok (.bastore, 1)) {v : Int32} (hnv : narrow .boolean (.int v) = .int v)
    (kk : ∀ (H1 : Heap) (locs1 : List Loc), gw_gW D ca es A ad hd (gw_up σ 12 j v) γ ord ν H1 → va_S A H0 H1 locs1 → W p l e R s m args below meth c H1 locs1 cells slots Q (F0 m (pc + 1) ls rest)) : W p l e R s m args below meth c H locs cells slots Q (F0 m pc ls (.int v :: .int (nI j) :: .ref (ad 6 6) :: rest)) := by
  refine gw_zst hexec hb hK hS (gw_c6 hG 6 (by decide)) (gw_gA hG (6, 6) rfl) hnv (vp_in_nI hj (by decide)) hdg fun H1 locs1 he1 oq hz1 hS1 => ?_
  rw [gw_ix_nI (by omega)] at he1
  refine kk H1 locs1 (gw_W.set hG (r := (6, 6)) rfl rfl gw_fr6_6 ?_ oq) hS1
  show va_at D gw_cl (ad 6 6, .inl (ca 1, 6, .inl ((gw_up σ 12 j v) 12))) H1
  rw [gw_up_s]
  exact he1
theorem gw_gst7 {j : Nat} (hexec : p.tables.exec = Jvm.exec) (hb : c.code = cc) (hK : va_K D gw_cl (gw_tys ca) s) (hG : gw_gW D ca es A ad hd σ γ ord ν H) (hS : va_S A H0 H locs) (hj : j < 10) (hdg : decode cc pc = .ok (.iastore, 1)) {v : Int32}
    (kk : ∀ (H1 : Heap) (locs1 : List Loc), gw_gW D ca es A ad hd (gw_up σ 26 j v) γ ord ν H1 → va_S A H0 H1 locs1 → W p l e R s m args below meth c H1 locs1 cells slots Q (F0 m (pc + 1) ls rest)) : W p l e R s m args below meth c H locs cells slots Q (F0 m pc ls (.int v :: .int (nI j) :: .ref (ad 6 7) :: rest)) := by
  refine gw_ast hexec hb hK hS (gw_c6 hG 7 (by decide)) (gw_gA hG (6, 7) rfl) (vp_in_nI hj (by decide)) hdg fun H1 locs1 he1 oq hz1 hS1 => ?_
  rw [gw_ix_nI (by omega)] at he1
  refine kk H1 locs1 (gw_W.set hG (r := (6, 7)) rfl rfl gw_fr6_7 ?_ oq) hS1
  show va_at D gw_cl (ad 6 7, .inl (ca 0, 10, .inl ((gw_up σ 26 j v) 26))) H1
  rw [gw_up_s]
  exact he1
theorem gw_gst8 {j : Nat} (hexec : p.tables.exec = Jvm.exec) (hb : c.code = cc) (hK : va_K D gw_cl (gw_tys ca) s) (hG : gw_gW D ca es A ad hd σ γ ord ν H) (hS : va_S A H0 H locs) (hj : j < 10) (hdg : decode cc pc = .ok (.iastore, 1)) {v : Int32}
    (kk : ∀ (H1 : Heap) (locs1 : List Loc), gw_gW D ca es A ad hd (gw_up σ 27 j v) γ ord ν H1 → va_S A H0 H1 locs1 → W p l e R s m args below meth c H1 locs1 cells slots Q (F0 m (pc + 1) ls rest)) : W p l e R s m args below meth c H locs cells slots Q (F0 m pc ls (.int v :: .int (nI j) :: .ref (ad 6 8) :: rest)) := by
  refine gw_ast hexec hb hK hS (gw_c6 hG 8 (by decide)) (gw_gA hG (6, 8) rfl) (vp_in_nI hj (by decide)) hdg fun H1 locs1 he1 oq hz1 hS1 => ?_
  rw [gw_ix_nI (by omega)] at he1
  refine kk H1 locs1 (gw_W.set hG (r := (6, 8)) rfl rfl gw_fr6_8 ?_ oq) hS1
  show va_at D gw_cl (ad 6 8, .inl (ca 0, 10, .inl ((gw_up σ 27 j v) 27))) H1
  rw [gw_up_s]
  exact he1
theorem gw_gst9 {j : Nat} (hexec : p.tables.exec = Jvm.exec) (hb : c.code = cc) (hK : va_K D gw_cl (gw_tys ca) s) (hG : gw_gW D ca es A ad hd σ γ ord ν H) (hS : va_S A H0 H locs) (hj : j < 10) (hdg : decode cc pc = .ok (.iastore, 1)) {v : Int32}
    (kk : ∀ (H1 : Heap) (locs1 : List Loc), gw_gW D ca es A ad hd σ (gw_up γ 2 j v) ord ν H1 → va_S A H0 H1 locs1 → W p l e R s m args below meth c H1 locs1 cells slots Q (F0 m (pc + 1) ls rest)) : W p l e R s m args below meth c H locs cells slots Q (F0 m pc ls (.int v :: .int (nI j) :: .ref (ad 6 9) :: rest)) := by
  refine gw_ast hexec hb hK hS (gw_c6 hG 9 (by decide)) (gw_gA hG (6, 9) rfl) (vp_in_nI hj (by decide)) hdg fun H1 locs1 he1 oq hz1 hS1 => ?_
  rw [gw_ix_nI (by omega)] at he1
  refine kk H1 locs1 (gw_W.set hG (r := (6, 9)) rfl rfl gw_fr6_9 ?_ oq) hS1
  show va_at D gw_cl (ad 6 9, .inl (ca 0, 10, .inl ((gw_up γ 2 j v) 2))) H1
  rw [gw_up_s]
  exact he1
theorem gw_gst10 {j : Nat} (hexec : p.tables.exec = Jvm.exec) (hb : c.code = cc) (hK : va_K D gw_cl (gw_tys ca) s) (hG : gw_gW D ca es A ad hd σ γ ord ν H) (hS : va_S A H0 H locs) (hj : j < 6) (hdg : decode cc pc = .ok (.iastore, 1)) {v : Int32}
    (kk : ∀ (H1 : Heap) (locs1 : List Loc), gw_gW D ca es A ad hd σ (gw_up γ 3 j v) ord ν H1 → va_S A H0 H1 locs1 → W p l e R s m args below meth c H1 locs1 cells slots Q (F0 m (pc + 1) ls rest)) : W p l e R s m args below meth c H locs cells slots Q (F0 m pc ls (.int v :: .int (nI j) :: .ref (ad 6 10) :: rest)) := by
  refine gw_ast hexec hb hK hS (gw_c6 hG 10 (by decide)) (gw_gA hG (6, 10) rfl) (vp_in_nI hj (by decide)) hdg fun H1 locs1 he1 oq hz1 hS1 => ?_
  rw [gw_ix_nI (by omega)] at he1
  refine kk H1 locs1 (gw_W.set hG (r := (6, 10)) rfl rfl gw_fr6_10 ?_ oq) hS1
  show va_at D gw_cl (ad 6 10, .inl (ca 0, 6, .inl ((gw_up γ 3 j v) 3))) H1
  rw [gw_up_s]
  exact he1
theorem gw_gst11 {j : Nat} (hexec : p.tables.exec = Jvm.exec) (hb : c.code = cc) (hK : va_K D gw_cl (gw_tys ca) s) (hG : gw_gW D ca es A ad hd σ γ ord ν H) (hS : va_S A H0 H locs) (hj : j < 48) (hdg : decode cc pc = .ok (.iastore, 1)) {v : Int32}
    (kk : ∀ (H1 : Heap) (locs1 : List Loc), gw_gW D ca es A ad hd σ (gw_up γ 4 j v) ord ν H1 → va_S A H0 H1 locs1 → W p l e R s m args below meth c H1 locs1 cells slots Q (F0 m (pc + 1) ls rest)) : W p l e R s m args below meth c H locs cells slots Q (F0 m pc ls (.int v :: .int (nI j) :: .ref (ad 6 11) :: rest)) := by
  refine gw_ast hexec hb hK hS (gw_c6 hG 11 (by decide)) (gw_gA hG (6, 11) rfl) (vp_in_nI hj (by decide)) hdg fun H1 locs1 he1 oq hz1 hS1 => ?_
  rw [gw_ix_nI (by omega)] at he1
  refine kk H1 locs1 (gw_W.set hG (r := (6, 11)) rfl rfl gw_fr6_11 ?_ oq) hS1
  show va_at D gw_cl (ad 6 11, .inl (ca 0, 48, .inl ((gw_up γ 4 j v) 4))) H1
  rw [gw_up_s]
  exact he1
theorem gw_gst12 {j : Nat} (hexec : p.tables.exec = Jvm.exec) (hb : c.code = cc) (hK : va_K D gw_cl (gw_tys ca) s) (hG : gw_gW D ca es A ad hd σ γ ord ν H) (hS : va_S A H0 H locs) (hj : j < 48) (hdg : decode cc pc = .ok (.iastore, 1)) {v : Int32}
    (kk : ∀ (H1 : Heap) (locs1 : List Loc), gw_gW D ca es A ad hd σ (gw_up γ 5 j v) ord ν H1 → va_S A H0 H1 locs1 → W p l e R s m args below meth c H1 locs1 cells slots Q (F0 m (pc + 1) ls rest)) : W p l e R s m args below meth c H locs cells slots Q (F0 m pc ls (.int v :: .int (nI j) :: .ref (ad 6 12) :: rest)) := by
  refine gw_ast hexec hb hK hS (gw_c6 hG 12 (by decide)) (gw_gA hG (6, 12) rfl) (vp_in_nI hj (by decide)) hdg fun H1 locs1 he1 oq hz1 hS1 => ?_
  rw [gw_ix_nI (by omega)] at he1
  refine kk H1 locs1 (gw_W.set hG (r := (6, 12)) rfl rfl gw_fr6_12 ?_ oq) hS1
  show va_at D gw_cl (ad 6 12, .inl (ca 0, 48, .inl ((gw_up γ 5 j v) 5))) H1
  rw [gw_up_s]
  exact he1
theorem gw_gst13 {j : Nat} (hexec : p.tables.exec = Jvm.exec) (hb : c.code = cc) (hK : va_K D gw_cl (gw_tys ca) s) (hG : gw_gW D ca es A ad hd σ γ ord ν H) (hS : va_S A H0 H locs) (hj : j < 48) (hdg : decode cc pc = .ok (.iastore, 1)) {v : Int32}
    (kk : ∀ (H1 : Heap) (locs1 : List Loc), gw_gW D ca es A ad hd σ (gw_up γ 6 j v) ord ν H1 → va_S A H0 H1 locs1 → W p l e R s m args below meth c H1 locs1 cells slots Q (F0 m (pc + 1) ls rest)) : W p l e R s m args below meth c H locs cells slots Q (F0 m pc ls (.int v :: .int (nI j) :: .ref (ad 6 13) :: rest)) := by
  refine gw_ast hexec hb hK hS (gw_c6 hG 13 (by decide)) (gw_gA hG (6, 13) rfl) (vp_in_nI hj (by decide)) hdg fun H1 locs1 he1 oq hz1 hS1 => ?_
  rw [gw_ix_nI (by omega)] at he1
  refine kk H1 locs1 (gw_W.set hG (r := (6, 13)) rfl rfl gw_fr6_13 ?_ oq) hS1
  show va_at D gw_cl (ad 6 13, .inl (ca 0, 48, .inl ((gw_up γ 6 j v) 6))) H1
  rw [gw_up_s]
  exact he1
theorem gw_gst14 {j : Nat} (hexec : p.tables.exec = Jvm.exec) (hb : c.code = cc) (hK : va_K D gw_cl (gw_tys ca) s) (hG : gw_gW D ca es A ad hd σ γ ord ν H) (hS : va_S A H0 H locs) (hj : j < 24) (hdg : decode cc pc = .ok (.iastore, 1)) {v : Int32}
    (kk : ∀ (H1 : Heap) (locs1 : List Loc), gw_gW D ca es A ad hd σ (gw_up γ 7 j v) ord ν H1 → va_S A H0 H1 locs1 → W p l e R s m args below meth c H1 locs1 cells slots Q (F0 m (pc + 1) ls rest)) : W p l e R s m args below meth c H locs cells slots Q (F0 m pc ls (.int v :: .int (nI j) :: .ref (ad 6 14) :: rest)) := by
  refine gw_ast hexec hb hK hS (gw_c6 hG 14 (by decide)) (gw_gA hG (6, 14) rfl) (vp_in_nI hj (by decide)) hdg fun H1 locs1 he1 oq hz1 hS1 => ?_
  rw [gw_ix_nI (by omega)] at he1
  refine kk H1 locs1 (gw_W.set hG (r := (6, 14)) rfl rfl gw_fr6_14 ?_ oq) hS1
  show va_at D gw_cl (ad 6 14, .inl (ca 0, 24, .inl ((gw_up γ 7 j v) 7))) H1
  rw [gw_up_s]
  exact he1
theorem gw_gput0_7 (hexec : p.tables.exec = Jvm.exec) (hb : c.code = cc) {index : Nat} (hts : ∀ w ∈ lw_all, w.before args s = true) (hown : s.vm.findClass RX1 = some m.cls) (hK : va_K D gw_cl (gw_tys ca) s) (hG : gw_gW D ca es A ad hd σ γ ord ν H) (hS : va_S A H0 H locs) (hlink : (Cond.fieldLink RX1 index (TX1 12).1 (TX1 12).2.1 (TX1 12).2.2.1).before args s = true) (hdg : decode cc pc = .ok (.putfield index, 3)) {v : Int32}
    (kk : ∀ (H1 : Heap) (locs1 : List Loc), gw_gW D ca es A ad hd (gw_up σ 7 0 v) γ ord ν H1 → va_S A H0 H1 locs1 → W p l e R s m args below meth c H1 locs1 cells slots Q (F0 m (pc + 3) ls rest)) : W p l e R s m args below meth c H locs cells slots Q (F0 m pc ls (.int v :: .ref (ad 0 0) :: rest)) := by
  refine gw_put hexec hb hts in_X1 tyX1 tyX1_ok nmX1 hown hK hS (gw_c0 hG) (gw_gA hG (0, 0) rfl) rfl 12 (by decide) hlink rfl (tyX1_ok 12 (by decide)) rfl rfl (by show 12 < 24; decide) hdg fun H1 locs1 he oq hz hS1 => ?_
  exact kk H1 locs1 (gw_W.set hG (r := (0, 0)) rfl rfl gw_fr0_7 he oq) hS1
theorem gw_gput0_1 (hexec : p.tables.exec = Jvm.exec) (hb : c.code = cc) {index : Nat} (hts : ∀ w ∈ lw_all, w.before args s = true) (hown : s.vm.findClass RX1 = some m.cls) (hK : va_K D gw_cl (gw_tys ca) s) (hG : gw_gW D ca es A ad hd σ γ ord ν H) (hS : va_S A H0 H locs) (hlink : (Cond.fieldLink RX1 index (TX1 14).1 (TX1 14).2.1 (TX1 14).2.2.1).before args s = true) (hdg : decode cc pc = .ok (.putfield index, 3)) {v : Int32}
    (kk : ∀ (H1 : Heap) (locs1 : List Loc), gw_gW D ca es A ad hd (gw_up σ 1 0 v) γ ord ν H1 → va_S A H0 H1 locs1 → W p l e R s m args below meth c H1 locs1 cells slots Q (F0 m (pc + 3) ls rest)) : W p l e R s m args below meth c H locs cells slots Q (F0 m pc ls (.int v :: .ref (ad 0 0) :: rest)) := by
  refine gw_put hexec hb hts in_X1 tyX1 tyX1_ok nmX1 hown hK hS (gw_c0 hG) (gw_gA hG (0, 0) rfl) rfl 14 (by decide) hlink rfl (tyX1_ok 14 (by decide)) rfl rfl (by show 14 < 24; decide) hdg fun H1 locs1 he oq hz hS1 => ?_
  exact kk H1 locs1 (gw_W.set hG (r := (0, 0)) rfl rfl gw_fr0_1 he oq) hS1
theorem gw_gput0_25 (hexec : p.tables.exec = Jvm.exec) (hb : c.code = cc) {index : Nat} (hts : ∀ w ∈ lw_all, w.before args s = true) (hown : s.vm.findClass RX1 = some m.cls) (hK : va_K D gw_cl (gw_tys ca) s) (hG : gw_gW D ca es A ad hd σ γ ord ν H) (hS : va_S A H0 H locs) (hlink : (Cond.fieldLink RX1 index (TX1 19).1 (TX1 19).2.1 (TX1 19).2.2.1).before args s = true) (hdg : decode cc pc = .ok (.putfield index, 3)) {v : Int32}
    (kk : ∀ (H1 : Heap) (locs1 : List Loc), gw_gW D ca es A ad hd (gw_up σ 25 0 v) γ ord ν H1 → va_S A H0 H1 locs1 → W p l e R s m args below meth c H1 locs1 cells slots Q (F0 m (pc + 3) ls rest)) : W p l e R s m args below meth c H locs cells slots Q (F0 m pc ls (.int v :: .ref (ad 0 0) :: rest)) := by
  refine gw_put hexec hb hts in_X1 tyX1 tyX1_ok nmX1 hown hK hS (gw_c0 hG) (gw_gA hG (0, 0) rfl) rfl 19 (by decide) hlink rfl (tyX1_ok 19 (by decide)) rfl rfl (by show 19 < 24; decide) hdg fun H1 locs1 he oq hz hS1 => ?_
  exact kk H1 locs1 (gw_W.set hG (r := (0, 0)) rfl rfl gw_fr0_25 he oq) hS1
theorem gw_gput0_15 (hexec : p.tables.exec = Jvm.exec) (hb : c.code = cc) {index : Nat} (hts : ∀ w ∈ lw_all, w.before args s = true) (hown : s.vm.findClass RX1 = some m.cls) (hK : va_K D gw_cl (gw_tys ca) s) (hG : gw_gW D ca es A ad hd σ γ ord ν H) (hS : va_S A H0 H locs) (hlink : (Cond.fieldLink RX1 index (TX1 13).1 (TX1 13).2.1 (TX1 13).2.2.1).before args s = true) (hdg : decode cc pc = .ok (.putfield index, 3)) {v : Int32}
    (kk : ∀ (H1 : Heap) (locs1 : List Loc), gw_gW D ca es A ad hd (gw_up σ 15 0 v) γ ord ν H1 → va_S A H0 H1 locs1 → W p l e R s m args below meth c H1 locs1 cells slots Q (F0 m (pc + 3) ls rest)) : W p l e R s m args below meth c H locs cells slots Q (F0 m pc ls (.int v :: .ref (ad 0 0) :: rest)) := by
  refine gw_put hexec hb hts in_X1 tyX1 tyX1_ok nmX1 hown hK hS (gw_c0 hG) (gw_gA hG (0, 0) rfl) rfl 13 (by decide) hlink rfl (tyX1_ok 13 (by decide)) rfl rfl (by show 13 < 24; decide) hdg fun H1 locs1 he oq hz hS1 => ?_
  exact kk H1 locs1 (gw_W.set hG (r := (0, 0)) rfl rfl gw_fr0_15 he oq) hS1
theorem gw_gput0_31 (hexec : p.tables.exec = Jvm.exec) (hb : c.code = cc) {index : Nat} (hts : ∀ w ∈ lw_all, w.before args s = true) (hown : s.vm.findClass RX1 = some m.cls) (hK : va_K D gw_cl (gw_tys ca) s) (hG : gw_gW D ca es A ad hd σ γ ord ν H) (hS : va_S A H0 H locs) (hlink : (Cond.fieldLink RX1 index (TX1 3).1 (TX1 3).2.1 (TX1 3).2.2.1).before args s = true) (hdg : decode cc pc = .ok (.putfield index, 3)) {v : Int32}
    (kk : ∀ (H1 : Heap) (locs1 : List Loc), gw_gW D ca es A ad hd (gw_up σ 31 0 v) γ ord ν H1 → va_S A H0 H1 locs1 → W p l e R s m args below meth c H1 locs1 cells slots Q (F0 m (pc + 3) ls rest)) : W p l e R s m args below meth c H locs cells slots Q (F0 m pc ls (.int v :: .ref (ad 0 0) :: rest)) := by
  refine gw_put hexec hb hts in_X1 tyX1 tyX1_ok nmX1 hown hK hS (gw_c0 hG) (gw_gA hG (0, 0) rfl) rfl 3 (by decide) hlink rfl (tyX1_ok 3 (by decide)) rfl rfl (by show 3 < 24; decide) hdg fun H1 locs1 he oq hz hS1 => ?_
  exact kk H1 locs1 (gw_W.set hG (r := (0, 0)) rfl rfl gw_fr0_31 he oq) hS1
theorem gw_gput12_20 {j : Nat} (hexec : p.tables.exec = Jvm.exec) (hb : c.code = cc) {index : Nat} (hts : ∀ w ∈ lw_all, w.before args s = true) (hown : s.vm.findClass RX8 = some m.cls) (hK : va_K D gw_cl (gw_tys ca) s) (hG : gw_gW D ca es A ad hd σ γ ord ν H) (hS : va_S A H0 H locs) (hj : j < ν 3) (hlink : (Cond.fieldLink RX8 index (TX8 7).1 (TX8 7).2.1 (TX8 7).2.2.1).before args s = true) (hdg : decode cc pc = .ok (.putfield index, 3)) {v : Int32}
    (kk : ∀ (H1 : Heap) (locs1 : List Loc), gw_gW D ca es A ad hd (gw_up σ 20 j v) γ ord ν H1 → va_S A H0 H1 locs1 → W p l e R s m args below meth c H1 locs1 cells slots Q (F0 m (pc + 3) ls rest)) : W p l e R s m args below meth c H locs cells slots Q (F0 m pc ls (.int v :: .ref (ad 12 j) :: rest)) := by
  refine gw_put hexec hb hts in_X8 tyX8 tyX8_ok nmX8 hown hK hS (gw_c12 hG hj) (gw_gA hG (12, j) (show (if j < ν 3 then _ else _) = _ from if_pos hj)) rfl 7 (by decide) hlink rfl (tyX8_ok 7 (by decide)) rfl rfl (by show 7 < 11; decide) hdg fun H1 locs1 he oq hz hS1 => ?_
  refine kk H1 locs1 (gw_W.set hG (r := (12, j)) (show (if j < ν 3 then _ else _) = _ from if_pos hj) (show (if j < ν 3 then _ else _) = _ from if_pos hj) gw_fr12_20 ?_ oq) hS1
  have e9 : (gw_app8 es ad σ j).set 7 (.int v) = gw_app8 es ad (gw_up σ 20 j v) j := by simp [gw_app8, gw_up, upd]
  rw [← e9]
  exact he
theorem gw_gput12N_20 {j : Nat} (hexec : p.tables.exec = Jvm.exec) (hb : c.code = cc) {index : Nat} {host : String} (hts : ∀ w ∈ lw_all, w.before args s = true) (hown : s.vm.findClass RX1 = some m.cls) (hK : va_K D gw_cl (gw_tys ca) s) (hG : gw_gW D ca es A ad hd σ γ ord ν H) (hS : va_S A H0 H locs) (hj : j < ν 3) (hlink : va_Nw (.fieldLinkNest RX1 index (TX8 7).1 (TX8 7).2.1 (TX8 7).2.2.1 host) s) (hdg : decode cc pc = .ok (.putfield index, 3)) {v : Int32}
    (kk : ∀ (H1 : Heap) (locs1 : List Loc), gw_gW D ca es A ad hd (gw_up σ 20 j v) γ ord ν H1 → va_S A H0 H1 locs1 → W p l e R s m args below meth c H1 locs1 cells slots Q (F0 m (pc + 3) ls rest)) : W p l e R s m args below meth c H locs cells slots Q (F0 m pc ls (.int v :: .ref (ad 12 j) :: rest)) := by
  refine gw_putN hexec hb hts in_X8 tyX8 tyX8_ok nmX8 hown hK hS (gw_c12 hG hj) (gw_gA hG (12, j) (show (if j < ν 3 then _ else _) = _ from if_pos hj)) rfl 7 (by decide) hlink rfl (tyX8_ok 7 (by decide)) rfl rfl (by show 7 < 11; decide) hdg fun H1 locs1 he oq hz hS1 => ?_
  refine kk H1 locs1 (gw_W.set hG (r := (12, j)) (show (if j < ν 3 then _ else _) = _ from if_pos hj) (show (if j < ν 3 then _ else _) = _ from if_pos hj) gw_fr12_20 ?_ oq) hS1
  have e9 : (gw_app8 es ad σ j).set 7 (.int v) = gw_app8 es ad (gw_up σ 20 j v) j := by simp [gw_app8, gw_up, upd]
  rw [← e9]
  exact he
theorem gw_gput12_21 {j : Nat} (hexec : p.tables.exec = Jvm.exec) (hb : c.code = cc) {index : Nat} (hts : ∀ w ∈ lw_all, w.before args s = true) (hown : s.vm.findClass RX8 = some m.cls) (hK : va_K D gw_cl (gw_tys ca) s) (hG : gw_gW D ca es A ad hd σ γ ord ν H) (hS : va_S A H0 H locs) (hj : j < ν 3) (hlink : (Cond.fieldLink RX8 index (TX8 8).1 (TX8 8).2.1 (TX8 8).2.2.1).before args s = true) (hdg : decode cc pc = .ok (.putfield index, 3)) {v : Int32}
    (kk : ∀ (H1 : Heap) (locs1 : List Loc), gw_gW D ca es A ad hd (gw_up σ 21 j v) γ ord ν H1 → va_S A H0 H1 locs1 → W p l e R s m args below meth c H1 locs1 cells slots Q (F0 m (pc + 3) ls rest)) : W p l e R s m args below meth c H locs cells slots Q (F0 m pc ls (.int v :: .ref (ad 12 j) :: rest)) := by
  refine gw_put hexec hb hts in_X8 tyX8 tyX8_ok nmX8 hown hK hS (gw_c12 hG hj) (gw_gA hG (12, j) (show (if j < ν 3 then _ else _) = _ from if_pos hj)) rfl 8 (by decide) hlink rfl (tyX8_ok 8 (by decide)) rfl rfl (by show 8 < 11; decide) hdg fun H1 locs1 he oq hz hS1 => ?_
  refine kk H1 locs1 (gw_W.set hG (r := (12, j)) (show (if j < ν 3 then _ else _) = _ from if_pos hj) (show (if j < ν 3 then _ else _) = _ from if_pos hj) gw_fr12_21 ?_ oq) hS1
  have e9 : (gw_app8 es ad σ j).set 8 (.int v) = gw_app8 es ad (gw_up σ 21 j v) j := by simp [gw_app8, gw_up, upd]
  rw [← e9]
  exact he
theorem gw_gput12N_21 {j : Nat} (hexec : p.tables.exec = Jvm.exec) (hb : c.code = cc) {index : Nat} {host : String} (hts : ∀ w ∈ lw_all, w.before args s = true) (hown : s.vm.findClass RX1 = some m.cls) (hK : va_K D gw_cl (gw_tys ca) s) (hG : gw_gW D ca es A ad hd σ γ ord ν H) (hS : va_S A H0 H locs) (hj : j < ν 3) (hlink : va_Nw (.fieldLinkNest RX1 index (TX8 8).1 (TX8 8).2.1 (TX8 8).2.2.1 host) s) (hdg : decode cc pc = .ok (.putfield index, 3)) {v : Int32}
    (kk : ∀ (H1 : Heap) (locs1 : List Loc), gw_gW D ca es A ad hd (gw_up σ 21 j v) γ ord ν H1 → va_S A H0 H1 locs1 → W p l e R s m args below meth c H1 locs1 cells slots Q (F0 m (pc + 3) ls rest)) : W p l e R s m args below meth c H locs cells slots Q (F0 m pc ls (.int v :: .ref (ad 12 j) :: rest)) := by
  refine gw_putN hexec hb hts in_X8 tyX8 tyX8_ok nmX8 hown hK hS (gw_c12 hG hj) (gw_gA hG (12, j) (show (if j < ν 3 then _ else _) = _ from if_pos hj)) rfl 8 (by decide) hlink rfl (tyX8_ok 8 (by decide)) rfl rfl (by show 8 < 11; decide) hdg fun H1 locs1 he oq hz hS1 => ?_
  refine kk H1 locs1 (gw_W.set hG (r := (12, j)) (show (if j < ν 3 then _ else _) = _ from if_pos hj) (show (if j < ν 3 then _ else _) = _ from if_pos hj) gw_fr12_21 ?_ oq) hS1
  have e9 : (gw_app8 es ad σ j).set 8 (.int v) = gw_app8 es ad (gw_up σ 21 j v) j := by simp [gw_app8, gw_up, upd]
  rw [← e9]
  exact he
theorem gw_gput12_23 {j : Nat} (hexec : p.tables.exec = Jvm.exec) (hb : c.code = cc) {index : Nat} (hts : ∀ w ∈ lw_all, w.before args s = true) (hown : s.vm.findClass RX8 = some m.cls) (hK : va_K D gw_cl (gw_tys ca) s) (hG : gw_gW D ca es A ad hd σ γ ord ν H) (hS : va_S A H0 H locs) (hj : j < ν 3) (hlink : (Cond.fieldLink RX8 index (TX8 9).1 (TX8 9).2.1 (TX8 9).2.2.1).before args s = true) (hdg : decode cc pc = .ok (.putfield index, 3)) {v : Int32}
    (kk : ∀ (H1 : Heap) (locs1 : List Loc), gw_gW D ca es A ad hd (gw_up σ 23 j v) γ ord ν H1 → va_S A H0 H1 locs1 → W p l e R s m args below meth c H1 locs1 cells slots Q (F0 m (pc + 3) ls rest)) : W p l e R s m args below meth c H locs cells slots Q (F0 m pc ls (.int v :: .ref (ad 12 j) :: rest)) := by
  refine gw_put hexec hb hts in_X8 tyX8 tyX8_ok nmX8 hown hK hS (gw_c12 hG hj) (gw_gA hG (12, j) (show (if j < ν 3 then _ else _) = _ from if_pos hj)) rfl 9 (by decide) hlink rfl (tyX8_ok 9 (by decide)) rfl rfl (by show 9 < 11; decide) hdg fun H1 locs1 he oq hz hS1 => ?_
  refine kk H1 locs1 (gw_W.set hG (r := (12, j)) (show (if j < ν 3 then _ else _) = _ from if_pos hj) (show (if j < ν 3 then _ else _) = _ from if_pos hj) gw_fr12_23 ?_ oq) hS1
  have e9 : (gw_app8 es ad σ j).set 9 (.int v) = gw_app8 es ad (gw_up σ 23 j v) j := by simp [gw_app8, gw_up, upd]
  rw [← e9]
  exact he
theorem gw_gput12N_23 {j : Nat} (hexec : p.tables.exec = Jvm.exec) (hb : c.code = cc) {index : Nat} {host : String} (hts : ∀ w ∈ lw_all, w.before args s = true) (hown : s.vm.findClass RX1 = some m.cls) (hK : va_K D gw_cl (gw_tys ca) s) (hG : gw_gW D ca es A ad hd σ γ ord ν H) (hS : va_S A H0 H locs) (hj : j < ν 3) (hlink : va_Nw (.fieldLinkNest RX1 index (TX8 9).1 (TX8 9).2.1 (TX8 9).2.2.1 host) s) (hdg : decode cc pc = .ok (.putfield index, 3)) {v : Int32}
    (kk : ∀ (H1 : Heap) (locs1 : List Loc), gw_gW D ca es A ad hd (gw_up σ 23 j v) γ ord ν H1 → va_S A H0 H1 locs1 → W p l e R s m args below meth c H1 locs1 cells slots Q (F0 m (pc + 3) ls rest)) : W p l e R s m args below meth c H locs cells slots Q (F0 m pc ls (.int v :: .ref (ad 12 j) :: rest)) := by
  refine gw_putN hexec hb hts in_X8 tyX8 tyX8_ok nmX8 hown hK hS (gw_c12 hG hj) (gw_gA hG (12, j) (show (if j < ν 3 then _ else _) = _ from if_pos hj)) rfl 9 (by decide) hlink rfl (tyX8_ok 9 (by decide)) rfl rfl (by show 9 < 11; decide) hdg fun H1 locs1 he oq hz hS1 => ?_
  refine kk H1 locs1 (gw_W.set hG (r := (12, j)) (show (if j < ν 3 then _ else _) = _ from if_pos hj) (show (if j < ν 3 then _ else _) = _ from if_pos hj) gw_fr12_23 ?_ oq) hS1
  have e9 : (gw_app8 es ad σ j).set 9 (.int v) = gw_app8 es ad (gw_up σ 23 j v) j := by simp [gw_app8, gw_up, upd]
  rw [← e9]
  exact he
theorem gw_gput12_24 {j : Nat} (hexec : p.tables.exec = Jvm.exec) (hb : c.code = cc) {index : Nat} (hts : ∀ w ∈ lw_all, w.before args s = true) (hown : s.vm.findClass RX8 = some m.cls) (hK : va_K D gw_cl (gw_tys ca) s) (hG : gw_gW D ca es A ad hd σ γ ord ν H) (hS : va_S A H0 H locs) (hj : j < ν 3) (hlink : (Cond.fieldLink RX8 index (TX8 10).1 (TX8 10).2.1 (TX8 10).2.2.1).before args s = true) (hdg : decode cc pc = .ok (.putfield index, 3)) {v : Int32}
    (kk : ∀ (H1 : Heap) (locs1 : List Loc), gw_gW D ca es A ad hd (gw_up σ 24 j v) γ ord ν H1 → va_S A H0 H1 locs1 → W p l e R s m args below meth c H1 locs1 cells slots Q (F0 m (pc + 3) ls rest)) : W p l e R s m args below meth c H locs cells slots Q (F0 m pc ls (.int v :: .ref (ad 12 j) :: rest)) := by
  refine gw_put hexec hb hts in_X8 tyX8 tyX8_ok nmX8 hown hK hS (gw_c12 hG hj) (gw_gA hG (12, j) (show (if j < ν 3 then _ else _) = _ from if_pos hj)) rfl 10 (by decide) hlink rfl (tyX8_ok 10 (by decide)) rfl rfl (by show 10 < 11; decide) hdg fun H1 locs1 he oq hz hS1 => ?_
  refine kk H1 locs1 (gw_W.set hG (r := (12, j)) (show (if j < ν 3 then _ else _) = _ from if_pos hj) (show (if j < ν 3 then _ else _) = _ from if_pos hj) gw_fr12_24 ?_ oq) hS1
  have e9 : (gw_app8 es ad σ j).set 10 (.int v) = gw_app8 es ad (gw_up σ 24 j v) j := by simp [gw_app8, gw_up, upd]
  rw [← e9]
  exact he
theorem gw_gput12N_24 {j : Nat} (hexec : p.tables.exec = Jvm.exec) (hb : c.code = cc) {index : Nat} {host : String} (hts : ∀ w ∈ lw_all, w.before args s = true) (hown : s.vm.findClass RX1 = some m.cls) (hK : va_K D gw_cl (gw_tys ca) s) (hG : gw_gW D ca es A ad hd σ γ ord ν H) (hS : va_S A H0 H locs) (hj : j < ν 3) (hlink : va_Nw (.fieldLinkNest RX1 index (TX8 10).1 (TX8 10).2.1 (TX8 10).2.2.1 host) s) (hdg : decode cc pc = .ok (.putfield index, 3)) {v : Int32}
    (kk : ∀ (H1 : Heap) (locs1 : List Loc), gw_gW D ca es A ad hd (gw_up σ 24 j v) γ ord ν H1 → va_S A H0 H1 locs1 → W p l e R s m args below meth c H1 locs1 cells slots Q (F0 m (pc + 3) ls rest)) : W p l e R s m args below meth c H locs cells slots Q (F0 m pc ls (.int v :: .ref (ad 12 j) :: rest)) := by
  refine gw_putN hexec hb hts in_X8 tyX8 tyX8_ok nmX8 hown hK hS (gw_c12 hG hj) (gw_gA hG (12, j) (show (if j < ν 3 then _ else _) = _ from if_pos hj)) rfl 10 (by decide) hlink rfl (tyX8_ok 10 (by decide)) rfl rfl (by show 10 < 11; decide) hdg fun H1 locs1 he oq hz hS1 => ?_
  refine kk H1 locs1 (gw_W.set hG (r := (12, j)) (show (if j < ν 3 then _ else _) = _ from if_pos hj) (show (if j < ν 3 then _ else _) = _ from if_pos hj) gw_fr12_24 ?_ oq) hS1
  have e9 : (gw_app8 es ad σ j).set 10 (.int v) = gw_app8 es ad (gw_up σ 24 j v) j := by simp [gw_app8, gw_up, upd]
  rw [← e9]
  exact he
theorem gw_gput12_22 {j : Nat} (hexec : p.tables.exec = Jvm.exec) (hb : c.code = cc) {index : Nat} (hts : ∀ w ∈ lw_all, w.before args s = true) (hown : s.vm.findClass RX8 = some m.cls) (hK : va_K D gw_cl (gw_tys ca) s) (hG : gw_gW D ca es A ad hd σ γ ord ν H) (hS : va_S A H0 H locs) (hj : j < ν 3) (hlink : (Cond.fieldLink RX8 index (TX8 6).1 (TX8 6).2.1 (TX8 6).2.2.1).before args s = true) (hdg : decode cc pc = .ok (.putfield index, 3)) {v : Int32}
    (kk : ∀ (H1 : Heap) (locs1 : List Loc), gw_gW D ca es A ad hd (gw_up σ 22 j v) γ ord ν H1 → va_S A H0 H1 locs1 → W p l e R s m args below meth c H1 locs1 cells slots Q (F0 m (pc + 3) ls rest)) : W p l e R s m args below meth c H locs cells slots Q (F0 m pc ls (.ref (es (gw_ix v)) :: .ref (ad 12 j) :: rest)) := by
  refine gw_put hexec hb hts in_X8 tyX8 tyX8_ok nmX8 hown hK hS (gw_c12 hG hj) (gw_gA hG (12, j) (show (if j < ν 3 then _ else _) = _ from if_pos hj)) rfl 6 (by decide) hlink rfl (tyX8_ok 6 (by decide)) rfl rfl (by show 6 < 11; decide) hdg fun H1 locs1 he oq hz hS1 => ?_
  refine kk H1 locs1 (gw_W.set hG (r := (12, j)) (show (if j < ν 3 then _ else _) = _ from if_pos hj) (show (if j < ν 3 then _ else _) = _ from if_pos hj) gw_fr12_22 ?_ oq) hS1
  have e9 : (gw_app8 es ad σ j).set 6 (.ref (es (gw_ix v))) = gw_app8 es ad (gw_up σ 22 j v) j := by simp [gw_app8, gw_up, upd]
  rw [← e9]
  exact he
theorem gw_gput12N_22 {j : Nat} (hexec : p.tables.exec = Jvm.exec) (hb : c.code = cc) {index : Nat} {host : String} (hts : ∀ w ∈ lw_all, w.before args s = true) (hown : s.vm.findClass RX1 = some m.cls) (hK : va_K D gw_cl (gw_tys ca) s) (hG : gw_gW D ca es A ad hd σ γ ord ν H) (hS : va_S A H0 H locs) (hj : j < ν 3) (hlink : va_Nw (.fieldLinkNest RX1 index (TX8 6).1 (TX8 6).2.1 (TX8 6).2.2.1 host) s) (hdg : decode cc pc = .ok (.putfield index, 3)) {v : Int32}
    (kk : ∀ (H1 : Heap) (locs1 : List Loc), gw_gW D ca es A ad hd (gw_up σ 22 j v) γ ord ν H1 → va_S A H0 H1 locs1 → W p l e R s m args below meth c H1 locs1 cells slots Q (F0 m (pc + 3) ls rest)) : W p l e R s m args below meth c H locs cells slots Q (F0 m pc ls (.ref (es (gw_ix v)) :: .ref (ad 12 j) :: rest)) := by
  refine gw_putN hexec hb hts in_X8 tyX8 tyX8_ok nmX8 hown hK hS (gw_c12 hG hj) (gw_gA hG (12, j) (show (if j < ν 3 then _ else _) = _ from if_pos hj)) rfl 6 (by decide) hlink rfl (tyX8_ok 6 (by decide)) rfl rfl (by show 6 < 11; decide) hdg fun H1 locs1 he oq hz hS1 => ?_
  refine kk H1 locs1 (gw_W.set hG (r := (12, j)) (show (if j < ν 3 then _ else _) = _ from if_pos hj) (show (if j < ν 3 then _ else _) = _ from if_pos hj) gw_fr12_22 ?_ oq) hS1
  have e9 : (gw_app8 es ad σ j).set 6 (.ref (es (gw_ix v))) = gw_app8 es ad (gw_up σ 22 j v) j := by simp [gw_app8, gw_up, upd]
  rw [← e9]
  exact he
theorem gw_gput11_4 {j : Nat} (hexec : p.tables.exec = Jvm.exec) (hb : c.code = cc) {index : Nat} {host : String} (hts : ∀ w ∈ lw_all, w.before args s = true) (hown : s.vm.findClass RX1 = some m.cls) (hK : va_K D gw_cl (gw_tys ca) s) (hG : gw_gW D ca es A ad hd σ γ ord ν H) (hS : va_S A H0 H locs) (hj : j ∈ ord) (hlink : va_Nw (.fieldLinkNest RX1 index (TX5 4).1 (TX5 4).2.1 (TX5 4).2.2.1 host) s) (hdg : decode cc pc = .ok (.putfield index, 3)) {v : Int32}
    (kk : ∀ (H1 : Heap) (locs1 : List Loc), gw_gW D ca es A ad hd (gw_up σ 4 j v) γ ord ν H1 → va_S A H0 H1 locs1 → W p l e R s m args below meth c H1 locs1 cells slots Q (F0 m (pc + 3) ls rest)) : W p l e R s m args below meth c H locs cells slots Q (F0 m pc ls (.int v :: .ref (hd 11 j) :: rest)) := by
  refine gw_putN hexec hb hts in_X5 tyX5 tyX5_ok nmX5 hown hK hS (gw_c11 hG hj) (gw_gA hG (11, j) (show (if j ∈ ord then _ else _) = _ from if_pos hj)) rfl 4 (by decide) hlink rfl (tyX5_ok 4 (by decide)) rfl rfl (by show 4 < 7; decide) hdg fun H1 locs1 he oq hz hS1 => ?_
  refine kk H1 locs1 (gw_W.set hG (r := (11, j)) (show (if j ∈ ord then _ else _) = _ from if_pos hj) (show (if j ∈ ord then _ else _) = _ from if_pos hj) gw_fr11_4 ?_ oq) hS1
  have e9 : (gw_acc5 hd σ ord j).set 4 (.int v) = gw_acc5 hd (gw_up σ 4 j v) ord j := by simp [gw_acc5, gw_up, upd]
  rw [← e9]
  exact he
theorem gw_gput11_5 {j : Nat} (hexec : p.tables.exec = Jvm.exec) (hb : c.code = cc) {index : Nat} {host : String} (hts : ∀ w ∈ lw_all, w.before args s = true) (hown : s.vm.findClass RX1 = some m.cls) (hK : va_K D gw_cl (gw_tys ca) s) (hG : gw_gW D ca es A ad hd σ γ ord ν H) (hS : va_S A H0 H locs) (hj : j ∈ ord) (hlink : va_Nw (.fieldLinkNest RX1 index (TX5 5).1 (TX5 5).2.1 (TX5 5).2.2.1 host) s) (hdg : decode cc pc = .ok (.putfield index, 3)) {v : Int32}
    (kk : ∀ (H1 : Heap) (locs1 : List Loc), gw_gW D ca es A ad hd (gw_up σ 5 j v) γ ord ν H1 → va_S A H0 H1 locs1 → W p l e R s m args below meth c H1 locs1 cells slots Q (F0 m (pc + 3) ls rest)) : W p l e R s m args below meth c H locs cells slots Q (F0 m pc ls (.int v :: .ref (hd 11 j) :: rest)) := by
  refine gw_putN hexec hb hts in_X5 tyX5 tyX5_ok nmX5 hown hK hS (gw_c11 hG hj) (gw_gA hG (11, j) (show (if j ∈ ord then _ else _) = _ from if_pos hj)) rfl 5 (by decide) hlink rfl (tyX5_ok 5 (by decide)) rfl rfl (by show 5 < 7; decide) hdg fun H1 locs1 he oq hz hS1 => ?_
  refine kk H1 locs1 (gw_W.set hG (r := (11, j)) (show (if j ∈ ord then _ else _) = _ from if_pos hj) (show (if j ∈ ord then _ else _) = _ from if_pos hj) gw_fr11_5 ?_ oq) hS1
  have e9 : (gw_acc5 hd σ ord j).set 5 (.int v) = gw_acc5 hd (gw_up σ 5 j v) ord j := by simp [gw_acc5, gw_up, upd]
  rw [← e9]
  exact he
theorem gw_gput11_6 {j : Nat} (hexec : p.tables.exec = Jvm.exec) (hb : c.code = cc) {index : Nat} {host : String} (hts : ∀ w ∈ lw_all, w.before args s = true) (hown : s.vm.findClass RX1 = some m.cls) (hK : va_K D gw_cl (gw_tys ca) s) (hG : gw_gW D ca es A ad hd σ γ ord ν H) (hS : va_S A H0 H locs) (hj : j ∈ ord) (hlink : va_Nw (.fieldLinkNest RX1 index (TX5 6).1 (TX5 6).2.1 (TX5 6).2.2.1 host) s) (hdg : decode cc pc = .ok (.putfield index, 3)) {v : Int32}
    (kk : ∀ (H1 : Heap) (locs1 : List Loc), gw_gW D ca es A ad hd (gw_up σ 6 j v) γ ord ν H1 → va_S A H0 H1 locs1 → W p l e R s m args below meth c H1 locs1 cells slots Q (F0 m (pc + 3) ls rest)) : W p l e R s m args below meth c H locs cells slots Q (F0 m pc ls (.int v :: .ref (hd 11 j) :: rest)) := by
  refine gw_putN hexec hb hts in_X5 tyX5 tyX5_ok nmX5 hown hK hS (gw_c11 hG hj) (gw_gA hG (11, j) (show (if j ∈ ord then _ else _) = _ from if_pos hj)) rfl 6 (by decide) hlink rfl (tyX5_ok 6 (by decide)) rfl rfl (by show 6 < 7; decide) hdg fun H1 locs1 he oq hz hS1 => ?_
  refine kk H1 locs1 (gw_W.set hG (r := (11, j)) (show (if j ∈ ord then _ else _) = _ from if_pos hj) (show (if j ∈ ord then _ else _) = _ from if_pos hj) gw_fr11_6 ?_ oq) hS1
  have e9 : (gw_acc5 hd σ ord j).set 6 (.int v) = gw_acc5 hd (gw_up σ 6 j v) ord j := by simp [gw_acc5, gw_up, upd]
  rw [← e9]
  exact he
theorem gw_gaskst {i j : Nat} (hexec : p.tables.exec = Jvm.exec) (hb : c.code = cc) (hK : va_K D gw_cl (gw_tys ca) s) (hG : gw_gW D ca es A ad hd σ γ ord ν H) (hS : va_S A H0 H locs) (hj : j < ν 3) (hi : i < 3) (hdg : decode cc pc = .ok (.iastore, 1)) {v : Int32}
    (kk : ∀ (H1 : Heap) (locs1 : List Loc), gw_gW D ca es A ad hd (gw_up σ 19 (3 * j + i) v) γ ord ν H1 → va_S A H0 H1 locs1 → W p l e R s m args below meth c H1 locs1 cells slots Q (F0 m (pc + 1) ls rest)) : W p l e R s m args below meth c H locs cells slots Q (F0 m pc ls (.int v :: .int (nI i) :: .ref (ad 13 j) :: rest)) := by
  refine gw_ast hexec hb hK hS (gw_c13 hG hj) (gw_gA hG (13, j) (show (if j < ν 3 then _ else _) = _ from if_pos hj)) (vp_in_nI hi (by decide)) hdg fun H1 locs1 he1 oq hz1 hS1 => ?_
  rw [gw_ix_nI (by omega)] at he1
  refine kk H1 locs1 (gw_W.set hG (r := (13, j)) (show (if j < ν 3 then _ else _) = _ from if_pos hj) (show (if j < ν 3 then _ else _) = _ from if_pos hj) (gw_fr13 hi) ?_ oq) hS1
  have e9 : upd (fun i' => if i' < 3 then σ 19 (3 * j + i') else 0) i v = (fun i' => if i' < 3 then (gw_up σ 19 (3 * j + i) v) 19 (3 * j + i') else 0) := by
    funext i'
    rw [gw_up_s]
    simp only [upd]
    by_cases q : i' = i
    · subst q; simp [hi]
    · rw [if_neg q]
      by_cases q2 : i' < 3
      · rw [if_pos q2, if_pos q2, if_neg (by omega)]
      · rw [if_neg q2, if_neg q2]
  rw [e9] at he1
  exact he1
theorem gw_grevst {i j : Nat} (hexec : p.tables.exec = Jvm.exec) (hb : c.code = cc) (hK : va_K D gw_cl (gw_tys ca) s) (hG : gw_gW D ca es A ad hd σ γ ord ν H) (hS : va_S A H0 H locs) (hj : j < ν 3) (hj24 : j < 24) (hi : i < 10) (hdg : decode cc pc = .ok (.iastore, 1)) {v : Int32}
    (kk : ∀ (H1 : Heap) (locs1 : List Loc), gw_gW D ca es A ad hd (gw_up σ 30 (24 * i + j) v) γ ord ν H1 → va_S A H0 H1 locs1 → W p l e R s m args below meth c H1 locs1 cells slots Q (F0 m (pc + 1) ls rest)) : W p l e R s m args below meth c H locs cells slots Q (F0 m pc ls (.int v :: .int (nI i) :: .ref (ad 14 j) :: rest)) := by
  refine gw_ast hexec hb hK hS (gw_c14 hG hj) (gw_gA hG (14, j) (show (if j < ν 3 then _ else _) = _ from if_pos hj)) (vp_in_nI hi (by decide)) hdg fun H1 locs1 he1 oq hz1 hS1 => ?_
  rw [gw_ix_nI (by omega)] at he1
  refine kk H1 locs1 (gw_W.set hG (r := (14, j)) (show (if j < ν 3 then _ else _) = _ from if_pos hj) (show (if j < ν 3 then _ else _) = _ from if_pos hj) (gw_fr14 hj24) ?_ oq) hS1
  have e9 : upd (fun i' => if i' < 10 ∧ j < 24 then σ 30 (24 * i' + j) else 0) i v = (fun i' => if i' < 10 ∧ j < 24 then (gw_up σ 30 (24 * i + j) v) 30 (24 * i' + j) else 0) := by
    funext i'
    rw [gw_up_s]
    simp only [upd]
    by_cases q : i' = i
    · subst q; simp [hi, hj24]
    · rw [if_neg q]
      by_cases q2 : i' < 10 ∧ j < 24
      · rw [if_pos q2, if_pos q2, if_neg (by omega)]
      · rw [if_neg q2, if_neg q2]
  rw [e9] at he1
  exact he1
end GWS
