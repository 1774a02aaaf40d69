/-! WHAT THE WALKS ASK OF THE STATE: J (numbers in their ranges), P (room in the ledger) -/
theorem gw_lit0 : (0 : Int32) = nI 0 := rfl
theorem gw_lit1 : (1 : Int32) = nI 1 := rfl
theorem gw_lit2 : (2 : Int32) = nI 2 := rfl
theorem gw_lit3 : (3 : Int32) = nI 3 := rfl
theorem gw_lit7 : (7 : Int32) = nI 7 := rfl
theorem gw_lit8 : (8 : Int32) = nI 8 := rfl
theorem gw_lit10 : (10 : Int32) = nI 10 := rfl
theorem gw_lit12 : (12 : Int32) = nI 12 := rfl
theorem gw_lit24 : (24 : Int32) = nI 24 := rfl
theorem gw_lit30 : (30 : Int32) = nI 30 := rfl
theorem gw_mad (c x y : Nat) : nI c * nI x + nI y = nI (c * x + y) := by rw [pk_mul, nI_add]
theorem gw_inc (t : Nat) : nI t + Int32.ofInt 1 = nI (t + 1) := by
  rw [show Int32.ofInt 1 = 1 from by decide]; exact nI_1 t
theorem gw_spre {s : State} {H : Heap} {As : List Value} : PreS s H (va_Pc As (fun _ => True)) As := ⟨fun _ _ _ _ q => ⟨q.1, trivial⟩, fun _ _ _ => ⟨rfl, trivial⟩⟩
def gw_J (σ : gw_S) : Prop :=
  (σ 7 0 = nI (gw_n σ 7) ∧ gw_n σ 7 ≤ 6) ∧ (σ 15 0 = nI (gw_n σ 15) ∧ gw_n σ 15 ≤ 24) ∧ (σ 25 0 = nI (gw_n σ 25) ∧ gw_n σ 25 ≤ 10) ∧
  (∀ c, c < gw_n σ 7 → σ 8 c = nI (gw_ix (σ 8 c)) ∧ gw_ix (σ 8 c) ≤ 3 ∧ σ 11 c = nI (gw_ix (σ 11 c)) ∧ gw_ix (σ 11 c) ≤ 9) ∧
  (∀ a, a < gw_n σ 15 → σ 16 a = nI (gw_co σ a) ∧ gw_co σ a < gw_n σ 7 ∧ σ 17 a = nI (gw_ix (σ 17 a)) ∧ gw_ix (σ 17 a) ≤ 29) ∧
  (∀ c, c < 6 → σ 13 c = nI (gw_ix (σ 13 c)) ∧ gw_ix (σ 13 c) ≤ 24 ∧ ∀ k, k < gw_ix (σ 13 c) → σ 14 (24 * c + k) = nI (gw_li σ c k) ∧ gw_li σ c k < gw_n σ 15)
def gw_Jk (k : Nat) : Bool := k == 7 || k == 8 || k == 11 || k == 13 || k == 14 || k == 15 || k == 16 || k == 17 || k == 25
theorem gw_J.same {σ σ' : gw_S} (h : gw_J σ) (hs : ∀ k, gw_Jk k = true → σ' k = σ k) : gw_J σ' := by
  unfold gw_J gw_n gw_co gw_li at h ⊢
  rw [hs 7 rfl, hs 8 rfl, hs 11 rfl, hs 13 rfl, hs 14 rfl, hs 15 rfl, hs 16 rfl, hs 17 rfl, hs 25 rfl]
  exact h
theorem gw_J_up {σ : gw_S} {k j : Nat} {v : Int32} (hk : gw_Jk k = false) (h : gw_J σ) : gw_J (gw_up σ k j v) :=
  h.same fun k' hk' => gw_up_n σ j v (fun e => by rw [e, hk] at hk'; cases hk')
theorem gw_J.n7 {σ : gw_S} (h : gw_J σ) : σ 7 0 = nI (gw_n σ 7) := h.1.1
theorem gw_J.b7 {σ : gw_S} (h : gw_J σ) : gw_n σ 7 ≤ 6 := h.1.2
theorem gw_J.n15 {σ : gw_S} (h : gw_J σ) : σ 15 0 = nI (gw_n σ 15) := h.2.1.1
theorem gw_J.b15 {σ : gw_S} (h : gw_J σ) : gw_n σ 15 ≤ 24 := h.2.1.2
theorem gw_J.n25 {σ : gw_S} (h : gw_J σ) : σ 25 0 = nI (gw_n σ 25) := h.2.2.1.1
theorem gw_J.b25 {σ : gw_S} (h : gw_J σ) : gw_n σ 25 ≤ 10 := h.2.2.1.2
theorem gw_J.c8 {σ : gw_S} (h : gw_J σ) {c : Nat} (hc : c < gw_n σ 7) : σ 8 c = nI (gw_ix (σ 8 c)) := (h.2.2.2.1 c hc).1
theorem gw_J.c8b {σ : gw_S} (h : gw_J σ) {c : Nat} (hc : c < gw_n σ 7) : gw_ix (σ 8 c) ≤ 3 := (h.2.2.2.1 c hc).2.1
theorem gw_J.c11 {σ : gw_S} (h : gw_J σ) {c : Nat} (hc : c < gw_n σ 7) : σ 11 c = nI (gw_ix (σ 11 c)) := (h.2.2.2.1 c hc).2.2.1
theorem gw_J.c11b {σ : gw_S} (h : gw_J σ) {c : Nat} (hc : c < gw_n σ 7) : gw_ix (σ 11 c) ≤ 9 := (h.2.2.2.1 c hc).2.2.2
theorem gw_J.a16 {σ : gw_S} (h : gw_J σ) {a : Nat} (ha : a < gw_n σ 15) : σ 16 a = nI (gw_co σ a) := (h.2.2.2.2.1 a ha).1
theorem gw_J.a16b {σ : gw_S} (h : gw_J σ) {a : Nat} (ha : a < gw_n σ 15) : gw_co σ a < gw_n σ 7 := (h.2.2.2.2.1 a ha).2.1
theorem gw_J.a17 {σ : gw_S} (h : gw_J σ) {a : Nat} (ha : a < gw_n σ 15) : σ 17 a = nI (gw_ix (σ 17 a)) := (h.2.2.2.2.1 a ha).2.2.1
theorem gw_J.a17b {σ : gw_S} (h : gw_J σ) {a : Nat} (ha : a < gw_n σ 15) : gw_ix (σ 17 a) ≤ 29 := (h.2.2.2.2.1 a ha).2.2.2
theorem gw_J.l13 {σ : gw_S} (h : gw_J σ) {c : Nat} (hc : c < 6) : σ 13 c = nI (gw_ix (σ 13 c)) := (h.2.2.2.2.2 c hc).1
theorem gw_J.l13b {σ : gw_S} (h : gw_J σ) {c : Nat} (hc : c < 6) : gw_ix (σ 13 c) ≤ 24 := (h.2.2.2.2.2 c hc).2.1
theorem gw_J.l14 {σ : gw_S} (h : gw_J σ) {c k : Nat} (hc : c < 6) (hk : k < gw_ix (σ 13 c)) : σ 14 (24 * c + k) = nI (gw_li σ c k) := ((h.2.2.2.2.2 c hc).2.2 k hk).1
theorem gw_J.l14b {σ : gw_S} (h : gw_J σ) {c k : Nat} (hc : c < 6) (hk : k < gw_ix (σ 13 c)) : gw_li σ c k < gw_n σ 15 := ((h.2.2.2.2.2 c hc).2.2 k hk).2
theorem gw_J.atb {σ : gw_S} (h : gw_J σ) {a k : Nat} (ha : a < gw_n σ 15) (hk : k ≤ 2) : gw_at σ a k < 48 := by
  have h1 := h.a16b ha
  have h2 := h.c8b h1
  have h3 := h.c11b h1
  unfold gw_at
  omega
/-- milestones reported -/
def gw_J2 (σ : gw_S) : Prop := ∀ a, a < gw_n σ 15 → σ 23 a = nI (gw_ix (σ 23 a)) ∧ gw_ix (σ 23 a) ≤ 3 ∧ (σ 22 a = 2 → gw_ix (σ 23 a) ≤ 2)
theorem gw_J2.same {σ σ' : gw_S} (h : gw_J2 σ) (h15 : σ' 15 = σ 15) (h22 : σ' 22 = σ 22) (h23 : σ' 23 = σ 23) : gw_J2 σ' := by
  unfold gw_J2 gw_n at h ⊢
  rw [h15, h22, h23]
  exact h
/-! the ledger's room -/
def gw_cnt (σ : gw_S) : Nat → Nat
  | 0 => 0
  | a + 1 => gw_cnt σ a + if σ 22 a = 0 ∨ σ 22 a = 1 then 1 else 0
def gw_pot (σ : gw_S) : Nat := gw_n σ 31 + 3 * gw_cnt σ (gw_n σ 15)
def gw_P (σ : gw_S) (r : Nat) : Prop := σ 31 0 = nI (gw_n σ 31) ∧ gw_pot σ + r ≤ 400
theorem gw_P.n31 {σ : gw_S} {r : Nat} (h : gw_P σ r) : σ 31 0 = nI (gw_n σ 31) := h.1
theorem gw_P.b31 {σ : gw_S} {r : Nat} (h : gw_P σ r) : gw_n σ 31 + r ≤ 400 := by
  have := h.2; unfold gw_pot at this; omega
theorem gw_cnt_same {σ σ' : gw_S} (h22 : σ' 22 = σ 22) : ∀ n, gw_cnt σ' n = gw_cnt σ n
  | 0 => rfl
  | n + 1 => by simp only [gw_cnt]; rw [gw_cnt_same h22 n, h22]
theorem gw_P.same {σ σ' : gw_S} {r : Nat} (h : gw_P σ r) (h15 : σ' 15 = σ 15) (h22 : σ' 22 = σ 22) (h31 : σ' 31 = σ 31) : gw_P σ' r := by
  unfold gw_P gw_pot gw_n at h ⊢
  rw [h15, h31, gw_cnt_same h22]
  exact h
theorem gw_cnt_up {σ : gw_S} {a : Nat} {v : Int32} : ∀ n, gw_cnt (gw_up σ 22 a v) n + (if a < n ∧ (σ 22 a = 0 ∨ σ 22 a = 1) then 1 else 0) = gw_cnt σ n + (if a < n ∧ (v = 0 ∨ v = 1) then 1 else 0)
  | 0 => by simp [gw_cnt]
  | n + 1 => by
    have ih := gw_cnt_up (σ := σ) (a := a) (v := v) n
    simp only [gw_cnt, gw_up_s, upd]
    rcases Nat.lt_trichotomy a n with h | h | h
    · rw [if_neg (show ¬ n = a by omega)]
      simp only [h, show a < n + 1 by omega, true_and] at ih ⊢
      omega
    · subst h
      simp only [Nat.lt_irrefl, false_and, if_false, Nat.lt_succ_self, true_and] at ih ⊢
      simp only [if_true]
      omega
    · rw [if_neg (show ¬ n = a by omega)]
      simp only [show ¬ a < n by omega, show ¬ a < n + 1 by omega, false_and, if_false] at ih ⊢
      omega
/-! which columns the functions leave -/
theorem gw_enters_n {σ : gw_S} {kind money app : Int32} {t k : Nat} (hk : k < 31 ∨ 35 < k) : gw_enters σ kind t money app k = σ k := by
  unfold gw_enters
  split
  · rw [gw_up_n _ _ _ (by omega), gw_up_n _ _ _ (by omega), gw_up_n _ _ _ (by omega), gw_up_n _ _ _ (by omega), gw_up_n _ _ _ (by omega)]
  · rfl
theorem gw_resv_n {σ : gw_S} {a i k : Nat} (hk : (k < 31 ∨ 35 < k) ∧ k ≠ 5) : gw_resv σ a i k = σ k := by
  unfold gw_resv
  rw [gw_enters_n hk.1, gw_up_n _ _ _ hk.2]
def gw_gk (k : Nat) : Prop := (k < 31 ∨ 35 < k) ∧ k ≠ 5 ∧ k ≠ 22
theorem gw_comes_n {σ : gw_S} {a k : Nat} (hk : gw_gk k) : gw_comes σ a k = σ k := by
  unfold gw_comes
  rw [gw_up_n _ _ _ hk.2.2, gw_resv_n ⟨hk.1, hk.2.1⟩, gw_resv_n ⟨hk.1, hk.2.1⟩, gw_resv_n ⟨hk.1, hk.2.1⟩]
theorem gw_goM_n {c : Nat} : ∀ (n k : Nat) (σ : gw_S) {j : Nat}, gw_gk j → (gw_goM c n k σ).1 j = σ j
  | 0, _, _, _, _ => rfl
  | n + 1, k, σ, j, hj => by
    unfold gw_goM
    split
    · split
      · exact (gw_goM_n n (k + 1) _ hj).trans (gw_comes_n hj)
      · rfl
    · exact gw_goM_n n (k + 1) σ hj
theorem gw_go_n {σ : gw_S} {c k : Nat} (hk : gw_gk k) : (gw_go σ c).1 k = σ k := gw_goM_n _ _ _ hk
theorem gw_thru_n {its : Int32} : ∀ (n c : Nat) (σ : gw_S) {j : Nat}, gw_gk j → gw_thru its n c σ j = σ j
  | 0, _, _, _, _ => rfl
  | n + 1, c, σ, j, hj => by
    unfold gw_thru
    rw [gw_thru_n n (c + 1) _ hj]
    split
    · exact gw_go_n hj
    · rfl
theorem gw_through_n {σ : gw_S} {its : Int32} {k : Nat} (hk : gw_gk k) : gw_through σ its k = σ k := gw_thru_n _ _ _ hk
theorem gw_gk_J {k : Nat} (h : gw_Jk k = true) : gw_gk k := by
  unfold gw_Jk at h
  simp only [Bool.or_eq_true, beq_iff_eq] at h
  unfold gw_gk
  omega
theorem gw_J.comes {σ : gw_S} (h : gw_J σ) (a : Nat) : gw_J (gw_comes σ a) := h.same fun _ hk => gw_comes_n (gw_gk_J hk)
theorem gw_J.enters {σ : gw_S} (h : gw_J σ) (kind : Int32) (t : Nat) (money app : Int32) : gw_J (gw_enters σ kind t money app) := h.same fun _ hk => gw_enters_n (gw_gk_J hk).1
theorem gw_J.resv {σ : gw_S} (h : gw_J σ) (a i : Nat) : gw_J (gw_resv σ a i) := h.same fun _ hk => gw_resv_n ⟨(gw_gk_J hk).1, (gw_gk_J hk).2.1⟩
theorem gw_J.go {σ : gw_S} (h : gw_J σ) (c : Nat) : gw_J (gw_go σ c).1 := h.same fun _ hk => gw_go_n (gw_gk_J hk)
/-! the ledger's number under the functions -/
theorem gw_enters31 {σ : gw_S} {kind money app : Int32} {t r : Nat} (h : σ 31 0 = nI (gw_n σ 31)) (hb : gw_n σ 31 + 1 + r ≤ 400) : gw_enters σ kind t money app 31 0 = nI (gw_n (gw_enters σ kind t money app) 31) ∧ gw_n (gw_enters σ kind t money app) 31 ≤ gw_n σ 31 + 1 := by
  unfold gw_enters
  split
  · have e : gw_n (gw_up (gw_up (gw_up (gw_up (gw_up σ 35 (gw_n σ 31) app) 32 (gw_n σ 31) kind) 33 (gw_n σ 31) (nI t)) 34 (gw_n σ 31) money) 31 0 (σ 31 0 + 1)) 31 = gw_n σ 31 + 1 := by
      have : (gw_up (gw_up (gw_up (gw_up (gw_up σ 35 (gw_n σ 31) app) 32 (gw_n σ 31) kind) 33 (gw_n σ 31) (nI t)) 34 (gw_n σ 31) money) 31 0 (σ 31 0 + 1)) 31 0 = nI (gw_n σ 31 + 1) := by
        rw [gw_up_s]; simp only [upd, if_true]; rw [h, nI_1]
      rw [gw_n, this, gw_ix_nI (by omega)]
    rw [e]
    refine ⟨?_, Nat.le_refl _⟩
    rw [gw_up_s]; simp only [upd, if_true]; rw [h, nI_1]
  · exact ⟨h, by omega⟩
theorem gw_resv31 {σ : gw_S} {a i r : Nat} (h : σ 31 0 = nI (gw_n σ 31)) (hb : gw_n σ 31 + 1 + r ≤ 400) : gw_resv σ a i 31 0 = nI (gw_n (gw_resv σ a i) 31) ∧ gw_n (gw_resv σ a i) 31 ≤ gw_n σ 31 + 1 :=
  gw_enters31 (σ := gw_up σ 5 (gw_at σ a i) (σ 5 (gw_at σ a i) + σ 19 (3 * a + i))) (r := r) h hb
theorem gw_P.comes {σ : gw_S} {r a : Nat} (h : gw_P σ r) (ha : a < gw_n σ 15) (h1 : σ 22 a = 1) : gw_P (gw_comes σ a) r := by
  obtain ⟨hn, hp⟩ := h
  have c0 := gw_cnt_up (σ := gw_resv (gw_resv (gw_resv σ a 0) a 1) a 2) (a := a) (v := 2) (gw_n σ 15)
  have e22 : gw_resv (gw_resv (gw_resv σ a 0) a 1) a 2 22 = σ 22 := by
    rw [gw_resv_n (by omega), gw_resv_n (by omega), gw_resv_n (by omega)]
  rw [gw_cnt_same e22, e22, h1, if_pos ⟨ha, Or.inr rfl⟩, if_neg (by rintro ⟨_, h | h⟩ <;> exact absurd h (by decide))] at c0
  unfold gw_pot at hp
  obtain ⟨k1, b1⟩ := gw_resv31 (σ := σ) (a := a) (i := 0) (r := 0) hn (by omega)
  obtain ⟨k2, b2⟩ := gw_resv31 (σ := gw_resv σ a 0) (a := a) (i := 1) (r := 0) k1 (by omega)
  obtain ⟨k3, b3⟩ := gw_resv31 (σ := gw_resv (gw_resv σ a 0) a 1) (a := a) (i := 2) (r := 0) k2 (by omega)
  have e31 : gw_comes σ a 31 = gw_resv (gw_resv (gw_resv σ a 0) a 1) a 2 31 := gw_up_n _ _ _ (by omega)
  have e15 : gw_comes σ a 15 = σ 15 := gw_comes_n (by unfold gw_gk; omega)
  refine ⟨?_, ?_⟩
  · unfold gw_n; rw [e31]; exact k3
  · unfold gw_pot gw_n
    rw [e31, e15]
    have hc : gw_cnt (gw_comes σ a) (gw_n σ 15) + 1 = gw_cnt σ (gw_n σ 15) := c0
    unfold gw_n at hc b1 b2 b3 hp c0
    omega
theorem gw_P.goM {c r : Nat} : ∀ (n k : Nat) (σ : gw_S), gw_J σ → c < 6 → k + n ≤ gw_ix (σ 13 c) → gw_P σ r → gw_P (gw_goM c n k σ).1 r
  | 0, _, _, _, _, _, h => h
  | n + 1, k, σ, hJ, hc, hk, h => by
    unfold gw_goM
    split
    · rename_i h1
      split
      · have hl := hJ.l14b hc (show k < gw_ix (σ 13 c) by omega)
        exact gw_P.goM n (k + 1) _ (hJ.comes _) hc (by rw [gw_comes_n (by unfold gw_gk; omega)]; omega) (h.comes hl h1)
      · exact h
    · exact gw_P.goM n (k + 1) σ hJ hc (by omega) h
theorem gw_P.go {σ : gw_S} {c r : Nat} (h : gw_P σ r) (hJ : gw_J σ) (hc : c < 6) : gw_P (gw_go σ c).1 r := gw_P.goM _ _ _ hJ hc (by omega) h
theorem gw_enters0 {σ : gw_S} {kind money app : Int32} {q : Nat} (h : money ≤ 0) : gw_enters σ kind q money app = σ := by
  unfold gw_enters
  rw [if_neg (fun z => by simp only [Int32.le_iff_toInt_le, Int32.lt_iff_toInt_lt] at h z; omega)]
theorem gw_enters1 {σ : gw_S} {kind money app : Int32} {q : Nat} (h : ¬ money ≤ 0) : gw_enters σ kind q money app = gw_up (gw_up (gw_up (gw_up (gw_up σ 35 (gw_n σ 31) app) 32 (gw_n σ 31) kind) 33 (gw_n σ 31) (nI q)) 34 (gw_n σ 31) money) 31 0 (σ 31 0 + 1) := by
  unfold gw_enters
  rw [if_pos (by simp only [Int32.le_iff_toInt_le, Int32.lt_iff_toInt_lt] at h ⊢; omega)]
theorem gw_enters35 {σ : gw_S} {kind money app : Int32} {q : Nat} (h : ¬ money ≤ 0) : ∀ k, k < 35 → gw_enters σ kind q money app k = gw_up (gw_up (gw_up (gw_up σ 32 (gw_n σ 31) kind) 33 (gw_n σ 31) (nI q)) 34 (gw_n σ 31) money) 31 0 (σ 31 0 + 1) k := by
  intro k hk
  rw [gw_enters1 h]
  have hk35 : ¬ k = 35 := by omega
  simp [gw_up, hk35]
theorem gw_idx {v x : Int32} {n : Nat} (h : 0 ≤ v ∧ v ≤ x - 1) (hx : x = nI n) (hn : n < 2147483648) : ∃ j, j < n ∧ v = nI j := by
  obtain ⟨h1, h2⟩ := h
  have hx1 : x.toInt = n := by rw [hx]; exact nI_toInt hn
  simp only [Int32.le_iff_toInt_le, Int32.toInt_zero] at h1 h2
  have hx2 : (x - 1).toInt = n - 1 := by
    rw [Int32.toInt_sub, hx1, show (1 : Int32).toInt = 1 from by decide]
    rw [Int.bmod_def]; omega
  rw [hx2] at h2
  refine ⟨v.toInt.toNat, by omega, ?_⟩
  apply Int32.toInt_inj.mp
  rw [nI_toInt (by omega)]
  omega
theorem gw_ltn {x : Int32} {n N : Nat} (h : x = nI n) (hb : n ≤ N) (hx : ¬ x = nI N) : n < N := by
  rcases Nat.lt_or_eq_of_le hb with h1 | h1
  · exact h1
  · subst h1; exact absurd h hx
theorem gw_rng {v : Int32} {a b : Int32} (lo hi : Nat) (h : a ≤ v ∧ v ≤ b) (ha : a.toInt = lo) (hb : b.toInt = hi) (hh : hi < 2147483648) : ∃ j, lo ≤ j ∧ j ≤ hi ∧ v = nI j := by
  obtain ⟨h1, h2⟩ := h
  simp only [Int32.le_iff_toInt_le] at h1 h2
  refine ⟨v.toInt.toNat, by omega, by omega, ?_⟩
  apply Int32.toInt_inj.mp
  rw [nI_toInt (by omega)]
  omega
theorem gw_ge {x : Int32} {n k : Nat} (h : x = nI n) (hk : n ≤ k) (hb : k < 2147483648) : x ≤ nI k := by rw [h]; exact nI_le hk hb
theorem gw_nge {x : Int32} {n k : Nat} (h : x = nI n) (hk : k < n) (hb : n < 2147483648) : ¬ x ≤ nI k := by rw [h]; exact nI_ge hk hb
theorem gw_ge3 {k : Nat} (h : k = 3) : (3 : Int32) ≤ nI k := by subst h; decide
theorem gw_nge3 {k : Nat} (h : k < 3) : ¬ (3 : Int32) ≤ nI k := nI_ge (b := 3) h (by decide)
theorem gw_ge48 {k : Nat} (h : k = 48) : (48 : Int32) ≤ nI k := by subst h; decide
theorem gw_nge48 {k : Nat} (h : k < 48) : ¬ (48 : Int32) ≤ nI k := nI_ge (b := 48) h (by decide)
theorem gw_subne {x y : Int32} (h : ¬ x = y) : ¬ x - y = 0 := fun z => h (by
  have := congrArg (· + y) z
  simpa using this)
theorem gw_al_c {σ : gw_S} {r a : Nat} (h : ¬ σ 30 (24 * r + a) = -1) : ∀ (j k d : Nat) (s lo hi : Int32), ∃ d', (gw_al σ r a j k s (nI d) lo hi).2.1 = nI d' ∧ d ≤ d' ∧ d' ≤ d + j ∧ (k ≤ a → a < k + j → d < d')
  | 0, k, d, s, lo, hi => ⟨d, rfl, Nat.le_refl _, by omega, by omega⟩
  | j + 1, k, d, s, lo, hi => by
    unfold gw_al
    split
    · rw [nI_1]
      obtain ⟨d', e, h1, h2, h3⟩ := gw_al_c h j (k + 1) (d + 1) (s + σ 30 (24 * r + k)) (if σ 30 (24 * r + k) < lo then σ 30 (24 * r + k) else lo) (if hi < σ 30 (24 * r + k) then σ 30 (24 * r + k) else hi)
      exact ⟨d', e, by omega, by omega, by omega⟩
    · rename_i hn
      obtain ⟨d', e, h1, h2, h3⟩ := gw_al_c h j (k + 1) d s lo hi
      refine ⟨d', e, h1, by omega, fun q1 q2 => h3 ?_ (by omega)⟩
      rcases Nat.lt_or_eq_of_le q1 with q | q
      · omega
      · subst q; exact absurd ⟨rfl, h⟩ hn
theorem gw_al_n {σ : gw_S} {r a n : Nat} (ha : a < n) (hn : n ≤ 24) (h : ¬ σ 30 (24 * r + a) = -1) : ¬ (gw_al σ r a n 0 0 0 100 0).2.1 = 0 := by
  obtain ⟨d', e, h1, h2, h3⟩ := gw_al_c h n 0 0 0 100 0
  have e' : (gw_al σ r a n 0 0 0 100 0).2.1 = nI d' := e
  rw [e']
  exact nI_ne0 (h3 (Nat.zero_le _) (by omega)) (by omega)
theorem gw_dec (t : Nat) : nI (t + 1) + Int32.ofInt (-1) = nI t := by
  rw [show Int32.ofInt (-1) = -1 from by decide]; exact pk_m1 t
theorem gw_al_same {σ σ' : gw_S} (h16 : σ' 16 = σ 16) (h30 : σ' 30 = σ 30) {r a : Nat} : ∀ (j k : Nat) (s n lo hi : Int32), gw_al σ' r a j k s n lo hi = gw_al σ r a j k s n lo hi
  | 0, _, _, _, _, _ => rfl
  | j + 1, k, s, n, lo, hi => by
    unfold gw_al
    rw [h16, h30, gw_al_same h16 h30 j, gw_al_same h16 h30 j]
theorem gw_alikeOf_same {σ σ' : gw_S} (h15 : σ' 15 = σ 15) (h16 : σ' 16 = σ 16) (h30 : σ' 30 = σ 30) (r a : Nat) : gw_alikeOf σ' r a = gw_alikeOf σ r a := by
  unfold gw_alikeOf gw_al0 gw_n
  rw [h15, h30, gw_al_same h16 h30]
theorem gw_rv_same {σ σ' : gw_S} (h30 : σ' 30 = σ 30) {a : Nat} : ∀ (j k : Nat) (n : Int32), gw_rv σ' a j k n = gw_rv σ a j k n
  | 0, _, _ => rfl
  | j + 1, k, n => by unfold gw_rv; rw [h30, gw_rv_same h30 j]
theorem gw_reviews_same {σ σ' : gw_S} (h25 : σ' 25 = σ 25) (h30 : σ' 30 = σ 30) (a : Nat) : gw_reviews σ' a = gw_reviews σ a := by
  unfold gw_reviews gw_n; rw [h25, gw_rv_same h30]
theorem gw_sc_same {σ σ' : gw_S} (h15 : σ' 15 = σ 15) (h16 : σ' 16 = σ 16) (h30 : σ' 30 = σ 30) {a : Nat} : ∀ (j k : Nat) (n : Int32), gw_sc σ' a j k n = gw_sc σ a j k n
  | 0, _, _ => rfl
  | j + 1, k, n => by unfold gw_sc; rw [h30, gw_alikeOf_same h15 h16 h30, gw_sc_same h15 h16 h30 j]
theorem gw_score_same {σ σ' : gw_S} (h15 : σ' 15 = σ 15) (h16 : σ' 16 = σ 16) (h25 : σ' 25 = σ 25) (h30 : σ' 30 = σ 30) (a : Nat) : gw_score σ' a = gw_score σ a := by
  unfold gw_score
  rw [gw_reviews_same h25 h30, gw_sc_same h15 h16 h30]
  unfold gw_n; rw [h25]
theorem gw_rf_same {σ σ' : gw_S} (h19 : σ' 19 = σ 19) {a : Nat} : ∀ (j k : Nat) (n : Int32), gw_rf σ' a j k n = gw_rf σ a j k n
  | 0, _, _ => rfl
  | j + 1, k, n => by unfold gw_rf; rw [h19, gw_rf_same h19 j]
theorem gw_resFor_same {σ σ' : gw_S} (h19 : σ' 19 = σ 19) (h22 : σ' 22 = σ 22) (h23 : σ' 23 = σ 23) (a : Nat) : gw_resFor σ' a = gw_resFor σ a := by
  unfold gw_resFor; rw [h22, h23, gw_rf_same h19]
/-! lcmp and a jump behind it -/
theorem gw_lg_eq (x y : Int64) : lg_cmp x y = 0 ↔ x = y := by
  unfold lg_cmp
  split
  · rename_i h
    refine ⟨fun z => absurd z (by decide), fun z => ?_⟩
    subst z
    exact absurd h (by simp)
  · split
    · rename_i h; exact ⟨fun _ => h, fun _ => rfl⟩
    · rename_i h; exact ⟨fun z => absurd z (by decide), fun z => absurd z h⟩
theorem gw_lg_lt (x y : Int64) : lg_cmp x y < 0 ↔ x < y := by
  unfold lg_cmp
  split
  · rename_i h
    refine ⟨fun z => absurd z (by decide), fun z => ?_⟩
    have h : y < x := h
    rw [Int64.lt_iff_toInt_lt] at h z; omega
  · rename_i h1
    split
    · rename_i h; subst h; exact ⟨fun z => absurd z (by decide), fun z => absurd z h1⟩
    · rename_i h
      refine ⟨fun _ => ?_, fun _ => by decide⟩
      have h1 : ¬ y < x := h1
      rw [Int64.lt_iff_toInt_lt] at h1 ⊢
      have : ¬ x.toInt = y.toInt := fun z => h (Int64.toInt_inj.mp z)
      omega
theorem gw_lg_gt (x y : Int64) : 0 < lg_cmp x y ↔ y < x := by
  unfold lg_cmp
  split
  · rename_i h; exact ⟨fun _ => h, fun _ => by decide⟩
  · rename_i h1
    split
    · exact ⟨fun z => absurd z (by decide), fun z => absurd z h1⟩
    · exact ⟨fun z => absurd z (by decide), fun z => absurd z h1⟩
section GWL
variable {p : Program} {l : Launch} {e : Env} {R : Room} {s : State} {m : MethodId} {args : Array Value} {below : List Frame} {meth : Method} {c : Code} {H : Heap} {locs : List Loc} {cells slots : Nat} {Q : State → Prop}
variable {cc : ByteArray} {pc : Nat} {ls : Array Slot} {rest : List Value}
theorem gw_l_ne (hexec : p.tables.exec = Jvm.exec) (hb : c.code = cc) {x y : Int64} {off : Int} {tgt : Nat} (d1 : decode cc pc = .ok (.lcmp, 1)) (hdg : decode cc (pc + 1) = .ok (.ifCond .ne off, 3)) (ht : ((pc + 1 : Nat) : Int) + off = (tgt : Int)) (kt : ¬ x = y → W p l e R s m args below meth c H locs cells slots Q (F0 m tgt ls rest)) (kf : x = y → W p l e R s m args below meth c H locs cells slots Q (F0 m (pc + 1 + 3) ls rest)) : W p l e R s m args below meth c H locs cells slots Q (F0 m pc ls (.long y :: .long x :: rest)) :=
  W.lcmp hexec hb d1 (lv_if_ne hexec hb hdg ht (fun z => kt fun q => z ((gw_lg_eq x y).mpr q)) (fun z => kf ((gw_lg_eq x y).mp z)))
theorem gw_l_eq (hexec : p.tables.exec = Jvm.exec) (hb : c.code = cc) {x y : Int64} {off : Int} {tgt : Nat} (d1 : decode cc pc = .ok (.lcmp, 1)) (hdg : decode cc (pc + 1) = .ok (.ifCond .eq off, 3)) (ht : ((pc + 1 : Nat) : Int) + off = (tgt : Int)) (kt : x = y → W p l e R s m args below meth c H locs cells slots Q (F0 m tgt ls rest)) (kf : ¬ x = y → W p l e R s m args below meth c H locs cells slots Q (F0 m (pc + 1 + 3) ls rest)) : W p l e R s m args below meth c H locs cells slots Q (F0 m pc ls (.long y :: .long x :: rest)) :=
  W.lcmp hexec hb d1 (lv_if_eq hexec hb hdg ht (fun z => kt ((gw_lg_eq x y).mp z)) (fun z => kf fun q => z ((gw_lg_eq x y).mpr q)))
theorem gw_l_lt (hexec : p.tables.exec = Jvm.exec) (hb : c.code = cc) {x y : Int64} {off : Int} {tgt : Nat} (d1 : decode cc pc = .ok (.lcmp, 1)) (hdg : decode cc (pc + 1) = .ok (.ifCond .lt off, 3)) (ht : ((pc + 1 : Nat) : Int) + off = (tgt : Int)) (kt : x < y → W p l e R s m args below meth c H locs cells slots Q (F0 m tgt ls rest)) (kf : ¬ x < y → W p l e R s m args below meth c H locs cells slots Q (F0 m (pc + 1 + 3) ls rest)) : W p l e R s m args below meth c H locs cells slots Q (F0 m pc ls (.long y :: .long x :: rest)) :=
  W.lcmp hexec hb d1 (lv_if_lt hexec hb hdg ht (fun z => kt ((gw_lg_lt x y).mp z)) (fun z => kf fun q => z ((gw_lg_lt x y).mpr q)))
theorem gw_l_gt (hexec : p.tables.exec = Jvm.exec) (hb : c.code = cc) {x y : Int64} {off : Int} {tgt : Nat} (d1 : decode cc pc = .ok (.lcmp, 1)) (hdg : decode cc (pc + 1) = .ok (.ifCond .gt off, 3)) (ht : ((pc + 1 : Nat) : Int) + off = (tgt : Int)) (kt : y < x → W p l e R s m args below meth c H locs cells slots Q (F0 m tgt ls rest)) (kf : ¬ y < x → W p l e R s m args below meth c H locs cells slots Q (F0 m (pc + 1 + 3) ls rest)) : W p l e R s m args below meth c H locs cells slots Q (F0 m pc ls (.long y :: .long x :: rest)) :=
  W.lcmp hexec hb d1 (lv_if_gt hexec hb hdg ht (fun z => kt ((gw_lg_gt x y).mp z)) (fun z => kf fun q => z ((gw_lg_gt x y).mpr q)))
end GWL
theorem gw_cnt_pos {σ : gw_S} {a : Nat} (h : σ 22 a = 0 ∨ σ 22 a = 1) : ∀ n, a < n → 1 ≤ gw_cnt σ n
  | 0, h1 => absurd h1 (Nat.not_lt_zero _)
  | n + 1, h1 => by
    simp only [gw_cnt]
    by_cases e : a = n
    · subst e; rw [if_pos h]; omega
    · have := gw_cnt_pos h n (by omega); omega
theorem gw_P.room {σ : gw_S} {r a : Nat} (h : gw_P σ r) (ha : a < gw_n σ 15) (h1 : σ 22 a = 1) : gw_n σ 31 + 3 ≤ 400 := by
  have := gw_cnt_pos (Or.inr h1) _ ha
  have := h.2
  unfold gw_pot at this
  omega
theorem gw_P.mono {σ : gw_S} {r r' : Nat} (h : gw_P σ r) (hr : r' ≤ r) : gw_P σ r' := ⟨h.1, by have := h.2; omega⟩
theorem gw_P.enters {σ : gw_S} {r : Nat} (h : gw_P σ (r + 1)) (kind : Int32) (t : Nat) (money app : Int32) : gw_P (gw_enters σ kind t money app) r := by
  obtain ⟨h1, h2⟩ := h
  have hb : gw_n σ 31 + 1 + 0 ≤ 400 := by unfold gw_pot at h2; omega
  obtain ⟨k1, k2⟩ := gw_enters31 (kind := kind) (t := t) (money := money) (app := app) h1 hb
  refine ⟨k1, ?_⟩
  unfold gw_pot at h2 ⊢
  have e15 : gw_n (gw_enters σ kind t money app) 15 = gw_n σ 15 := by unfold gw_n; rw [gw_enters_n (by omega)]
  rw [e15, gw_cnt_same (gw_enters_n (by omega))]
  omega
theorem gw_P.up22 {σ : gw_S} {r a : Nat} {v : Int32} (h : gw_P σ r) (hv : ¬ (v = 0 ∨ v = 1)) : gw_P (gw_up σ 22 a v) r := by
  obtain ⟨h1, h2⟩ := h
  refine ⟨h1, ?_⟩
  have c0 := gw_cnt_up (σ := σ) (a := a) (v := v) (gw_n σ 15)
  have e0 : (if a < gw_n σ 15 ∧ (v = 0 ∨ v = 1) then 1 else 0) = 0 := if_neg (fun z => hv z.2)
  rw [e0] at c0
  unfold gw_pot at h2 ⊢
  have e1 : gw_n (gw_up σ 22 a v) 31 = gw_n σ 31 := rfl
  have e2 : gw_n (gw_up σ 22 a v) 15 = gw_n σ 15 := rfl
  rw [e1, e2]
  omega
theorem gw_P.up221 {σ : gw_S} {r a : Nat} (h : gw_P σ r) (hv : σ 22 a = 0) : gw_P (gw_up σ 22 a 1) r := by
  obtain ⟨h1, h2⟩ := h
  refine ⟨h1, ?_⟩
  have c0 := gw_cnt_up (σ := σ) (a := a) (v := 1) (gw_n σ 15)
  unfold gw_pot at h2 ⊢
  have e1 : gw_n (gw_up σ 22 a 1) 31 = gw_n σ 31 := rfl
  have e2 : gw_n (gw_up σ 22 a 1) 15 = gw_n σ 15 := rfl
  rw [e1, e2]
  by_cases ha : a < gw_n σ 15
  · rw [if_pos ⟨ha, Or.inl hv⟩, if_pos ⟨ha, Or.inr rfl⟩] at c0
    omega
  · rw [if_neg (fun z => ha z.1), if_neg (fun z => ha z.1)] at c0
    omega
theorem gw_pt_n {c a : Nat} : ∀ (k : Nat) (σ : gw_S) {j : Nat}, j ≠ 14 → (gw_pt c a k σ).1 j = σ j
  | 0, _, _, _ => rfl
  | k + 1, σ, j, hj => by
    unfold gw_pt
    split
    · exact (gw_pt_n k _ hj).trans (gw_up_n _ _ _ hj)
    · rfl
theorem gw_pt_le {c a : Nat} : ∀ (k : Nat) (σ : gw_S), (gw_pt c a k σ).2 ≤ k
  | 0, _ => Nat.le_refl _
  | k + 1, σ => by
    unfold gw_pt
    split
    · exact Nat.le_trans (gw_pt_le k _) (by omega)
    · exact Nat.le_refl _
theorem gw_puts_n {σ : gw_S} {c a j : Nat} (h : j ≠ 13 ∧ j ≠ 14) : gw_puts σ c a j = σ j := by
  unfold gw_puts
  rw [gw_up_n _ _ _ h.1, gw_up_n _ _ _ h.2, gw_pt_n _ _ h.2]
theorem gw_puts13 {σ : gw_S} {c a : Nat} : gw_puts σ c a 13 = upd (σ 13) c (σ 13 c + 1) := by
  unfold gw_puts
  rw [gw_up_s, gw_up_n _ _ _ (by omega), gw_pt_n _ _ (by omega)]
/-- a step of an insertion keeps J -/
theorem gw_J.up14 {σ : gw_S} {c k : Nat} {v : Int32} (h : gw_J σ) (hc : c < 6) (hk : k < 24) (hv : v = nI (gw_ix v)) (hv2 : gw_ix v < gw_n σ 15) : gw_J (gw_up σ 14 (24 * c + k) v) := by
  obtain ⟨h1, h2, h3, h4, h5, h6⟩ := h
  refine ⟨h1, h2, h3, h4, h5, fun d hd => ?_⟩
  obtain ⟨g1, g2, g3⟩ := h6 d hd
  refine ⟨g1, g2, fun j hj => ?_⟩
  have hj' : j < gw_ix (σ 13 d) := hj
  by_cases e : 24 * d + j = 24 * c + k
  · have e1 : (gw_up σ 14 (24 * c + k) v) 14 (24 * d + j) = v := by rw [gw_up_s, e]; simp [upd]
    unfold gw_li
    rw [e1]
    exact ⟨hv, hv2⟩
  · have e1 : (gw_up σ 14 (24 * c + k) v) 14 (24 * d + j) = σ 14 (24 * d + j) := by rw [gw_up_s]; simp [upd, e]
    unfold gw_li
    rw [e1]
    exact g3 j hj'
theorem gw_J.pt {c a : Nat} (hc : c < 6) : ∀ (k : Nat) (σ : gw_S), gw_J σ → k ≤ gw_ix (σ 13 c) → gw_ix (σ 13 c) < 24 → gw_J (gw_pt c a k σ).1
  | 0, _, h, _, _ => h
  | k + 1, σ, h, hk, hl => by
    unfold gw_pt
    split
    · refine gw_J.pt hc k _ (h.up14 hc (by omega) (h.l14 hc (by omega)) (h.l14b hc (by omega))) (by show k ≤ gw_ix (σ 13 c); omega) hl
    · exact h
theorem gw_J.puts {σ : gw_S} {c a : Nat} (h : gw_J σ) (hc : c < 6) (ha : a < gw_n σ 15) (hl : gw_ix (σ 13 c) < 24) : gw_J (gw_puts σ c a) := by
  have h1 := gw_J.pt (a := a) hc _ σ h (Nat.le_refl _) hl
  have e15 : gw_n (gw_pt c a (gw_ix (σ 13 c)) σ).1 15 = gw_n σ 15 := by unfold gw_n; rw [gw_pt_n _ _ (by omega)]
  have hb := h.b15
  have ea : gw_ix (nI a) = a := gw_ix_nI (by omega)
  have hle := gw_pt_le (c := c) (a := a) (gw_ix (σ 13 c)) σ
  have h2 : gw_J (gw_up (gw_pt c a (gw_ix (σ 13 c)) σ).1 14 (24 * c + (gw_pt c a (gw_ix (σ 13 c)) σ).2) (nI a)) := h1.up14 hc (by omega) (by rw [ea]) (by rw [ea, e15]; exact ha)
  have e13 : (gw_pt c a (gw_ix (σ 13 c)) σ).1 13 = σ 13 := gw_pt_n _ _ (by omega)
  -- every place below the old length, and the new one
  have hplace : ∀ j, j < gw_ix (σ 13 c) + 1 → (gw_puts σ c a) 14 (24 * c + j) = nI (gw_li (gw_puts σ c a) c j) ∧ gw_li (gw_puts σ c a) c j < gw_n σ 15 := by
    intro j hj
    have key : ∀ (k : Nat) (τ : gw_S), gw_J τ → gw_n τ 15 = gw_n σ 15 → τ 13 = σ 13 → k ≤ gw_ix (σ 13 c) → (k < gw_ix (σ 13 c) → τ 14 (24 * c + gw_ix (σ 13 c)) = nI (gw_li τ c (gw_ix (σ 13 c))) ∧ gw_li τ c (gw_ix (σ 13 c)) < gw_n σ 15) →
        ((gw_pt c a k τ).2 < gw_ix (σ 13 c) → (gw_pt c a k τ).1 14 (24 * c + gw_ix (σ 13 c)) = nI (gw_li (gw_pt c a k τ).1 c (gw_ix (σ 13 c))) ∧ gw_li (gw_pt c a k τ).1 c (gw_ix (σ 13 c)) < gw_n σ 15) := by
      intro k
      induction k with
      | zero => intro τ hJ h15 h13 hk ht hq; exact ht hq
      | succ k ih =>
        intro τ hJ h15 h13 hk ht
        unfold gw_pt
        split
        · have g1 := hJ.l14 hc (show k < gw_ix (τ 13 c) by rw [h13]; omega)
          have g2 := hJ.l14b hc (show k < gw_ix (τ 13 c) by rw [h13]; omega)
          refine ih _ (hJ.up14 hc (by omega) g1 g2) h15 h13 (by omega) (fun hq => ?_)
          by_cases e : k + 1 = gw_ix (σ 13 c)
          · have e1 : (gw_up τ 14 (24 * c + (k + 1)) (τ 14 (24 * c + k))) 14 (24 * c + gw_ix (σ 13 c)) = τ 14 (24 * c + k) := by rw [gw_up_s, ← e]; simp [upd]
            unfold gw_li
            rw [e1]
            exact ⟨g1, by rw [← h15]; exact g2⟩
          · have e1 : (gw_up τ 14 (24 * c + (k + 1)) (τ 14 (24 * c + k))) 14 (24 * c + gw_ix (σ 13 c)) = τ 14 (24 * c + gw_ix (σ 13 c)) := by rw [gw_up_s]; simp only [upd]; rw [if_neg (by omega)]
            unfold gw_li
            rw [e1]
            exact ht (by omega)
        · intro hq; exact ht hq
    have e14 : (gw_puts σ c a) 14 (24 * c + j) = if j = (gw_pt c a (gw_ix (σ 13 c)) σ).2 then nI a else (gw_pt c a (gw_ix (σ 13 c)) σ).1 14 (24 * c + j) := by
      unfold gw_puts
      rw [gw_up_n _ _ _ (by omega), gw_up_s]
      simp only [upd]
      by_cases e : j = (gw_pt c a (gw_ix (σ 13 c)) σ).2
      · rw [if_pos (by rw [e]), if_pos e]
      · rw [if_neg (by omega), if_neg e]
    by_cases e : j = (gw_pt c a (gw_ix (σ 13 c)) σ).2
    · rw [if_pos e] at e14
      unfold gw_li
      rw [e14, ea]
      exact ⟨rfl, ha⟩
    · rw [if_neg e] at e14
      unfold gw_li
      rw [e14]
      by_cases e2 : j < gw_ix (σ 13 c)
      · exact ⟨h1.l14 hc (by rw [e13]; exact e2), by rw [← e15]; exact h1.l14b hc (by rw [e13]; exact e2)⟩
      · have e3 : j = gw_ix (σ 13 c) := by omega
        rw [e3]
        exact key _ σ h rfl rfl (Nat.le_refl _) (fun q => absurd q (by omega)) (by omega)
  obtain ⟨k1, k2, k3, k4, k5, k6⟩ := h2
  have e7 : ∀ j, j ≠ 13 → j ≠ 14 → (gw_puts σ c a) j = σ j := fun j q1 q2 => gw_puts_n ⟨q1, q2⟩
  obtain ⟨m1, m2, m3, m4, m5, m6⟩ := h
  have en : ∀ j, j ≠ 13 → j ≠ 14 → gw_n (gw_puts σ c a) j = gw_n σ j := fun j q1 q2 => by unfold gw_n; rw [e7 j q1 q2]
  have ec : ∀ x, gw_co (gw_puts σ c a) x = gw_co σ x := fun x => by unfold gw_co; rw [e7 16 (by omega) (by omega)]
  refine ⟨?_, ?_, ?_, ?_, ?_, fun d hd => ?_⟩
  · rw [e7 7 (by omega) (by omega), en 7 (by omega) (by omega)]; exact m1
  · rw [e7 15 (by omega) (by omega), en 15 (by omega) (by omega)]; exact m2
  · rw [e7 25 (by omega) (by omega), en 25 (by omega) (by omega)]; exact m3
  · rw [e7 8 (by omega) (by omega), e7 11 (by omega) (by omega), en 7 (by omega) (by omega)]; exact m4
  · rw [e7 16 (by omega) (by omega), e7 17 (by omega) (by omega), en 15 (by omega) (by omega), en 7 (by omega) (by omega)]
    intro x hx
    rw [ec]
    exact m5 x hx
  · rw [en 15 (by omega) (by omega), gw_puts13]
    obtain ⟨g1, g2, g3⟩ := m6 d hd
    by_cases ed : d = c
    · subst ed
      have ev : upd (σ 13) d (σ 13 d + 1) d = nI (gw_ix (σ 13 d) + 1) := by simp only [upd, if_true]; rw [← nI_1, ← g1]
      rw [ev, gw_ix_nI (by omega)]
      exact ⟨rfl, by omega, hplace⟩
    · have ev : upd (σ 13) c (σ 13 c + 1) d = σ 13 d := by simp [upd, ed]
      rw [ev]
      refine ⟨g1, g2, fun j hj => ?_⟩
      obtain ⟨q1, q2, q3⟩ := k6 d hd
      have hj2 := q3 j (by
        have : (gw_up (gw_pt c a (gw_ix (σ 13 c)) σ).1 14 (24 * c + (gw_pt c a (gw_ix (σ 13 c)) σ).2) (nI a)) 13 d = σ 13 d := by rw [gw_up_n _ _ _ (by omega), e13]
        rw [this]; exact hj)
      have e14 : (gw_puts σ c a) 14 = (gw_up (gw_pt c a (gw_ix (σ 13 c)) σ).1 14 (24 * c + (gw_pt c a (gw_ix (σ 13 c)) σ).2) (nI a)) 14 := by unfold gw_puts; rw [gw_up_n _ _ _ (by omega)]
      unfold gw_li at hj2 ⊢
      rw [e14]
      exact ⟨hj2.1, Nat.lt_of_lt_of_eq hj2.2 e15⟩
theorem gw_P_up {σ : gw_S} {r k j : Nat} {v : Int32} (hk : (k == 15 || k == 22 || k == 31) = false) (h : gw_P σ r) : gw_P (gw_up σ k j v) r := by
  simp only [Bool.or_eq_false_iff, beq_eq_false_iff_ne] at hk
  exact gw_P.same h (gw_up_n _ _ _ (by omega)) (gw_up_n _ _ _ (by omega)) (gw_up_n _ _ _ (by omega))
