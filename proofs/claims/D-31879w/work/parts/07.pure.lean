/-! THE PURE FUNCTIONS: what each call does to the state (columns: the model's fields; 35: a ledger entry's application) -/
def gw_n (σ : gw_S) (k : Nat) : Nat := gw_ix (σ k 0)
def gw_co (σ : gw_S) (a : Nat) : Nat := gw_ix (σ 16 a)
def gw_at (σ : gw_S) (a k : Nat) : Nat := 12 * gw_ix (σ 8 (gw_co σ a)) + gw_ix (σ 11 (gw_co σ a)) + k
def gw_free (σ : gw_S) (t : Nat) : Int32 := if σ 3 t = -1 then 0 else σ 4 t - σ 5 t - σ 6 t
def gw_enters (σ : gw_S) (kind : Int32) (t : Nat) (money app : Int32) : gw_S :=
  if 0 < money then gw_up (gw_up (gw_up (gw_up (gw_up σ 35 (gw_n σ 31) app) 32 (gw_n σ 31) kind) 33 (gw_n σ 31) (nI t)) 34 (gw_n σ 31) money) 31 0 (σ 31 0 + 1) else σ
def gw_resv (σ : gw_S) (a k : Nat) : gw_S := gw_enters (gw_up σ 5 (gw_at σ a k) (σ 5 (gw_at σ a k) + σ 19 (3 * a + k))) 1 (gw_at σ a k) (σ 19 (3 * a + k)) (nI a)
abbrev gw_can (σ : gw_S) (a : Nat) : Prop := σ 19 (3 * a + 0) ≤ gw_free σ (gw_at σ a 0) ∧ σ 19 (3 * a + 1) ≤ gw_free σ (gw_at σ a 1) ∧ σ 19 (3 * a + 2) ≤ gw_free σ (gw_at σ a 2)
def gw_comes (σ : gw_S) (a : Nat) : gw_S := gw_up (gw_resv (gw_resv (gw_resv σ a 0) a 1) a 2) 22 a 2
/-- the k-th of call c's list -/
def gw_li (σ : gw_S) (c k : Nat) : Nat := gw_ix (σ 14 (24 * c + k))
def gw_goM (c : Nat) : Nat → Nat → gw_S → gw_S × Int32
  | 0, _, σ => (σ, 0)
  | n + 1, k, σ => if σ 22 (gw_li σ c k) = 1 then (if gw_can σ (gw_li σ c k) then ((gw_goM c n (k + 1) (gw_comes σ (gw_li σ c k))).1, (gw_goM c n (k + 1) (gw_comes σ (gw_li σ c k))).2 + 1) else (σ, 0)) else gw_goM c n (k + 1) σ
def gw_go (σ : gw_S) (c : Nat) : gw_S × Int32 := gw_goM c (gw_ix (σ 13 c)) 0 σ
def gw_thru (its : Int32) : Nat → Nat → gw_S → gw_S
  | 0, _, σ => σ
  | n + 1, c, σ => gw_thru its n (c + 1) (if ¬ σ 12 c = 0 ∧ σ 8 c = its then (gw_go σ c).1 else σ)
def gw_through (σ : gw_S) (its : Int32) : gw_S := gw_thru its (gw_n σ 7) 0 σ
/-- refused: nothing but 'thrown' -/
def gw_fail (σ : gw_S) (k : Int32) : Int32 × gw_S := (0, gw_up (gw_up σ 0 0 0) 0 0 k)
def gw_tell1 (σ : gw_S) (t : Nat) : gw_S := if σ 3 t = -1 then gw_up (gw_up σ 3 t (σ 2 0)) 2 0 (σ 2 0 + 1) else σ
def gw_tell2 (σ : gw_S) (t : Nat) (money : Int32) : gw_S := gw_enters (gw_up (gw_tell1 σ t) 4 t (σ 4 t + money)) 0 t money (-1)
def gw_tell3 (σ : gw_S) (its : Int32) (t : Nat) (money : Int32) : gw_S := gw_through (gw_tell2 (gw_up σ 0 0 0) t money) its
def gw_tell (σ : gw_S) (its year money : Int32) : Int32 × gw_S :=
  if (0 ≤ its ∧ its ≤ 3) ∧ (0 ≤ year ∧ year ≤ 11) ∧ (1 ≤ money ∧ money ≤ 1000000) then
    if 300 < σ 31 0 ∨ 100000000 < σ 4 (12 * gw_ix its + gw_ix year) + money then gw_fail σ 2
    else (gw_tell3 σ its (12 * gw_ix its + gw_ix year) money 4 (12 * gw_ix its + gw_ix year), gw_tell3 σ its (12 * gw_ix its + gw_ix year) money)
  else gw_fail σ 1
def gw_call1 (σ : gw_S) (its first last year : Int32) : gw_S := gw_up (gw_up (gw_up (gw_up (gw_up σ 8 (gw_n σ 7) its) 9 (gw_n σ 7) first) 10 (gw_n σ 7) last) 11 (gw_n σ 7) year) 7 0 (σ 7 0 + 1)
def gw_call (σ : gw_S) (its first last year : Int32) : Int32 × gw_S :=
  if (0 ≤ its ∧ its ≤ 3) ∧ (0 ≤ first ∧ first ≤ 10000) ∧ (first ≤ last ∧ last ≤ 10000) ∧ (0 ≤ year ∧ year ≤ 9) then
    if σ 7 0 = 6 then gw_fail σ 2 else (σ 7 0 + 1 - 1, gw_call1 (gw_up σ 0 0 0) its first last year)
  else gw_fail σ 1
abbrev gw_open (σ : gw_S) (c : Nat) : Prop := σ 9 c ≤ σ 1 0 ∧ σ 1 0 ≤ σ 10 c
abbrev gw_right (f s t : Int32) : Prop := (0 ≤ f ∧ f ≤ 100000) ∧ (0 ≤ s ∧ s ≤ 100000) ∧ (0 ≤ t ∧ t ≤ 100000) ∧ 0 < f + s + t
def gw_asks (σ : gw_S) (a : Nat) (f s t : Int32) : gw_S := gw_up (gw_up (gw_up (gw_up (gw_up σ 19 (3 * a) f) 19 (3 * a + 1) s) 19 (3 * a + 2) t) 21 a (σ 1 0)) 20 a (σ 20 a + 1)
abbrev gw_isC (σ : gw_S) (c : Int32) : Prop := 0 ≤ c ∧ c ≤ σ 7 0 - 1
abbrev gw_isA (σ : gw_S) (a : Int32) : Prop := 0 ≤ a ∧ a ≤ σ 15 0 - 1
abbrev gw_isR (σ : gw_S) (r : Int32) : Prop := 0 ≤ r ∧ r ≤ σ 25 0 - 1
def gw_apply1 (σ : gw_S) (c who wh f s t : Int32) : gw_S := gw_up (gw_asks (gw_up (gw_up (gw_up σ 16 (gw_n σ 15) c) 17 (gw_n σ 15) who) 18 (gw_n σ 15) wh) (gw_n σ 15) f s t) 15 0 (σ 15 0 + 1)
def gw_apply (σ : gw_S) (c who wh f s t : Int32) : Int32 × gw_S :=
  if gw_isC σ c then
    if (0 ≤ who ∧ who ≤ 29) ∧ (0 ≤ wh ∧ wh ≤ 9) ∧ gw_right f s t then
      if gw_open σ (gw_ix c) ∧ ¬ σ 15 0 = 24 then (σ 15 0 + 1 - 1, gw_apply1 (gw_up σ 0 0 0) c who wh f s t) else gw_fail σ 3
    else gw_fail σ 2
  else gw_fail σ 1
def gw_revise (σ : gw_S) (a f s t : Int32) : Int32 × gw_S :=
  if gw_isA σ a then
    if gw_right f s t then
      if gw_open σ (gw_co σ (gw_ix a)) ∧ ¬ σ 22 (gw_ix a) = 5 then (σ 20 (gw_ix a) + 1, gw_asks (gw_up σ 0 0 0) (gw_ix a) f s t) else gw_fail σ 3
    else gw_fail σ 2
  else gw_fail σ 1
def gw_reviewer (σ : gw_S) (who wh : Int32) : Int32 × gw_S :=
  if (0 ≤ who ∧ who ≤ 29) ∧ (0 ≤ wh ∧ wh ≤ 9) then
    if σ 25 0 = 10 then gw_fail σ 2 else (σ 25 0 + 1 - 1, gw_up (gw_up (gw_up (gw_up σ 0 0 0) 26 (gw_n σ 25) who) 27 (gw_n σ 25) wh) 25 0 (σ 25 0 + 1))
  else gw_fail σ 1
def gw_conflict (σ : gw_S) (r who b : Int32) : Int32 × gw_S :=
  if gw_isR σ r then
    if 0 ≤ who ∧ who ≤ 29 then (σ 28 (30 * gw_ix r + gw_ix who), gw_up (gw_up σ 0 0 0) 28 (30 * gw_ix r + gw_ix who) b) else gw_fail σ 2
  else gw_fail σ 1
def gw_seat (σ : gw_S) (c r b : Int32) : Int32 × gw_S :=
  if gw_isC σ c then
    if gw_isR σ r then (σ 29 (10 * gw_ix c + gw_ix r), gw_up (gw_up σ 0 0 0) 29 (10 * gw_ix c + gw_ix r) b) else gw_fail σ 1
  else gw_fail σ 1
abbrev gw_confl (σ : gw_S) (r a : Nat) : Prop := σ 26 r = σ 17 a ∨ σ 27 r = σ 18 a ∨ ¬ σ 28 (30 * r + gw_ix (σ 17 a)) = 0
def gw_rev1 (σ : gw_S) (r a : Nat) (v : Int32) : Int32 × gw_S :=
  if σ 1 0 ≤ σ 10 (gw_co σ a) then (1, gw_up σ 0 0 0) else if ¬ σ 12 (gw_co σ a) = 0 then (2, gw_up σ 0 0 0) else if σ 29 (10 * gw_co σ a + r) = 0 then (3, gw_up σ 0 0 0) else
  if gw_confl σ r a then (4, gw_up σ 0 0 0) else (0, gw_up (gw_up σ 0 0 0) 30 (24 * r + a) v)
def gw_review (σ : gw_S) (r a v : Int32) : Int32 × gw_S :=
  if gw_isR σ r then if gw_isA σ a then
    if 0 ≤ v ∧ v ≤ 100 then
      if σ 22 (gw_ix a) = 5 then gw_fail σ 3 else gw_rev1 σ (gw_ix r) (gw_ix a) v
    else gw_fail σ 2
  else gw_fail σ 1 else gw_fail σ 1
/-- like scores: sum, number, least, greatest over the applications from k on -/
def gw_al (σ : gw_S) (r a : Nat) : Nat → Nat → Int32 → Int32 → Int32 → Int32 → Int32 × Int32 × Int32 × Int32
  | 0, _, s, n, lo, hi => (s, n, lo, hi)
  | j + 1, k, s, n, lo, hi => if σ 16 k = σ 16 a ∧ ¬ σ 30 (24 * r + k) = -1 then gw_al σ r a j (k + 1) (s + σ 30 (24 * r + k)) (n + 1) (if σ 30 (24 * r + k) < lo then σ 30 (24 * r + k) else lo) (if hi < σ 30 (24 * r + k) then σ 30 (24 * r + k) else hi) else gw_al σ r a j (k + 1) s n lo hi
def gw_alF (v : Int32) (q : Int32 × Int32 × Int32 × Int32) : Int32 := if q.2.2.2 = q.2.2.1 then 500 else 500 + (v - q.1 / q.2.1) * 1000 / (q.2.2.2 - q.2.2.1)
def gw_al0 (σ : gw_S) (r a : Nat) : Int32 := gw_alF (σ 30 (24 * r + a)) (gw_al σ r a (gw_n σ 15) 0 0 0 100 0)
def gw_alikeOf (σ : gw_S) (r a : Nat) : Int32 := if σ 30 (24 * r + a) = -1 then -1000000 else gw_al0 σ r a
def gw_alike (σ : gw_S) (r a : Int32) : Int32 × gw_S :=
  if gw_isR σ r then if gw_isA σ a then (gw_alikeOf σ (gw_ix r) (gw_ix a), gw_up σ 0 0 0) else gw_fail σ 1 else gw_fail σ 1
def gw_rv (σ : gw_S) (a : Nat) : Nat → Nat → Int32 → Int32
  | 0, _, n => n
  | j + 1, r, n => gw_rv σ a j (r + 1) (n + if σ 30 (24 * r + a) = -1 then 0 else 1)
def gw_reviews (σ : gw_S) (a : Nat) : Int32 := gw_rv σ a (gw_n σ 25) 0 0
def gw_sc (σ : gw_S) (a : Nat) : Nat → Nat → Int32 → Int32
  | 0, _, n => n
  | j + 1, r, n => gw_sc σ a j (r + 1) (n + if σ 30 (24 * r + a) = -1 then 0 else gw_alikeOf σ r a)
def gw_score (σ : gw_S) (a : Nat) : Int32 := if gw_reviews σ a < 2 then -1000000 else gw_sc σ a (gw_n σ 25) 0 0 / gw_reviews σ a
abbrev gw_ahead (σ : gw_S) (a b : Nat) : Prop := gw_score σ b < gw_score σ a ∨ gw_score σ a = gw_score σ b ∧ (σ 21 a < σ 21 b ∨ σ 21 a = σ 21 b ∧ a < b)
def gw_pt (c a : Nat) : Nat → gw_S → gw_S × Nat
  | 0, σ => (σ, 0)
  | k + 1, σ => if gw_ahead σ a (gw_li σ c k) then gw_pt c a k (gw_up σ 14 (24 * c + (k + 1)) (σ 14 (24 * c + k))) else (σ, k + 1)
def gw_puts (σ : gw_S) (c a : Nat) : gw_S := gw_up (gw_up (gw_pt c a (gw_ix (σ 13 c)) σ).1 14 (24 * c + (gw_pt c a (gw_ix (σ 13 c)) σ).2) (nI a)) 13 c (σ 13 c + 1)
def gw_aw1 (σ : gw_S) (c a : Nat) : gw_S := if gw_score σ a = -1000000 then gw_up σ 22 a 4 else gw_puts (gw_up σ 22 a 1) c a
def gw_aw (c : Nat) : Nat → Nat → gw_S → gw_S
  | 0, _, σ => σ
  | j + 1, a, σ => gw_aw c j (a + 1) (if σ 16 a = nI c ∧ σ 22 a = 0 then gw_aw1 σ c a else σ)
def gw_award1 (σ : gw_S) (c : Nat) : gw_S := gw_aw c (gw_n σ 15) 0 (gw_up (gw_up σ 0 0 0) 12 c 1)
def gw_award (σ : gw_S) (c : Int32) : Int32 × gw_S :=
  if gw_isC σ c then
    if σ 1 0 ≤ σ 10 (gw_ix c) ∨ ¬ σ 12 (gw_ix c) = 0 ∨ 300 < σ 31 0 then gw_fail σ 2
    else ((gw_go (gw_award1 σ (gw_ix c)) (gw_ix c)).2, (gw_go (gw_award1 σ (gw_ix c)) (gw_ix c)).1)
  else gw_fail σ 1
def gw_due (σ : gw_S) (a : Nat) : Int32 := σ 19 (3 * a + gw_ix (σ 23 a))
def gw_rp1 (σ : gw_S) (a : Nat) (v : Int32) : gw_S := gw_up (gw_up (gw_up σ 5 (gw_at σ a (gw_ix (σ 23 a))) (σ 5 (gw_at σ a (gw_ix (σ 23 a))) - gw_due σ a)) 6 (gw_at σ a (gw_ix (σ 23 a))) (σ 6 (gw_at σ a (gw_ix (σ 23 a))) + v)) 24 a (σ 24 a + v)
def gw_rp2 (σ : gw_S) (a : Nat) (v : Int32) : gw_S := gw_enters (gw_enters (gw_rp1 σ a v) 2 (gw_at σ a (gw_ix (σ 23 a))) v (nI a)) 3 (gw_at σ a (gw_ix (σ 23 a))) (gw_due σ a - v) (nI a)
def gw_rp3 (σ : gw_S) (a : Nat) (v : Int32) : gw_S := gw_up (gw_up (gw_rp2 σ a v) 23 a (σ 23 a + 1)) 22 a (if σ 23 a + 1 = 3 then 3 else 2)
def gw_rp4 (σ : gw_S) (a : Nat) (v : Int32) : gw_S := if v < gw_due σ a then gw_through (gw_rp3 σ a v) (σ 8 (gw_co σ a)) else gw_rp3 σ a v
def gw_report (σ : gw_S) (a v : Int32) : Int32 × gw_S :=
  if gw_isA σ a then
    if ¬ σ 22 (gw_ix a) = 2 ∨ 300 < σ 31 0 then gw_fail σ 2
    else if 0 ≤ v ∧ v ≤ gw_due σ (gw_ix a) then (gw_due σ (gw_ix a) - v, gw_rp4 (gw_up σ 0 0 0) (gw_ix a) v) else gw_fail σ 3
  else gw_fail σ 1
/-- an end's returns, from milestone k on -/
def gw_en (a : Nat) : Nat → Nat → gw_S → Int32 → gw_S × Int32
  | 0, _, σ, n => (σ, n)
  | j + 1, k, σ, n => gw_en a j (k + 1) (gw_enters (gw_up σ 5 (gw_at σ a k) (σ 5 (gw_at σ a k) - σ 19 (3 * a + k))) 3 (gw_at σ a k) (σ 19 (3 * a + k)) (nI a)) (n + σ 19 (3 * a + k))
def gw_end1 (σ : gw_S) (a : Nat) : gw_S × Int32 := if σ 22 a = 2 then gw_en a (3 - gw_ix (σ 23 a)) (gw_ix (σ 23 a)) σ 0 else (σ, 0)
def gw_end2 (σ : gw_S) (a : Nat) : gw_S := if σ 22 a = 1 ∨ 0 < (gw_end1 σ a).2 then gw_through (gw_up (gw_end1 σ a).1 22 a 5) (σ 8 (gw_co σ a)) else gw_up (gw_end1 σ a).1 22 a 5
def gw_end (σ : gw_S) (a b : Int32) : Int32 × gw_S :=
  if gw_isA σ a then
    if σ 22 (gw_ix a) = 3 ∨ σ 22 (gw_ix a) = 5 ∨ (b = 0 ∧ ¬ σ 22 (gw_ix a) = 2) ∨ 300 < σ 31 0 then gw_fail σ 2
    else ((gw_end1 (gw_up σ 0 0 0) (gw_ix a)).2, gw_end2 (gw_up σ 0 0 0) (gw_ix a))
  else gw_fail σ 1
def gw_pass (σ : gw_S) (d : Int32) : Int32 × gw_S :=
  if 1 ≤ d ∧ d ≤ 1000 then if 20000 < σ 1 0 + d then gw_fail σ 2 else (σ 1 0 + d, gw_up (gw_up σ 0 0 0) 1 0 (σ 1 0 + d)) else gw_fail σ 1
def gw_rf (σ : gw_S) (a : Nat) : Nat → Nat → Int32 → Int32
  | 0, _, n => n
  | j + 1, k, n => gw_rf σ a j (k + 1) (n + σ 19 (3 * a + k))
def gw_resFor (σ : gw_S) (a : Nat) : Int32 := if σ 22 a = 2 then gw_rf σ a (3 - gw_ix (σ 23 a)) (gw_ix (σ 23 a)) 0 else 0
def gw_abt (σ : gw_S) (a : Nat) (w : Int32) : Int32 :=
  if w = 0 then σ 22 a else if w = 1 then σ 20 a else if w = 2 then σ 21 a else if w = 3 then gw_score σ a else if w = 4 then gw_reviews σ a else if w = 5 then σ 23 a else if w = 6 then σ 24 a else if w = 7 then gw_resFor σ a else σ 19 (3 * a + gw_ix (w - 8))
def gw_about (σ : gw_S) (a w : Int32) : Int32 × gw_S :=
  if gw_isA σ a then if 0 ≤ w ∧ w ≤ 10 then (gw_abt σ (gw_ix a) w, gw_up σ 0 0 0) else gw_fail σ 2 else gw_fail σ 1
def gw_acc (σ : gw_S) (t : Nat) (w : Int32) : Int32 := if σ 3 t = -1 then -1 else if w = 0 then σ 4 t else if w = 1 then σ 5 t else if w = 2 then σ 6 t else if w = 3 then gw_free σ t else σ 3 t
def gw_account (σ : gw_S) (its year w : Int32) : Int32 × gw_S :=
  if (0 ≤ its ∧ its ≤ 3) ∧ (0 ≤ year ∧ year ≤ 11) ∧ (0 ≤ w ∧ w ≤ 4) then (gw_acc σ (12 * gw_ix its + gw_ix year) w, gw_up σ 0 0 0) else gw_fail σ 1
def gw_wt (σ : gw_S) (c : Nat) (i : Int32) : Nat → Nat → Int32 → Int32 → Int32 × Int32
  | 0, _, n, v => (n, v)
  | j + 1, k, n, v => if σ 22 (gw_li σ c k) = 1 then gw_wt σ c i j (k + 1) (n + 1) (if n = i then nI (gw_li σ c k) else v) else gw_wt σ c i j (k + 1) n v
def gw_wait (σ : gw_S) (c : Nat) (i : Int32) : Int32 × Int32 := gw_wt σ c i (gw_ix (σ 13 c)) 0 0 (-1)
def gw_waiting (σ : gw_S) (c i : Int32) : Int32 × gw_S :=
  if gw_isC σ c then
    if -1 ≤ i ∧ i ≤ (gw_wait σ (gw_ix c) i).1 - 1 then (if i = -1 then (gw_wait σ (gw_ix c) i).1 else (gw_wait σ (gw_ix c) i).2, gw_up σ 0 0 0) else gw_fail σ 2
  else gw_fail σ 1
def gw_led (σ : gw_S) (i : Nat) (w : Int32) : Int32 := if w = 0 then σ 32 i else if w = 1 then nI (gw_ix (σ 33 i) / 12) else if w = 2 then nI (gw_ix (σ 33 i) % 12) else σ 34 i
def gw_ledger (σ : gw_S) (i w : Int32) : Int32 × gw_S :=
  if i = -1 then (σ 31 0, gw_up σ 0 0 0) else
  if 0 ≤ i ∧ i ≤ σ 31 0 - 1 then if 0 ≤ w ∧ w ≤ 3 then (gw_led σ (gw_ix i) w, gw_up σ 0 0 0) else gw_fail σ 2 else gw_fail σ 1
def gw_ct (σ : gw_S) (v : Int32) : Nat → Nat → Int32 → Int32
  | 0, _, n => n
  | j + 1, a, n => gw_ct σ v j (a + 1) (n + if σ 22 a = v then 1 else 0)
def gw_count (σ : gw_S) (v : Int32) : Int32 × gw_S := if 0 ≤ v ∧ v ≤ 5 then (gw_ct σ v (gw_n σ 15) 0 0, gw_up σ 0 0 0) else gw_fail σ 1
def gw_ps (σ : gw_S) (f : Nat) : Nat → Nat → Int64 → Int64
  | 0, _, n => n
  | j + 1, k, n => gw_ps σ f j (k + 1) (n + (σ f k).toInt64)
def gw_share (σ : gw_S) : UInt64 := if gw_ps σ 4 48 0 0 = 0 then FP.dconst0 else FP.ddiv (FP.l2d (gw_ps σ 6 48 0 0)) (FP.l2d (gw_ps σ 4 48 0 0))
