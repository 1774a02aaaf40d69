/-! BITS: rows out of the kit's bits (bt, b_*, s_l), and one bit of a mask -/
def bt (x : Int32) (i : Nat) : Bool := x.toBitVec.getLsbD i
theorem b_ext {x y : Int32} (h : ∀ i, i < 32 → bt x i = bt y i) : x = y := Int32.toBitVec_inj.mp (BitVec.eq_of_getLsbD_eq (fun i hi => h i hi))
theorem b_and (x y : Int32) (i : Nat) : bt (x &&& y) i = (bt x i && bt y i) := by unfold bt; rw [Int32.toBitVec_and, BitVec.getLsbD_and]
theorem b_xor (x y : Int32) (i : Nat) : bt (x ^^^ y) i = (bt x i ^^ bt y i) := by unfold bt; rw [Int32.toBitVec_xor, BitVec.getLsbD_xor]
theorem b_big {x : Int32} {i : Nat} (h : 32 ≤ i) : bt x i = false := BitVec.getLsbD_of_ge _ _ h
theorem b_0 (i : Nat) : bt 0 i = false := BitVec.getLsbD_zero
theorem s_l : ∀ n, n < 32 → ((nI n &&& 31).toBitVec.smod 32).toNat = n := by decide +kernel
theorem b_shl (n : Nat) (hn : n < 32) (x : Int32) {i : Nat} (hi : i < 32) : bt (x <<< (nI n &&& 31)) i = (decide (n ≤ i) && bt x (i - n)) := by
  unfold bt
  rw [Int32.toBitVec_shiftLeft]
  show (x.toBitVec <<< ((nI n &&& 31).toBitVec.smod 32).toNat).getLsbD i = _
  rw [s_l n hn, BitVec.getLsbD_shiftLeft]
  rcases Nat.lt_or_ge i n with h | h
  · simp [h, Nat.not_le.mpr h]
  · simp [hi, h, Nat.not_lt.mpr h]
theorem b_sshr (n : Nat) (hn : n < 32) (x : Int32) {i : Nat} (hi : i < 32) : bt (x >>> (nI n &&& 31)) i = if n + i < 32 then bt x (n + i) else bt x 31 := by
  unfold bt
  rw [Int32.toBitVec_shiftRight]
  show (x.toBitVec.sshiftRight ((nI n &&& 31).toBitVec.smod 32).toNat).getLsbD i = _
  rw [s_l n hn, BitVec.getLsbD_sshiftRight, BitVec.msb_eq_getLsbD_last]
  simp [hi]
theorem gw_b1 : ∀ i, i < 32 → bt 1 i = decide (i = 0) := by decide +kernel
theorem gw_bt0 (i : Nat) : bt 0 i = false := b_0 i
theorem gw_bit_bt {x : Int32} {j : Nat} (hj : j < 32) : (x >>> (nI j &&& 31)) &&& 1 = if bt x j = true then 1 else 0 := by
  apply b_ext
  intro i hi
  rw [b_and, b_sshr j hj x hi, gw_b1 i hi]
  by_cases h0 : i = 0
  · subst h0
    rw [show j + 0 = j from rfl, if_pos hj]
    cases h : bt x j
    · rw [if_neg (by decide), b_0]; rfl
    · rw [if_pos rfl]; decide
  · rw [decide_eq_false h0, Bool.and_false]
    cases h : bt x j
    · rw [if_neg (by decide), b_0]
    · rw [if_pos rfl, gw_b1 i hi, decide_eq_false h0]
theorem gw_bt_xor {x : Int32} {j i : Nat} (hj : j < 32) (hi : i < 32) : bt (x ^^^ ((1 : Int32) <<< (nI j &&& 31))) i = if i = j then !(bt x i) else bt x i := by
  rw [b_xor, b_shl j hj 1 hi]
  by_cases h : i = j
  · subst h
    rw [if_pos rfl, Nat.sub_self, gw_b1 0 (by decide), decide_eq_true (Nat.le_refl _)]
    cases bt x i <;> rfl
  · rw [if_neg h]
    by_cases h2 : j ≤ i
    · rw [gw_b1 (i - j) (by omega), decide_eq_false (show ¬ i - j = 0 by omega), Bool.and_false, Bool.xor_false]
    · rw [decide_eq_false h2, Bool.false_and, Bool.xor_false]
