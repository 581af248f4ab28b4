/-! BITS: sets of at most thirty as natural numbers -/
set_option maxRecDepth 100000
theorem nI_bv (n : Nat) : (nI n).toBitVec = BitVec.ofNat 32 n := rfl
theorem nI_inj {a b : Int32} (h : a.toBitVec = b.toBitVec) : a = b := Int32.toBitVec_inj.mp h
theorem nI_or {a b : Nat} (ha : a < 2 ^ 32) (hb : b < 2 ^ 32) : nI a ||| nI b = nI (a ||| b) := by
  apply nI_inj
  rw [Int32.toBitVec_or, nI_bv, nI_bv, nI_bv]
  apply BitVec.eq_of_toNat_eq
  rw [BitVec.toNat_or, BitVec.toNat_ofNat, BitVec.toNat_ofNat, BitVec.toNat_ofNat, Nat.mod_eq_of_lt ha, Nat.mod_eq_of_lt hb, Nat.mod_eq_of_lt (Nat.or_lt_two_pow ha hb)]
theorem nI_and {a b : Nat} (ha : a < 2 ^ 32) (hb : b < 2 ^ 32) : nI a &&& nI b = nI (a &&& b) := by
  apply nI_inj
  rw [Int32.toBitVec_and, nI_bv, nI_bv, nI_bv]
  apply BitVec.eq_of_toNat_eq
  rw [BitVec.toNat_and, BitVec.toNat_ofNat, BitVec.toNat_ofNat, BitVec.toNat_ofNat, Nat.mod_eq_of_lt ha, Nat.mod_eq_of_lt hb, Nat.mod_eq_of_lt (Nat.and_lt_two_pow _ hb)]
theorem nI_xor {a b : Nat} (ha : a < 2 ^ 32) (hb : b < 2 ^ 32) : nI a ^^^ nI b = nI (a ^^^ b) := by
  apply nI_inj
  rw [Int32.toBitVec_xor, nI_bv, nI_bv, nI_bv]
  apply BitVec.eq_of_toNat_eq
  rw [BitVec.toNat_xor, BitVec.toNat_ofNat, BitVec.toNat_ofNat, BitVec.toNat_ofNat, Nat.mod_eq_of_lt ha, Nat.mod_eq_of_lt hb, Nat.mod_eq_of_lt (Nat.xor_lt_two_pow ha hb)]
theorem k31 {k : Nat} (h : k < 32) : nI k &&& 31 = nI k := by
  rw [pk_andN (by omega) 5 (by decide), Nat.mod_eq_of_lt (by omega)]
theorem smod_k {k : Nat} (h : k < 32) : ((nI k).toBitVec.smod 32).toNat = k := by
  have : ∀ k : Fin 32, ((nI k.1).toBitVec.smod 32).toNat = k.1 := by decide
  exact this ⟨k, h⟩
theorem one_shl {k : Nat} (h : k < 31) : (1 : Int32) <<< (nI k &&& 31) = nI (2 ^ k) := by
  rw [k31 (by omega)]
  have h2 : 2 ^ k < 2 ^ 32 := Nat.pow_lt_pow_right (by omega) (by omega)
  have := pk_shlN (n := 1) (nI k) k (smod_k (by omega)) (by omega)
  rw [Nat.one_mul] at this
  exact this
theorem hb_bit {s k : Nat} (hs : s < 2 ^ 31) (hk : k < 31) : hb (nI s) (nI k) = s.testBit k := by
  unfold hb
  rw [k31 (by omega), pk_shrN hs (nI k) k (smod_k (by omega)), pk_andN (by have := Nat.div_le_self s (2 ^ k); omega) (m := 1) 1 (by decide)]
  have e : (s / 2 ^ k % 2 ^ 1) < 2 := by omega
  rw [Nat.testBit_eq_decide_div_mod_eq]
  have e2 : (nI (s / 2 ^ k % 2 ^ 1) = (1 : Int32)) = (s / 2 ^ k % 2 = 1) := by
    have := lit_eq (n := s / 2 ^ k % 2 ^ 1) (i := 1) (by omega) (by omega)
    exact this
  simp only [e2]
/-- a set without the bit k -/
def clr (s k : Nat) : Nat := s &&& (2 ^ 30 - 1 - 2 ^ k)
theorem nI_clr {s k : Nat} (hs : s < 2 ^ 30) (hk : k < 30) : nI s &&& (nI (2 ^ k) ^^^ -1) = nI (clr s k) := by
  have hp : 2 ^ k < 2 ^ 30 := Nat.pow_lt_pow_right (by omega) hk
  apply nI_inj
  rw [Int32.toBitVec_and, Int32.toBitVec_xor, nI_bv, nI_bv, nI_bv]
  apply BitVec.eq_of_getLsbD_eq
  intro i hi
  have h1 : (-1 : Int32).toBitVec = BitVec.allOnes 32 := by decide
  rw [h1, BitVec.xor_allOnes, BitVec.getLsbD_and, BitVec.getLsbD_not]
  simp only [BitVec.getLsbD_ofNat, hi, decide_true, Bool.true_and]
  unfold clr
  rw [Nat.testBit_and]
  by_cases h30 : i < 30
  · congr 1
    have := Nat.testBit_two_pow_sub_succ (n := 30) (x := 2 ^ k) hp i
    rw [show 2 ^ 30 - 1 - 2 ^ k = 2 ^ 30 - (2 ^ k + 1) by omega, this]
    simp [h30]
  · have : s.testBit i = false := Nat.testBit_lt_two_pow (Nat.lt_of_lt_of_le hs (Nat.pow_le_pow_right (by omega) (by omega)))
    simp [this]
theorem clr_bit {s k i : Nat} (hk : k < 30) (hs : s < 2 ^ 30) : (clr s k).testBit i = (s.testBit i && decide (i ≠ k)) := by
  have hp : 2 ^ k < 2 ^ 30 := Nat.pow_lt_pow_right (by omega) hk
  unfold clr
  rw [Nat.testBit_and, show 2 ^ 30 - 1 - 2 ^ k = 2 ^ 30 - (2 ^ k + 1) by omega, Nat.testBit_two_pow_sub_succ hp, Nat.testBit_two_pow]
  by_cases h30 : i < 30
  · by_cases e : k = i
    · simp [h30, e]
    · have e2 : i ≠ k := fun z => e z.symm
      simp [h30, e, e2]
  · have : s.testBit i = false := Nat.testBit_lt_two_pow (Nat.lt_of_lt_of_le hs (Nat.pow_le_pow_right (by omega) (by omega)))
    simp [this]
theorem clr_le {s k : Nat} : clr s k ≤ s := Nat.and_le_left
def ins (s k : Nat) : Nat := s ||| 2 ^ k
theorem ins_bit {s k i : Nat} : (ins s k).testBit i = (s.testBit i || decide (i = k)) := by
  unfold ins
  rw [Nat.testBit_or, Nat.testBit_two_pow]
  by_cases e : k = i
  · simp [e]
  · have e2 : i ≠ k := fun z => e z.symm
    simp [e, e2]
theorem ins_lt {s k n : Nat} (hs : s < 2 ^ n) (hk : k < n) : ins s k < 2 ^ n := Nat.or_lt_two_pow hs (Nat.pow_lt_pow_right (by omega) hk)
theorem clr_lt {s k n : Nat} (hs : s < n) : clr s k < n := Nat.lt_of_le_of_lt clr_le hs
/-- the component's 'with' -/
def wth (s k : Nat) (is : Int32) : Nat := if is = 0 then clr s k else ins s k
theorem with_n {s k : Nat} {is : Int32} (hs : s < 2 ^ 30) (hk : k < 30) : fX0_with (nI s) (nI k) is = nI (wth s k is) := by
  have hp : 2 ^ k < 2 ^ 30 := Nat.pow_lt_pow_right (by omega) hk
  unfold fX0_with wth
  by_cases h : is = 0
  · rw [if_pos h, if_pos h, one_shl (by omega), nI_clr hs hk]
  · rw [if_neg h, if_neg h, one_shl (by omega), nI_or (by omega) (by omega)]
    rfl
theorem wth_lt {s k n : Nat} {is : Int32} (hs : s < 2 ^ n) (hk : k < n) : wth s k is < 2 ^ n := by
  unfold wth
  split
  · exact clr_lt hs
  · exact ins_lt hs hk
theorem wth_bit {s k i : Nat} {is : Int32} (hk : k < 30) (hs : s < 2 ^ 30) : (wth s k is).testBit i = if i = k then decide (is ≠ 0) else s.testBit i := by
  unfold wth
  by_cases h : is = 0
  · rw [if_pos h, clr_bit hk hs]
    by_cases e : i = k <;> simp [e, h]
  · rw [if_neg h, ins_bit]
    by_cases e : i = k <;> simp [e, h]
/-- the reference's way: the bit cleared, then set -/
theorem clr_ins {s k : Nat} (hk : k < 30) (hs : s < 2 ^ 30) : clr s k ||| 2 ^ k = ins s k := by
  apply Nat.eq_of_testBit_eq
  intro i
  have h1 : (clr s k ||| 2 ^ k).testBit i = (ins (clr s k) k).testBit i := rfl
  rw [h1, ins_bit, clr_bit hk hs, ins_bit]
  by_cases e : i = k <;> simp [e]
theorem model_with {s k : Nat} {is : Int32} (hs : s < 2 ^ 30) (hk : k < 30) : ((nI s &&& (((1 : Int32) <<< (nI k &&& 31)) ^^^ (-1 : Int32))) ||| (if is = 0 then (0 : Int32) else (1 : Int32) <<< (nI k &&& 31))) = nI (wth s k is) := by
  have hp : 2 ^ k < 2 ^ 30 := Nat.pow_lt_pow_right (by omega) hk
  have hc : clr s k < 2 ^ 30 := clr_lt hs
  rw [one_shl (by omega), nI_clr hs hk]
  unfold wth
  by_cases h : is = 0
  · rw [if_pos h, if_pos h]
    have := nI_or (a := clr s k) (b := 0) (by omega) (by omega)
    rw [Nat.or_zero] at this
    exact this
  · rw [if_neg h, if_neg h, nI_or (by omega) (by omega), clr_ins hk hs]
/-! how many bits a set of ten has -/
def pop (s : Nat) : Nat := fo (fun k n => n + s / 2 ^ k % 2) 0 10
theorem pop_le (s : Nat) : pop s ≤ 10 := by
  have := fo_inv (f := fun k n => n + s / 2 ^ k % 2) (a := 0) (fun i x => x ≤ i) 10 (Nat.le_refl _) (fun i x _ h => by show x + s / 2 ^ i % 2 ≤ i + 1; have := Nat.mod_lt (s / 2 ^ i) (show 0 < 2 by omega); omega) 10 (Nat.le_refl _)
  exact this
theorem bits_n {s : Nat} (hs : s < 1024) : fX2_bits (nI s) = some (nI (pop s)) := by
  unfold fX2_bits
  rw [it_fo (F := fX2_bits_L4 (nI s)) (fun k (n : Int32) => n + nI (s / 2 ^ k % 2)) 0 10 (fun x => (x, nI 10)) (fun _ _ => True) (by omega) trivial ?_ ?_]
  · have : ∀ n, n ≤ 10 → fo (fun k (n : Int32) => n + nI (s / 2 ^ k % 2)) 0 n = nI (fo (fun k n => n + s / 2 ^ k % 2) 0 n) := by
      intro n
      induction n with
      | zero => intro _; exact nI_0.symm
      | succ n ih =>
        intro h
        show fo _ 0 n + nI (s / 2 ^ n % 2) = nI (_ + _)
        rw [ih (by omega), nI_add]
    show some _ = some _
    rw [this 10 (Nat.le_refl _)]
    rfl
  · intro i x hi _
    refine ⟨fun rec => ?_, trivial⟩
    unfold fX2_bits_L4
    dsimp only
    rw [if_neg (by rw [show (10 : Int32) = nI 10 from rfl, lit_le (by omega) (by omega)]; omega)]
    rw [k31 (by omega), pk_shrN (by omega) (nI i) i (smod_k (by omega)), pk_andN (by have := Nat.div_le_self s (2 ^ i); omega) (m := 1) 1 (by decide), nI_add1]
    rfl
  · intro x _ rec
    unfold fX2_bits_L4
    dsimp only
    rw [if_pos (by rw [show (10 : Int32) = nI 10 from rfl, lit_le (by omega) (by omega)]; omega)]
theorem bitCount_n {s : Nat} (hs : s < 1024) : fJ0_bitCount (nI s) = some (nI (pop s)) := by
  have : ∀ s : Fin 1024, fJ0_bitCount (nI s.1) = some (nI (pop s.1)) := by decide +kernel
  exact this ⟨s, hs⟩
