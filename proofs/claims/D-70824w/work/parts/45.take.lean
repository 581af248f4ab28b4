/-! A MINE IS TAKEN OVER; lamps as a set; the first dark one -/
set_option maxRecDepth 100000
def inr (f x : Nat) : Prop := (f ≤ 2 ∧ x < 10) ∨ (((6 ≤ f ∧ f ≤ 11) ∨ f = 13 ∨ f = 14) ∧ x < 8) ∨ ((f = 3 ∨ f = 4 ∨ f = 5 ∨ f = 12 ∨ f = 15) ∧ x = 0)
theorem wf_ext {m m' : Nat → Nat → Int32} (h : ∀ f x, inr f x → m' f x = m f x) (hw : wf m) : wf m' := by
  obtain ⟨w0, w1, w2, w3, w4, w5, w6, w7, w8, w9, w10, w11⟩ := hw
  refine ⟨fun g hg => ?_, fun a b ha hb => ?_, fun g hg => ?_, ?_, ?_, ?_, fun k hk => ?_, fun k hk => ?_, ?_, fun e he => ?_, fun e he => ?_, ?_⟩
  · rw [h 0 g (by unfold inr; omega)]; exact w0 g hg
  · rw [h 0 a (by unfold inr; omega), h 0 b (by unfold inr; omega)]; exact w1 a b ha hb
  · rw [h 1 g (by unfold inr; omega)]; exact w2 g hg
  · rw [h 3 0 (by unfold inr; omega)]; exact w3
  · rw [h 4 0 (by unfold inr; omega)]; exact w4
  · rw [h 5 0 (by unfold inr; omega)]; exact w5
  · rw [h 8 k (by unfold inr; omega), h 9 k (by unfold inr; omega), h 11 k (by unfold inr; omega)]; exact w6 k hk
  · rw [h 10 k (by unfold inr; omega)]; exact w7 k hk
  · rw [h 12 0 (by unfold inr; omega)]; exact w8
  · rw [h 13 e (by unfold inr; omega)]; exact w9 e he
  · rw [h 14 e (by unfold inr; omega)]; exact w10 e he
  · rw [h 15 0 (by unfold inr; omega)]; exact w11
theorem rel_ext {m m' v : Nat → Nat → Int32} (h : ∀ f x, inr f x → m' f x = m f x) (hr : rel m v) : rel m' v := by
  obtain ⟨r1, r2, r3, r4, r5, r6, r7, r8⟩ := hr
  refine ⟨fun k hk => ?_, fun g hg => ?_, ?_, ?_, ?_, ?_, ?_, fun e he => ?_⟩
  · rw [h 9 k (by unfold inr; omega), h 10 k (by unfold inr; omega), h 6 k (by unfold inr; omega), h 7 k (by unfold inr; omega), h 8 k (by unfold inr; omega), h 5 0 (by unfold inr; omega), h 11 k (by unfold inr; omega)]; exact r1 k hk
  · rw [h 2 g (by unfold inr; omega), h 0 g (by unfold inr; omega), h 1 g (by unfold inr; omega)]; exact r2 g hg
  · rw [h 4 0 (by unfold inr; omega)]; exact r3
  · rw [h 12 0 (by unfold inr; omega)]; exact r4
  · rw [h 5 0 (by unfold inr; omega)]; exact r5
  · rw [h 3 0 (by unfold inr; omega)]; exact r6
  · rw [h 15 0 (by unfold inr; omega)]; exact r7
  · rw [h 13 e (by unfold inr; omega), h 14 e (by unfold inr; omega)]; exact r8 e he
theorem layOver_eq {M : am_M} {o o1 : Nat} {m : Nat → Nat → Int32} (ho : ¬ o1 = o) (k n : Nat) (hn : n < 2 ^ 31) : fX0_layOver (va_up M o m) o1 k n o k n = some (va_up M o (va_up m k (va_cpy (M o1 k) (m k) 0 0 n))) := by
  unfold fX0_layOver am_cp
  have e : (Int32.ofNat n).toNatClampNeg = n := nI_clamp hn
  rw [e, sm_at, sm_ne ho]
  rw [if_neg]
  · rw [Option.bind_some, up_up]
  · rintro (h | h | h)
    · exact nI_pos hn h
    · omega
    · omega
def tk0 (s m : Nat → Nat → Int32) : Nat → Nat → Int32 := va_up (va_up (va_up m 0 (va_cpy (s 0) (m 0) 0 0 10)) 1 (va_cpy (s 1) (m 1) 0 0 10)) 2 (va_cpy (s 2) (m 2) 0 0 10)
def tk1 (s m : Nat → Nat → Int32) : Nat → Nat → Int32 := va_up (va_up (va_up (tk0 s m) 3 (va_up (m 3) 0 (s 3 0))) 4 (va_up (m 4) 0 (s 4 0))) 5 (va_up (m 5) 0 (s 5 0))
def tk2 (s m : Nat → Nat → Int32) : Nat → Nat → Int32 := va_up (va_up (va_up (va_up (va_up (va_up (tk1 s m) 6 (va_cpy (s 6) (m 6) 0 0 8)) 7 (va_cpy (s 7) (m 7) 0 0 8)) 8 (va_cpy (s 8) (m 8) 0 0 8)) 9 (va_cpy (s 9) (m 9) 0 0 8)) 10 (va_cpy (s 10) (m 10) 0 0 8)) 11 (va_cpy (s 11) (m 11) 0 0 8)
def tkR (s m : Nat → Nat → Int32) : Nat → Nat → Int32 := va_up (va_up (va_up (va_up (tk2 s m) 12 (va_up (m 12) 0 (s 12 0))) 13 (va_cpy (s 13) (m 13) 0 0 8)) 14 (va_cpy (s 14) (m 14) 0 0 8)) 15 (va_up (m 15) 0 (s 15 0))
theorem take_eq (M : am_M) {j j1 : Nat} (hj : ¬ j1 = j) : fX1_take M j j1 = some (va_up M (j + 2) (tkR (M (j1 + 2)) (M (j + 2)))) := by
  have ho : ¬ j1 + 2 = j + 2 := by omega
  have hM : M = va_up M (j + 2) (M (j + 2)) := sm_id.symm
  have key : ∀ m : Nat → Nat → Int32, fX1_take (va_up M (j + 2) m) j j1 = some (va_up M (j + 2) (tkR (M (j1 + 2)) m)) := by
    intro m
    unfold fX1_take
    rw [layOver_eq ho 0 10 (by omega), Option.bind_some, layOver_eq ho 1 10 (by omega), Option.bind_some, layOver_eq ho 2 10 (by omega), Option.bind_some]
    simp only [sm_put, sm_at, sm_ne ho]
    rw [layOver_eq ho 6 8 (by omega), Option.bind_some, layOver_eq ho 7 8 (by omega), Option.bind_some, layOver_eq ho 8 8 (by omega), Option.bind_some, layOver_eq ho 9 8 (by omega), Option.bind_some, layOver_eq ho 10 8 (by omega), Option.bind_some, layOver_eq ho 11 8 (by omega), Option.bind_some]
    simp only [sm_put, sm_at, sm_ne ho]
    rw [layOver_eq ho 13 8 (by omega), Option.bind_some, layOver_eq ho 14 8 (by omega), Option.bind_some]
    simp only [sm_put, sm_at, sm_ne ho]
    rfl
  have := key (M (j + 2))
  rw [sm_id] at this
  exact this
theorem tkR_at {s m : Nat → Nat → Int32} {f x : Nat} (h : inr f x) : tkR s m f x = s f x := by
  have c10 : ∀ k y, y < 10 → va_cpy (s k) (m k) 0 0 10 y = s k y := fun k y hy => by rw [pk_cpy_in (by omega) (by omega)]; congr 1; omega
  have c8 : ∀ k y, y < 8 → va_cpy (s k) (m k) 0 0 8 y = s k y := fun k y hy => by rw [pk_cpy_in (by omega) (by omega)]; congr 1; omega
  rcases h with ⟨hf, hx⟩ | ⟨hf, hx⟩ | ⟨hf, hx⟩
  · rcases (show f = 0 ∨ f = 1 ∨ f = 2 by omega) with rfl | rfl | rfl
    · exact c10 0 x hx
    · exact c10 1 x hx
    · exact c10 2 x hx
  · rcases (show f = 6 ∨ f = 7 ∨ f = 8 ∨ f = 9 ∨ f = 10 ∨ f = 11 ∨ f = 13 ∨ f = 14 by omega) with rfl | rfl | rfl | rfl | rfl | rfl | rfl | rfl
    · exact c8 6 x hx
    · exact c8 7 x hx
    · exact c8 8 x hx
    · exact c8 9 x hx
    · exact c8 10 x hx
    · exact c8 11 x hx
    · exact c8 13 x hx
    · exact c8 14 x hx
  · subst hx
    rcases hf with rfl | rfl | rfl | rfl | rfl <;> rfl
theorem wf_take {s m : Nat → Nat → Int32} (hw : wf s) : wf (tkR s m) := wf_ext (fun _ _ h => tkR_at h) hw
theorem rel_take {s m v : Nat → Nat → Int32} (hr : rel s v) : rel (tkR s m) v := rel_ext (fun _ _ h => tkR_at h) hr
/-! lamps as a set -/
def lset (m : Nat → Nat → Int32) : Nat := fo (fun g s => if lit m (nI g) ≤ 0 then s else ins s g) 0 10
theorem lamp_set (m : Nat → Nat → Int32) : lamp m = nI (lset m) ∧ lset m < 1024 := by
  have key : ∀ n, n ≤ 10 → fo (fun g s => s ||| (if lit m (nI g) ≤ 0 then 0 else (1 : Int32) <<< (nI g &&& 31))) 0 n = nI (fo (fun g s => if lit m (nI g) ≤ 0 then s else ins s g) 0 n) ∧ fo (fun g s => if lit m (nI g) ≤ 0 then s else ins s g) 0 n < 1024 := by
    intro n
    induction n with
    | zero => intro _; exact ⟨nI_0.symm, by show 0 < 1024; omega⟩
    | succ n ih =>
      intro h
      obtain ⟨e, hl⟩ := ih (by omega)
      have hp : 2 ^ n < 1024 := Nat.pow_lt_pow_right (show 1 < 2 by omega) (show n < 10 by omega)
      show _ ||| _ = nI (if lit m (nI n) ≤ 0 then _ else _) ∧ (if lit m (nI n) ≤ 0 then _ else _) < 1024
      rw [e]
      by_cases z : lit m (nI n) ≤ 0
      · rw [if_pos z, if_pos z]
        refine ⟨?_, hl⟩
        have q := nI_or (a := fo (fun g s => if lit m (nI g) ≤ 0 then s else ins s g) 0 n) (b := 0) (by omega) (by omega)
        rw [Nat.or_zero] at q
        exact q
      · rw [if_neg z, if_neg z, one_shl (by omega), nI_or (by omega) (by omega)]
        exact ⟨rfl, ins_lt (n := 10) hl (by omega)⟩
  exact key 10 (Nat.le_refl _)
/-- what is in a and not in b -/
def dif (a b : Nat) : Nat := a &&& (2 ^ 30 - 1 - b)
theorem nI_dif {a b : Nat} (ha : a < 2 ^ 30) (hb : b < 2 ^ 30) : nI a &&& (nI b ^^^ -1) = nI (dif a b) := by
  apply nI_inj
  rw [Int32.toBitVec_and, Int32.toBitVec_xor, nI_bv, nI_bv, nI_bv]
  apply BitVec.eq_of_getLsbD_eq
  intro i hi
  have h1 : (-1 : Int32).toBitVec = BitVec.allOnes 32 := by decide
  rw [h1, BitVec.xor_allOnes, BitVec.getLsbD_and, BitVec.getLsbD_not]
  simp only [BitVec.getLsbD_ofNat, hi, decide_true, Bool.true_and]
  unfold dif
  rw [Nat.testBit_and]
  by_cases h30 : i < 30
  · congr 1
    rw [show 2 ^ 30 - 1 - b = 2 ^ 30 - (b + 1) by omega, Nat.testBit_two_pow_sub_succ hb]
    simp [h30]
  · have : a.testBit i = false := Nat.testBit_lt_two_pow (Nat.lt_of_lt_of_le ha (Nat.pow_le_pow_right (by omega) (by omega)))
    simp [this]
theorem dif_bit {a b i : Nat} (ha : a < 2 ^ 30) (hb : b < 2 ^ 30) : (dif a b).testBit i = (a.testBit i && !b.testBit i) := by
  unfold dif
  rw [Nat.testBit_and, show 2 ^ 30 - 1 - b = 2 ^ 30 - (b + 1) by omega, Nat.testBit_two_pow_sub_succ hb]
  by_cases h30 : i < 30
  · simp [h30]
  · have : a.testBit i = false := Nat.testBit_lt_two_pow (Nat.lt_of_lt_of_le ha (Nat.pow_le_pow_right (by omega) (by omega)))
    simp [this]
theorem dif_le {a b : Nat} : dif a b ≤ a := Nat.and_le_left
/-- the least bit -/
def lsb (x : Nat) : Nat := ((List.range 10).find? (fun i => x.testBit i)).getD 10
theorem lsb_ok {x : Nat} (h0 : 0 < x) (h1 : x < 1024) : fJ0_numberOfTrailingZeros (nI x) = some (nI (lsb x)) ∧ lsb x < 10 ∧ x.testBit (lsb x) = true ∧ ∀ i, i < lsb x → x.testBit i = false := by
  have : ∀ x : Fin 1024, 0 < x.1 → fJ0_numberOfTrailingZeros (nI x.1) = some (nI (lsb x.1)) ∧ lsb x.1 < 10 ∧ x.1.testBit (lsb x.1) = true ∧ ∀ i : Fin 10, i.1 < lsb x.1 → x.1.testBit i.1 = false := by decide +kernel
  obtain ⟨a, b, c, d⟩ := this ⟨x, h1⟩ h0
  have b' : lsb x < 10 := b
  exact ⟨a, b, c, fun i hi => d ⟨i, Nat.lt_trans hi b'⟩ hi⟩
