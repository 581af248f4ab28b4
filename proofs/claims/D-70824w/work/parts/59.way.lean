/-! OPERATIONS: cut, way -/
set_option maxRecDepth 100000
def pN (m : Nat → Nat → Int32) (g : Nat) : Nat := (m 0 g).toNatClampNeg
theorem pN_ok {m : Nat → Nat → Int32} (hw : wf m) {g : Nat} (hg : g < 10) : pN m g < 1024 ∧ m 0 g = nI (pN m g) := by
  obtain ⟨p, hp, e⟩ := hw.1 g hg
  unfold pN
  rw [e, nI_clamp (by omega)]
  exact ⟨hp, rfl⟩
theorem pN_sym {m : Nat → Nat → Int32} (hw : wf m) (a b : Nat) (ha : a < 10) (hb' : b < 10) : (pN m a).testBit b = (pN m b).testBit a := by
  have h := hw.2.1 a b ha hb'
  have h1 := pN_ok hw ha
  have h2 := pN_ok hw hb'
  rw [h1.2, h2.2, hb_bit (by omega) (by omega), hb_bit (by omega) (by omega)] at h
  exact h
theorem eqc_18 {N : am_M} {u' : Nat → Nat → Int32} (h : ∀ f, f ≠ 18 → u' f = N 1 f) : eqc N (va_up N 1 u') := ⟨sm_ne (by decide), sm_ne (by decide), sm_ne (by decide), by rw [sm_ne (by decide)], by rw [sm_ne (by decide)], fun k h1 h2 => by rw [sm_at]; exact h k (by omega), by rw [sm_at]; exact h 22 (by omega), by rw [sm_at]; exact h 23 (by omega)⟩
theorem lyU_ne {u : Nat → Nat → Int32} {p : Nat → Nat} {σ x f : Nat} (h : f ≠ 18) : lyU u p σ x f = u f := by
  unfold lyU
  simp [va_up, h]
theorem frI_neg {n : Nat} (h : n ≤ 10) : (0 ≤ frI n) = (n < 10) := by
  apply propext
  unfold frI
  by_cases c : n < 10
  · rw [if_pos c, show (0 : Int32) = nI 0 from rfl, lit_le (by omega) (by omega)]
    exact ⟨fun _ => c, fun _ => by omega⟩
  · rw [if_neg c]
    exact ⟨fun q => absurd q (by decide), fun q => absurd q c⟩
theorem fd_le (P : Nat → Nat → Bool) (S : Nat → Bool) (x y : Nat) : fd P S x y ≤ 10 := by
  rcases fd_ok P S x y with ⟨a1, -, -⟩ | ⟨a1, -⟩ <;> omega
theorem fdN_lt (P : Nat → Nat → Bool) (S : Nat → Bool) (x y : Nat) : (nI (fdN P S x y) < (1000000 : Int32)) = (fd P S x y < 10) := by
  have e : (1000000 : Int32) = nI 1000000 := rfl
  unfold fdN
  by_cases c : fd P S x y < 10
  · rw [if_pos c, e, lit_lt (by omega) (by omega)]
    exact propext ⟨fun _ => c, fun _ => by omega⟩
  · rw [if_neg c, e, lit_lt (by omega) (by omega)]
    exact propext ⟨fun q => by omega, fun q => absurd q c⟩
theorem lyU_rd {u : Nat → Nat → Int32} {p : Nat → Nat} {σ x h : Nat} (hh : h < 10) : am_rd (lyU u p σ x 18) 10 (nI h) = some (nI (fdN (fun g h => (p g).testBit h) (fun h => σ.testBit h) x h)) := by
  have := fa_rd (N := fun _ _ _ => 0) (u := u) (F := fdN (fun g h => (p g).testBit h) (fun h => σ.testBit h) x) (B := u 18) hh
  exact this
theorem op_cut {L : Nat → Bool} {M : am_M} (h : Inv L M) : ∃ r M2, fX0_cut M = some r ∧ fX2_cut M = some (r, M2) ∧ Inv L M2 := by
  have h0 := h
  obtain ⟨hw, hr, -, -⟩ := h
  obtain ⟨c, hc, ec⟩ := hw.2.2.2.2.1
  have hd : dif 1023 c < 1024 := Nat.lt_of_le_of_lt dif_le (by omega)
  have eo : fX0_open M = nI (dif 1023 c) := by
    unfold fX0_open
    rw [ec, show (1023 : Int32) = nI 1023 from rfl, nI_dif (by omega) (by omega)]
  generalize hσ : dif 1023 c = σ at hd eo
  have hp : ∀ g, g < 10 → pN (M 2) g < 1024 ∧ M 1 6 g = nI (pN (M 2) g) := fun g hg => ⟨(pN_ok hw hg).1, ((hr.2.1 g hg).2.1).trans (pN_ok hw hg).2⟩
  have hl := lay_eq M hp hd (show 0 < 10 by omega)
  rw [sm_id] at hl
  have hpl : ∀ k, k < 8 → ∃ q, q < 10 ∧ M 2 10 k = nI q := fun k hk => hw.2.2.2.2.2.2.2.1 k hk
  refine ⟨fo (fun k s => s ||| (if (hb (M 2 5 0) (nI k) && !decide (fd (fun g h => (pN (M 2) g).testBit h) (fun h => σ.testBit h) 0 (M 2 10 k).toNatClampNeg < 10)) = true then (1 : Int32) <<< (nI k &&& 31) else 0)) 0 8, va_up M 1 (lyU (M 1) (pN (M 2)) σ 0), ?_, ?_, Inv_eqc h0 (eqc_18 (fun f hf => lyU_ne hf))⟩
  · unfold fX0_cut
    rw [it_fo (F := fX0_cut_L4 M) (fun k s => s ||| (if (hb (M 2 5 0) (nI k) && !decide (fd (fun g h => (pN (M 2) g).testBit h) (fun h => σ.testBit h) 0 (M 2 10 k).toNatClampNeg < 10)) = true then (1 : Int32) <<< (nI k &&& 31) else 0)) 0 8 (fun x => (x, nI 8)) (fun _ _ => True) (by omega) trivial (fun i x hi _ => ⟨fun rec => ?_, trivial⟩) (fun x _ rec => ?_)]
    · rfl
    · obtain ⟨q, hq, e⟩ := hpl i hi
      unfold fX0_cut_L4
      simp only [if_neg (n8 hi), there_b1, ite_b1, rd8 hi, e, eo, Option.bind_some, nI_add1, nI_clamp (show q < 2 ^ 31 by omega)]
      rw [show (0 : Int32) = nI 0 from rfl, far_x0 (fun g hg => (pN_ok hw hg).1) (fun g hg => (pN_ok hw hg).2) hd hq (show 0 < 10 by omega), fd_sym (pN_sym hw) hq (show 0 < 10 by omega), Option.bind_some, show nI 0 = (0 : Int32) from rfl]
      simp only [frI_neg (fd_le _ _ _ _)]
      cases hb (M 2 5 0) (nI i) with
      | false => simp
      | true =>
        by_cases cc : fd (fun g h => (pN (M 2) g).testBit h) (fun h => σ.testBit h) 0 q < 10
        · simp [cc]
        · simp [cc]
    · unfold fX0_cut_L4
      simp only [if_pos p8]
  · unfold fX2_cut
    rw [show (34 : Int32) = nI 34 from rfl, rd36 (by omega), Option.bind_some, hr.2.2.1, ec, show (1023 : Int32) = nI 1023 from rfl, nI_dif (by omega) (by omega), hσ, show fX2_layFar M (0 : Int32) (nI σ) = _ from hl, Option.bind_some]
    rw [it_fo (F := fX2_cut_L22 (va_up M 1 (lyU (M 1) (pN (M 2)) σ 0))) (fun k s => s ||| (if (hb (M 2 5 0) (nI k) && !decide (fd (fun g h => (pN (M 2) g).testBit h) (fun h => σ.testBit h) 0 (M 2 10 k).toNatClampNeg < 10)) = true then (1 : Int32) <<< (nI k &&& 31) else 0)) 0 8 (fun x => (x, nI 8)) (fun _ _ => True) (by omega) trivial (fun i x hi _ => ⟨fun rec => ?_, trivial⟩) (fun x _ rec => ?_)]
    · rfl
    · obtain ⟨q, hq, e⟩ := hpl i hi
      have e16 : M 1 0 (16 + i) = nI q := ((hr.1 i hi).2.1).trans e
      have e2 : M 1 2 0 = M 2 5 0 := hr.2.2.2.2.1
      unfold fX2_cut_L22
      simp only [if_neg (n8 hi), sm_at, lyU_ne (show 2 ≠ 18 by decide), lyU_ne (show 0 ≠ 18 by decide), e2, has_hb, show (16 : Int32) + nI i = nI (16 + i) from nI_add 16 i, rd36 (show 16 + i < 36 by omega), e16, Option.bind_some, lyU_rd hq, fdN_lt, nI_add1, e, nI_clamp (show q < 2 ^ 31 by omega)]
      cases hb (M 2 5 0) (nI i) with
      | false => simp
      | true =>
        by_cases cc : fd (fun g h => (pN (M 2) g).testBit h) (fun h => σ.testBit h) 0 q < 10
        · simp [cc]
        · simp [cc]
    · unfold fX2_cut_L22
      simp only [if_pos p8]
def cd9 (i : Nat) : Int32 := if i ≤ 9 then nI (9 - i) else -1
theorem cd9_st {i : Nat} (h : i < 10) : cd9 i + (-1) = cd9 (i + 1) := by
  have : ∀ i : Fin 10, cd9 i.1 + (-1) = cd9 (i.1 + 1) := by decide
  exact this ⟨i, h⟩
theorem cd9_at {i : Nat} (h : i < 10) : cd9 i = nI (9 - i) := if_pos (by omega)
/-- from nine down -/
theorem it_dn {F : (Int32 × Int32 → Option (Int32 × Int32)) → Int32 × Int32 → Option (Int32 × Int32)} (c : Nat → Bool) (h1 : ∀ g x rec, g < 10 → F rec (x, nI g) = rec (if c g = true then nI g else x, nI g + (-1))) (h2 : ∀ x rec, F rec (x, -1) = some (x, -1)) : am_it F am_fuel ((-6 : Int32), (9 : Int32)) = some (fo (fun i x => if c (9 - i) = true then nI (9 - i) else x) (-6) 10, -1) := by
  have z : ((-6 : Int32), (9 : Int32)) = (fo (fun i x => if c (9 - i) = true then nI (9 - i) else x) (-6) 0, cd9 0) := rfl
  rw [z]
  refine it_run0 (F := F) (fun i => (fo (fun i x => if c (9 - i) = true then nI (9 - i) else x) (-6) i, cd9 i)) 10 (by omega) (fun i hi rec => ?_) (fun rec => ?_)
  · show F rec (_, cd9 i) = rec (_, cd9 (i + 1))
    rw [← cd9_st hi, cd9_at hi, h1 _ _ _ (by omega)]
    rfl
  · exact h2 _ rec
theorem fo_id {c : Nat → Bool} (h : ∀ g, g < 10 → c g = false) : ∀ n, n ≤ 10 → fo (fun i (x : Int32) => if c (9 - i) = true then nI (9 - i) else x) (-6) n = -6 := by
  intro n
  induction n with
  | zero => intro _; rfl
  | succ n ih =>
    intro hn
    show (if c (9 - n) = true then nI (9 - n) else _) = _
    rw [h (9 - n) (by omega), if_neg (by decide)]
    exact ih (by omega)
theorem op_way {L : Nat → Bool} {M : am_M} (h : Inv L M) (a b d : Int32) : ∃ r M2, fX0_way M a b d = some r ∧ fX2_way M a b d = some (r, M2) ∧ Inv L M2 := by
  have h0 := h
  obtain ⟨hw, hr, -, -⟩ := h
  unfold fX0_way fX2_way
  rw [isGal_in, isGal_in, isEnd_in, isGal2_in, isGal2_in]
  by_cases g1 : fX2_in a 0 9 = 0
  · exact ⟨-1, M, by rw [if_pos g1], by rw [if_pos g1], h0⟩
  by_cases g2 : fX2_in b 0 9 = 0
  · exact ⟨-1, M, by rw [if_neg g1, if_pos g2], by rw [if_neg g1, if_pos g2], h0⟩
  by_cases g3 : fX2_in d 0 1 = 0
  · exact ⟨-2, M, by rw [if_neg g1, if_neg g2, if_pos g3], by rw [if_neg g1, if_neg g2, if_pos g3], h0⟩
  rw [if_neg g1, if_neg g2, if_neg g3, if_neg g1, if_neg g2, if_neg g3]
  obtain ⟨x, hx, rfl⟩ := in_n (n := 9) (by omega) g1
  obtain ⟨y, hy, rfl⟩ := in_n (n := 9) (by omega) g2
  obtain ⟨w, hw1, rfl⟩ := in_n (n := 1) (by omega) g3
  obtain ⟨c, hc, ec⟩ := hw.2.2.2.2.1
  obtain ⟨el, hl⟩ := lamp_set (M 2)
  have hra := asn_rel hr
  have hd : dif (lset (M 2)) c < 1024 := Nat.lt_of_le_of_lt dif_le hl
  have hd0 : dif 1023 c < 1024 := Nat.lt_of_le_of_lt dif_le (by omega)
  have eo : fX0_open M &&& nI (lset (M 2)) = nI (dif (lset (M 2)) c) := by
    unfold fX0_open
    rw [ec, show (1023 : Int32) = nI 1023 from rfl, nI_dif (by omega) (by omega), nI_and (by omega) (by omega)]
    congr 1
    apply Nat.eq_of_testBit_eq
    intro i
    rw [Nat.testBit_and, dif_bit (by omega) (by omega), dif_bit (by omega) (by omega)]
    cases q : (lset (M 2)).testBit i with
    | false => simp
    | true =>
      have hi := bit10 hl q
      have : ∀ i : Fin 10, (1023 : Nat).testBit i.1 = true := by decide
      rw [this ⟨i, hi⟩]
      simp
  have e34 : asnM M 1 0 34 = nI c := by
    have : asnM M 1 0 = M 1 0 := by
      have := asn_kps M 0 (by omega) (by omega)
      exact this
    rw [this, hr.2.2.1, ec]
  have e6 : asnM M 1 6 = M 1 6 := asn_kps M 6 (by omega) (by omega)
  have hp : ∀ g, g < 10 → pN (M 2) g < 1024 ∧ asnM M 1 6 g = nI (pN (M 2) g) := fun g hg => ⟨(pN_ok hw hg).1, by rw [e6]; exact ((hr.2.1 g hg).2.1).trans (pN_ok hw hg).2⟩
  have e2 : nI (lset (M 2)) &&& (nI c ^^^ (-1 : Int32)) = nI (dif (lset (M 2)) c) := nI_dif (by omega) (by omega)
  generalize hσ : dif (lset (M 2)) c = σ at hd eo e2
  have hly := lay_eq (asnM M) hp hd (show y < 10 by omega)
  rw [sm_id] at hly
  have hI : Inv L (va_up (asnM M) 1 (lyU (asnM M 1) (pN (M 2)) σ y)) := Inv_eqc (Inv_eqc h0 (asn_eqc M)) (eqc_18 (fun f hf => lyU_ne hf))
  have far : ∀ g, g < 10 → fX0_farIn M (nI σ) (nI g) (nI y) = some (frI (fd (fun g h => (pN (M 2) g).testBit h) (fun h => σ.testBit h) y g)) := fun g hg => by
    rw [far_x0 (fun g hg => (pN_ok hw hg).1) (fun g hg => (pN_ok hw hg).2) hd hg (show y < 10 by omega), fd_sym (pN_sym hw) hg (show y < 10 by omega)]
  rw [lamps_eq, asNow_eq, Option.bind_some, Option.bind_some, lampsM_eq hw hra, Option.bind_some, el, show (34 : Int32) = nI 34 from rfl, rd36 (by omega), Option.bind_some, e34, e2, eo, hly, Option.bind_some, far x (by omega), Option.bind_some, sm_at, lyU_rd (by omega), Option.bind_some]
  simp only [fdN_lt]
  have hle := fd_le (fun g h => (pN (M 2) g).testBit h) (fun h => σ.testBit h) y x
  rcases (show w = 0 ∨ w = 1 by omega) with rfl | rfl
  · rw [if_pos (show nI 0 = 0 from rfl), if_pos (show nI 0 = 0 from rfl)]
    by_cases cc : fd (fun g h => (pN (M 2) g).testBit h) (fun h => σ.testBit h) y x < 10
    · rw [if_pos cc, Option.bind_some]
      refine ⟨_, _, rfl, ?_, hI⟩
      unfold frI fdN
      rw [if_pos cc, if_pos cc]
    · rw [if_neg cc]
      refine ⟨_, _, rfl, ?_, hI⟩
      unfold frI
      rw [if_neg cc]
  · rw [if_neg (show ¬ nI 1 = 0 by decide), if_neg (show ¬ nI 1 = 0 by decide)]
    have hx0 : am_it (fX0_way_L65 M (nI x) (nI y) (frI (fd (fun g h => (pN (M 2) g).testBit h) (fun h => σ.testBit h) y x)) (nI (lset (M 2)))) am_fuel ((-6 : Int32), (9 : Int32)) = some (fo (fun i z => if (!decide (frI (fd (fun g h => (pN (M 2) g).testBit h) (fun h => σ.testBit h) y x) ≤ 0) && ((pN (M 2) x).testBit (9 - i) && decide (frI (fd (fun g h => (pN (M 2) g).testBit h) (fun h => σ.testBit h) y (9 - i)) = frI (fd (fun g h => (pN (M 2) g).testBit h) (fun h => σ.testBit h) y x) - 1))) = true then nI (9 - i) else z) (-6) 10, -1) := by
      refine it_dn (F := fX0_way_L65 M (nI x) (nI y) (frI (fd (fun g h => (pN (M 2) g).testBit h) (fun h => σ.testBit h) y x)) (nI (lset (M 2)))) (fun g => !decide (frI (fd (fun g h => (pN (M 2) g).testBit h) (fun h => σ.testBit h) y x) ≤ 0) && ((pN (M 2) x).testBit g && decide (frI (fd (fun g h => (pN (M 2) g).testBit h) (fun h => σ.testBit h) y g) = frI (fd (fun g h => (pN (M 2) g).testBit h) (fun h => σ.testBit h) y x) - 1))) (fun g z rec hg => ?_) (fun z rec => ?_)
      · have ng : ¬ nI g < 0 := by rw [show (0 : Int32) = nI 0 from rfl, lit_lt (by omega) (by omega)]; omega
        have px := pN_ok hw (show x < 10 by omega)
        unfold fX0_way_L65
        simp only [if_neg ng, rd10 (show x < 10 by omega), px.2, Option.bind_some, holds_hb, hb_bit (show pN (M 2) x < 2 ^ 31 by omega) (show g < 31 by omega), eo, far g hg]
        by_cases c1 : frI (fd (fun g h => (pN (M 2) g).testBit h) (fun h => σ.testBit h) y x) ≤ 0
        · rw [if_pos c1, Option.bind_some, decide_eq_true c1]; rfl
        · rw [if_neg c1, decide_eq_false c1]
          rcases Bool.eq_false_or_eq_true ((pN (M 2) x).testBit g) with c2 | c2
          · simp only [c2, if_true, if_neg (show ¬ (1 : Int32) = 0 by decide), Bool.not_false, Bool.true_and, decide_eq_true_eq]
            by_cases c3 : frI (fd (fun g h => (pN (M 2) g).testBit h) (fun h => σ.testBit h) y g) = frI (fd (fun g h => (pN (M 2) g).testBit h) (fun h => σ.testBit h) y x) - 1
            · rw [if_pos c3, if_pos c3, Option.bind_some]
            · rw [if_neg c3, if_neg c3, Option.bind_some]
          · simp only [c2, Bool.false_eq_true, if_false, if_true, Bool.false_and, Bool.and_false, Option.bind_some]
      · unfold fX0_way_L65
        rw [if_pos (show (-1 : Int32) < 0 by decide)]
    rw [hx0, Option.bind_some]
    by_cases cc : fd (fun g h => (pN (M 2) g).testBit h) (fun h => σ.testBit h) y x < 10
    · rw [if_pos cc]
      obtain ⟨f1, f2, f3⟩ : fd (fun g h => (pN (M 2) g).testBit h) (fun h => σ.testBit h) y x < 10 ∧ rc (fun g h => (pN (M 2) g).testBit h) (fun h => σ.testBit h) y (fd (fun g h => (pN (M 2) g).testBit h) (fun h => σ.testBit h) y x) x = true ∧ ∀ k, k < fd (fun g h => (pN (M 2) g).testBit h) (fun h => σ.testBit h) y x → rc (fun g h => (pN (M 2) g).testBit h) (fun h => σ.testBit h) y k x = false := by
        rcases fd_ok (fun g h => (pN (M 2) g).testBit h) (fun h => σ.testBit h) y x with q | q
        · exact q
        · omega
      have ef : frI (fd (fun g h => (pN (M 2) g).testBit h) (fun h => σ.testBit h) y x) = nI (fd (fun g h => (pN (M 2) g).testBit h) (fun h => σ.testBit h) y x) := if_pos cc
      have efN : fdN (fun g h => (pN (M 2) g).testBit h) (fun h => σ.testBit h) y x = fd (fun g h => (pN (M 2) g).testBit h) (fun h => σ.testBit h) y x := if_pos cc
      by_cases exy : x = y
      · have z0 : fd (fun g h => (pN (M 2) g).testBit h) (fun h => σ.testBit h) y x = 0 := by
          rcases Nat.eq_zero_or_pos (fd (fun g h => (pN (M 2) g).testBit h) (fun h => σ.testBit h) y x) with q | q
          · exact q
          · have q1 := f3 0 q
            have q2 := rc_S f2
            rw [exy] at q1 q2
            rw [rc_0 q2] at q1
            exact absurd q1 (by decide)
        refine ⟨-6, va_up (asnM M) 1 (lyU (asnM M 1) (pN (M 2)) σ y), ?_, ?_, hI⟩
        · show some _ = some _
          congr 1
          exact fo_id (c := fun g => !decide (frI (fd (fun g h => (pN (M 2) g).testBit h) (fun h => σ.testBit h) y x) ≤ 0) && ((pN (M 2) x).testBit g && decide (frI (fd (fun g h => (pN (M 2) g).testBit h) (fun h => σ.testBit h) y g) = frI (fd (fun g h => (pN (M 2) g).testBit h) (fun h => σ.testBit h) y x) - 1))) (fun g hg => by simp only [ef, z0]; rfl) 10 (Nat.le_refl _)
        · have q := it_run0 (F := fX2_way_L84 (nI x) (nI y) (va_up (asnM M) 1 (lyU (asnM M 1) (pN (M 2)) σ y))) (fun _ => ((-6 : Int32), (9 : Int32))) 0 (res := ((-6 : Int32), (9 : Int32))) (by omega) (fun i hi => by omega) (fun rec => by
            unfold fX2_way_L84
            rw [exy, if_neg (by decide), if_pos rfl])
          rw [q, Option.bind_some]
      · have z1 : 1 ≤ fd (fun g h => (pN (M 2) g).testBit h) (fun h => σ.testBit h) y x := by
          rcases Nat.eq_zero_or_pos (fd (fun g h => (pN (M 2) g).testBit h) (fun h => σ.testBit h) y x) with q | q
          · rw [q] at f2
            unfold rc at f2
            rw [Bool.and_eq_true, decide_eq_true_eq] at f2
            exact absurd f2.1 exy
          · exact q
        refine ⟨_, va_up (asnM M) 1 (lyU (asnM M 1) (pN (M 2)) σ y), rfl, ?_, hI⟩
        have hx2 : am_it (fX2_way_L84 (nI x) (nI y) (va_up (asnM M) 1 (lyU (asnM M 1) (pN (M 2)) σ y))) am_fuel ((-6 : Int32), (9 : Int32)) = some (fo (fun i z => if ((pN (M 2) x).testBit (9 - i) && decide (nI (fdN (fun g h => (pN (M 2) g).testBit h) (fun h => σ.testBit h) y (9 - i)) + 1 = nI (fd (fun g h => (pN (M 2) g).testBit h) (fun h => σ.testBit h) y x))) = true then nI (9 - i) else z) (-6) 10, -1) := by
          refine it_dn (F := fX2_way_L84 (nI x) (nI y) (va_up (asnM M) 1 (lyU (asnM M 1) (pN (M 2)) σ y))) (fun g => (pN (M 2) x).testBit g && decide (nI (fdN (fun g h => (pN (M 2) g).testBit h) (fun h => σ.testBit h) y g) + 1 = nI (fd (fun g h => (pN (M 2) g).testBit h) (fun h => σ.testBit h) y x))) (fun g z rec hg => ?_) (fun z rec => ?_)
          · have ng : ¬ nI g < 0 := by rw [show (0 : Int32) = nI 0 from rfl, lit_lt (by omega) (by omega)]; omega
            have nxy : ¬ nI x = nI y := by rw [lit_eq (by omega) (by omega)]; exact exy
            have px := pN_ok hw (show x < 10 by omega)
            unfold fX2_way_L84
            simp only [if_neg ng, if_neg nxy, sm_at, lyU_ne (show 6 ≠ 18 by decide), rd10 (f := asnM M 1 6) (show x < 10 by omega), (hp x (by omega)).2, Option.bind_some, has_hb, hb_bit (show pN (M 2) x < 2 ^ 31 by omega) (show g < 31 by omega), lyU_rd hg, lyU_rd (show x < 10 by omega), efN]
            rcases Bool.eq_false_or_eq_true ((pN (M 2) x).testBit g) with c2 | c2
            · simp only [c2, if_true, if_neg (show ¬ (1 : Int32) = 0 by decide), Bool.true_and, decide_eq_true_eq]
              by_cases c3 : nI (fdN (fun g h => (pN (M 2) g).testBit h) (fun h => σ.testBit h) y g) + 1 = nI (fd (fun g h => (pN (M 2) g).testBit h) (fun h => σ.testBit h) y x)
              · rw [if_pos c3, if_pos c3, Option.bind_some]
              · rw [if_neg c3, if_neg c3, Option.bind_some]
            · simp only [c2, Bool.false_eq_true, if_false, if_true, Bool.false_and, Option.bind_some]
          · unfold fX2_way_L84
            rw [if_pos (show (-1 : Int32) < 0 by decide)]
        rw [hx2, Option.bind_some]
        show some (_, _) = some (_, _)
        congr 2
        show fo _ _ _ = fo _ _ _
        refine fo_congr (fun i hi z => ?_)
        have hi9 : 9 - i < 10 := by omega
        have np : decide (frI (fd (fun g h => (pN (M 2) g).testBit h) (fun h => σ.testBit h) y x) ≤ 0) = false := by
          apply decide_eq_false
          rw [ef, show (0 : Int32) = nI 0 from rfl, lit_le (by omega) (by omega)]
          omega
        have eq : (nI (fdN (fun g h => (pN (M 2) g).testBit h) (fun h => σ.testBit h) y (9 - i)) + 1 = nI (fd (fun g h => (pN (M 2) g).testBit h) (fun h => σ.testBit h) y x)) ↔ (frI (fd (fun g h => (pN (M 2) g).testBit h) (fun h => σ.testBit h) y (9 - i)) = frI (fd (fun g h => (pN (M 2) g).testBit h) (fun h => σ.testBit h) y x) - 1) := by
          rw [ef, show (1 : Int32) = nI 1 from rfl, pk_sub z1, nI_add]
          unfold fdN frI
          by_cases c3 : fd (fun g h => (pN (M 2) g).testBit h) (fun h => σ.testBit h) y (9 - i) < 10
          · rw [if_pos c3, if_pos c3, lit_eq (by omega) (by omega), lit_eq (by omega) (by omega)]
            omega
          · rw [if_neg c3, if_neg c3, lit_eq (by omega) (by omega)]
            constructor
            · intro q; omega
            · intro q
              have : (0 : Int32) ≤ -6 := by
                rw [q, show (0 : Int32) = nI 0 from rfl, lit_le (by omega) (by omega)]
                omega
              exact absurd this (by decide)
        rw [np]
        simp only [eq, Bool.not_false, Bool.true_and]
    · rw [if_neg cc]
      have ef : frI (fd (fun g h => (pN (M 2) g).testBit h) (fun h => σ.testBit h) y x) = -6 := if_neg cc
      refine ⟨-6, _, ?_, rfl, hI⟩
      show some _ = some _
      congr 1
      exact fo_id (c := fun g => !decide (frI (fd (fun g h => (pN (M 2) g).testBit h) (fun h => σ.testBit h) y x) ≤ 0) && ((pN (M 2) x).testBit g && decide (frI (fd (fun g h => (pN (M 2) g).testBit h) (fun h => σ.testBit h) y g) = frI (fd (fun g h => (pN (M 2) g).testBit h) (fun h => σ.testBit h) y x) - 1))) (fun g hg => by simp only [ef]; rfl) 10 (Nat.le_refl _)
