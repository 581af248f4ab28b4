/-! ALL WAYS: findFar and layApart -/
set_option maxRecDepth 100000
def opn (m : Nat → Nat → Int32) : Nat := dif 1023 (m 4 0).toNatClampNeg
theorem opn_lt (m : Nat → Nat → Int32) : opn m < 1024 := Nat.lt_of_le_of_lt dif_le (by omega)
theorem opn_eq {m : Nat → Nat → Int32} (hw : wf m) : (1023 : Int32) &&& (m 4 0 ^^^ (-1 : Int32)) = nI (opn m) := by
  obtain ⟨c, hc, ec⟩ := hw.2.2.2.2.1
  unfold opn
  rw [ec, show (1023 : Int32) = nI 1023 from rfl, nI_dif (by omega) (by omega), nI_clamp (by omega)]
/-- how far in a mine, by galleries that are open -/
def fm (m : Nat → Nat → Int32) (a b : Nat) : Nat := fd (fun g h => (pN m g).testBit h) (fun h => (opn m).testBit h) a b
theorem fm_sym {m : Nat → Nat → Int32} (hw : wf m) {a b : Nat} (ha : a < 10) (hb' : b < 10) : fm m a b = fm m b a := fd_sym (pN_sym hw) ha hb'
def ffA (m : Nat → Nat → Int32) (B : Nat → Int32) (i : Nat) : Nat → Int32 := fun z => if z < i then frI (fm m (z / 10) (z % 10)) else B z
theorem findFar_eq {M : am_M} (hw : wf (M 2)) : fX0_findFar M = some (va_up M 0 (va_up (M 0) 16 (ffA (M 2) (M 0 16) 100))) := by
  have z : M = va_up M 0 (va_up (M 0) 16 (ffA (M 2) (M 0 16) 0)) := by
    have : ffA (M 2) (M 0 16) 0 = M 0 16 := by
      funext h; unfold ffA; rw [if_neg (by omega)]
    rw [this, up_same, sm_id]
  have hx : am_it fX0_findFar_L2 am_fuel ((0 : Int32), M) = some (nI 100, va_up M 0 (va_up (M 0) 16 (ffA (M 2) (M 0 16) 100))) := by
    conv => lhs; rw [z]
    refine it_run0 (F := fX0_findFar_L2) (fun i => (nI i, va_up M 0 (va_up (M 0) 16 (ffA (M 2) (M 0 16) i)))) 100 (by omega) (fun i hi rec => ?_) (fun rec => ?_)
    · have nl : ¬ (100 : Int32) ≤ nI i := nI_ge (a := i) (b := 100) hi (by omega)
      have ed : nI i / 10 = nI (i / 10) := pk_div (a := i) (d := 10) (by omega) (by omega) (by omega)
      have er : jv_rem (nI i) 10 = nI (i % 10) := pk_rem (a := i) (d := 10) (by omega) (by omega) (by omega)
      have h2 : va_up M 0 (va_up (M 0) 16 (ffA (M 2) (M 0 16) i)) 2 = M 2 := sm_ne (by decide)
      have eo : fX0_open (va_up M 0 (va_up (M 0) 16 (ffA (M 2) (M 0 16) i))) = nI (opn (M 2)) := by
        unfold fX0_open
        rw [h2]; exact opn_eq hw
      unfold fX0_findFar_L2
      simp only [if_neg nl, nI_add1, ed, er, eo]
      rw [far_x0 (M := va_up M 0 (va_up (M 0) 16 (ffA (M 2) (M 0 16) i))) (p := pN (M 2)) (fun g hg => (pN_ok hw hg).1) (fun g hg => by rw [h2]; exact (pN_ok hw hg).2) (opn_lt _) (show i / 10 < 10 by omega) (show i % 10 < 10 by omega), Option.bind_some, wr_n hi (by omega), Option.bind_some, sm_up]
      congr 2
      rw [show va_up (M 0) 16 (ffA (M 2) (M 0 16) i) 16 = ffA (M 2) (M 0 16) i by simp [va_up]]
      congr 1
      funext f y
      by_cases hf : f = 16
      · subst hf
        simp only [va_up, if_true]
        unfold ffA
        by_cases hy : y = i
        · subst hy; simp [fm]
        · have : (y < i + 1) = (y < i) := propext (by omega)
          simp [hy, this]
      · simp [va_up, hf]
    · unfold fX0_findFar_L2
      simp only [if_pos (show (100 : Int32) ≤ nI 100 by decide)]
  unfold fX0_findFar
  rw [hx, Option.bind_some]
def apA (u : Nat → Nat → Int32) (g j : Nat) : Nat → Int32 := fun z => if 10 * g ≤ z ∧ z < 10 * g + j then u 18 (z - 10 * g) else u 20 z
theorem apart_in {N W : am_M} {u : Nat → Nat → Int32} {g : Nat} (hg : g < 10) : am_it (fX2_layApart_L28 (nI g, W)) am_fuel ((0 : Int32), va_up N 1 u) = some (nI 10, va_up N 1 (va_up u 20 (apA u g 10))) := by
  have z : va_up N 1 u = va_up N 1 (va_up u 20 (apA u g 0)) := by
    congr 1
    have : apA u g 0 = u 20 := by
      funext h; unfold apA; rw [if_neg (by omega)]
    rw [this, up_same]
  rw [z]
  refine it_run0 (F := fX2_layApart_L28 (nI g, W)) (fun i => (nI i, va_up N 1 (va_up u 20 (apA u g i)))) 10 (by omega) (fun i hi rec => ?_) (fun rec => ?_)
  · have e : (10 : Int32) * nI g + nI i = nI (10 * g + i) := by
      rw [show (10 : Int32) = nI 10 from rfl, pk_mul, nI_add]
    have r18 : ∀ A, va_up u 20 A 18 = u 18 := fun _ => rfl
    unfold fX2_layApart_L28
    simp only [if_neg (n10 hi), sm_at, r18, rd10 hi, Option.bind_some, e, nI_add1]
    rw [wr_n (show 10 * g + i < 100 by omega) (by omega), Option.bind_some, sm_up]
    congr 2
    rw [show va_up u 20 (apA u g i) 20 = apA u g i by simp [va_up]]
    congr 1
    funext f y
    by_cases hf : f = 20
    · subst hf
      simp only [va_up, if_true]
      unfold apA
      by_cases hy : y = 10 * g + i
      · subst hy
        rw [if_pos rfl, if_pos (by omega), show 10 * g + i - 10 * g = i by omega]
      · rw [if_neg hy]
        by_cases c : 10 * g ≤ y ∧ y < 10 * g + i
        · rw [if_pos c, if_pos (by omega)]
        · rw [if_neg c, if_neg (by omega)]
    · simp [va_up, hf]
  · unfold fX2_layApart_L28
    simp only [if_pos p10]
def fmN (m : Nat → Nat → Int32) (a b : Nat) : Nat := if fm m a b < 10 then fm m a b else 1000000
theorem apart_out {m : Nat → Nat → Int32} (hw : wf m) (N : am_M) : ∀ (k g : Nat) (u : Nat → Nat → Int32), g + k = 10 → (∀ h, h < 10 → u 6 h = m 0 h) → u 0 34 = m 4 0 → (∀ z, z < 10 * g → u 20 z = nI (fmN m (z / 10) (z % 10))) → ∀ f, k < f → ∃ u', am_it fX2_layApart_L2 f (nI g, va_up N 1 u) = some (nI 10, va_up N 1 u') ∧ (∀ e, e ≠ 18 → e ≠ 20 → u' e = u e) ∧ ∀ z, z < 100 → u' 20 z = nI (fmN m (z / 10) (z % 10)) := by
  intro k
  induction k with
  | zero =>
    intro g u hg h6 h34 h20 f hf
    obtain ⟨f, rfl⟩ : ∃ x, f = x + 1 := ⟨f - 1, by omega⟩
    have : g = 10 := by omega
    subst this
    refine ⟨u, ?_, fun _ _ _ => rfl, fun z hz => h20 z (by omega)⟩
    show fX2_layApart_L2 (am_it _ f) _ = _
    unfold fX2_layApart_L2
    simp only [if_pos p10]
  | succ k ih =>
    intro g u hg h6 h34 h20 f hf
    obtain ⟨f, rfl⟩ : ∃ x, f = x + 1 := ⟨f - 1, by omega⟩
    have hg10 : g < 10 := by omega
    have hp : ∀ h, h < 10 → pN m h < 1024 ∧ u 6 h = nI (pN m h) := fun h hh => ⟨(pN_ok hw hh).1, (h6 h hh).trans (pN_ok hw hh).2⟩
    obtain ⟨u', q1, q2, q3⟩ := ih (g + 1) (va_up (lyU u (pN m) (opn m) g) 20 (apA (lyU u (pN m) (opn m) g) g 10)) (by omega) (fun h hh => by
        show lyU u (pN m) (opn m) g 6 h = _
        rw [lyU_ne (by decide)]; exact h6 h hh) (by
        show lyU u (pN m) (opn m) g 0 34 = _
        rw [lyU_ne (by decide)]; exact h34) (fun z hz => by
        show apA (lyU u (pN m) (opn m) g) g 10 z = _
        unfold apA
        by_cases c : 10 * g ≤ z ∧ z < 10 * g + 10
        · rw [if_pos c]
          show faA _ _ (z - 10 * g) = _
          unfold faA
          rw [if_pos (by omega), show z / 10 = g by omega, show z % 10 = z - 10 * g by omega]
          rfl
        · rw [if_neg c, lyU_ne (by decide)]
          exact h20 z (by omega)) f (by omega)
    refine ⟨u', ?_, fun e h1 h2 => ?_, q3⟩
    · show fX2_layApart_L2 (am_it _ f) _ = _
      unfold fX2_layApart_L2
      simp only [if_neg (n10 hg10), nI_add1, sm_at]
      rw [show (34 : Int32) = nI 34 from rfl, rd36 (by omega), Option.bind_some, h34, opn_eq hw, lay_eq N hp (opn_lt m) hg10, Option.bind_some, apart_in hg10, Option.bind_some]
      exact q1
    · rw [q2 e h1 h2]
      show va_up _ 20 _ e = _
      rw [show va_up (lyU u (pN m) (opn m) g) 20 (apA (lyU u (pN m) (opn m) g) g 10) e = lyU u (pN m) (opn m) g e by simp [va_up, h2], lyU_ne h1]
theorem layApart_eq {m : Nat → Nat → Int32} (hw : wf m) {N : am_M} {u : Nat → Nat → Int32} (hr : rel m u) : ∃ u', fX2_layApart (va_up N 1 u) = some (va_up N 1 u') ∧ (∀ e, e ≠ 18 → e ≠ 20 → u' e = u e) ∧ ∀ z, z < 100 → u' 20 z = nI (fmN m (z / 10) (z % 10)) := by
  obtain ⟨u', q1, q2, q3⟩ := apart_out hw N 10 0 u (by omega) (fun h hh => (hr.2.1 h hh).2.1) hr.2.2.1 (fun z hz => by omega) am_fuel (by show 10 < 100001; omega)
  refine ⟨u', ?_, q2, q3⟩
  unfold fX2_layApart
  rw [show am_it fX2_layApart_L2 am_fuel ((0 : Int32), va_up N 1 u) = _ from q1, Option.bind_some]
