/-! A BEAT PASSES: both systems, as one plain function of a mine -/
set_option maxRecDepth 100000
theorem sm_at {M : am_M} {o : Nat} {t : Nat → Nat → Int32} : va_up M o t o = t := by simp [va_up]
theorem sm_ne {M : am_M} {o a : Nat} {t : Nat → Nat → Int32} (h : ¬ a = o) : va_up M o t a = M a := by simp [va_up, h]
theorem sm_up {M : am_M} {o k i : Nat} {t : Nat → Nat → Int32} {v : Int32} : am_up (va_up M o t) o k i v = va_up M o (va_up t k (va_up (t k) i v)) := by
  funext a
  by_cases h : a = o
  · simp [am_up, va_up, h]
  · simp [am_up, va_up, h]
theorem sm_put {M : am_M} {o k : Nat} {t : Nat → Nat → Int32} {v : Int32} : am_put (va_up M o t) o k v = va_up M o (va_up t k (va_up (t k) 0 v)) := sm_up
theorem sm_id {M : am_M} {o : Nat} : va_up M o (M o) = M := by
  funext a
  by_cases h : a = o
  · simp [va_up, h]
  · simp [va_up, h]
theorem up_up {α : Type} {f : Nat → α} {k : Nat} {v w : α} : va_up (va_up f k v) k w = va_up f k w := by
  funext a
  by_cases h : a = k
  · simp [va_up, h]
  · simp [va_up, h]
theorem up_same {α : Type} {f : Nat → α} {k : Nat} : va_up f k (f k) = f := by
  funext a
  by_cases h : a = k
  · simp [va_up, h]
  · simp [va_up, h]
def th (t : Nat → Nat → Int32) (k : Nat) : Bool := hb (t 5 0) (nI k)
def pl (t : Nat → Nat → Int32) (k : Nat) : Nat := (t 10 k).toNatClampNeg
def wgt (t : Nat → Nat → Int32) (k : Nat) : Int32 := if (th t k && decide (t 11 k < 0)) = true then (if lit t (t 10 k) = 0 then 0 else if lit t (t 10 k) ≤ 8 then 1 else 2) else 0
def cst (t : Nat → Nat → Int32) (k : Nat) (c : Nat → Int32) : Nat → Int32 := va_up c (pl t k) (c (pl t k) + wgt t k)
def lay (t : Nat → Nat → Int32) (i : Nat) : Nat → Nat → Int32 := va_up t 16 (fun x => if x < i then lit t (nI x) else t 16 x)
def coR (t : Nat → Nat → Int32) (i : Nat) : Nat → Nat → Int32 := va_up (lay t 10) 2 (fo (cst t) (t 2) i)
def nb (t : Nat → Nat → Int32) (x : Nat) : Int32 := if th t x = true then (if t 11 x < 0 then jv_min (t 8 x) (t 9 x + 1) else t 9 x - 1) else t 9 x
def nn (t : Nat → Nat → Int32) (x : Nat) : Int32 := if (th t x && !decide (t 11 x < 0)) = true then (if t 9 x - 1 = 0 then -6 else t 11 x) else t 11 x
def brR (t : Nat → Nat → Int32) (i : Nat) : Nat → Nat → Int32 := va_up (va_up (coR t 8) 9 (fun x => if x < i then nb t x else t 9 x)) 11 (fun x => if x < i then nn t x else t 11 x)
def paR (t : Nat → Nat → Int32) : Nat → Nat → Int32 := va_up (brR t 8) 12 (va_up (t 12) 0 (t 12 0 + 1))
theorem wf_pl {t : Nat → Nat → Int32} (hw : wf t) {k : Nat} (hk : k < 8) : pl t k < 10 ∧ t 10 k = nI (pl t k) := by
  obtain ⟨g, hg, e⟩ := hw.2.2.2.2.2.2.2.1 k hk
  unfold pl
  rw [e, nI_clamp (by omega)]
  exact ⟨hg, rfl⟩
theorem lay_lit (t : Nat → Nat → Int32) (i : Nat) (g : Int32) : lit (lay t i) g = lit t g := rfl
theorem lay_step (t : Nat → Nat → Int32) (i : Nat) : va_up (lay t i) 16 (va_up (lay t i 16) i (lit t (nI i))) = lay t (i + 1) := by
  unfold lay
  rw [up_up]
  congr 1
  funext x
  by_cases h : x = i
  · subst h
    simp [va_up]
  · by_cases h2 : x < i
    · have : x < i + 1 := by omega
      simp [va_up, h, h2, this]
    · have : ¬ x < i + 1 := by omega
      simp [va_up, h, h2, this]
theorem cut1_eq (M : am_M) (j : Nat) (t : Nat → Nat → Int32) : am_it (fX1_cutCoal_L2 j) am_fuel ((0 : Int32), va_up M (j + 2) t) = some (nI 10, va_up M (j + 2) (lay t 10)) := by
  have h0 : lay t 0 = t := by
    unfold lay
    have : (fun x => if x < 0 then lit t (nI x) else t 16 x) = t 16 := by
      funext x
      simp
    rw [this, up_same]
  have := it_run0 (F := fX1_cutCoal_L2 j) (fun i => (nI i, va_up M (j + 2) (lay t i))) 10 (res := (nI 10, va_up M (j + 2) (lay t 10))) (by omega) (fun i hi rec => ?_) (fun rec => ?_)
  · rw [h0] at this
    exact this
  · unfold fX1_cutCoal_L2
    simp only [if_neg (n10 hi), sm_at, light_eq, lay_lit, Option.bind_some, wr10 hi, sm_up, lay_step, nI_add1]
  · unfold fX1_cutCoal_L2
    simp only [if_pos p10]
theorem cut2_eq {t : Nat → Nat → Int32} (hw : wf t) (M : am_M) (j : Nat) : am_it (fX1_cutCoal_L27 j) am_fuel ((0 : Int32), va_up M (j + 2) (lay t 10)) = some (nI 8, va_up M (j + 2) (coR t 8)) := by
  have h0 : coR t 0 = lay t 10 := by
    unfold coR
    show va_up (lay t 10) 2 (lay t 10 2) = _
    rw [up_same]
  have := it_run0 (F := fX1_cutCoal_L27 j) (fun i => (nI i, va_up M (j + 2) (coR t i))) 8 (res := (nI 8, va_up M (j + 2) (coR t 8))) (by omega) (fun i hi rec => ?_) (fun rec => ?_)
  · rw [h0] at this
    exact this
  · obtain ⟨hp, ep⟩ := wf_pl hw hi
    have e5 : coR t i 5 = t 5 := rfl
    have e11 : coR t i 11 = t 11 := rfl
    have e10 : coR t i 10 = t 10 := rfl
    have e2 : coR t i 2 = fo (cst t) (t 2) i := rfl
    have e16 : coR t i 16 (pl t i) = lit t (nI (pl t i)) := by
      show (if pl t i < 10 then _ else _) = _
      rw [if_pos hp]
    have es : va_up (coR t i) 2 (va_up (fo (cst t) (t 2) i) (pl t i) (fo (cst t) (t 2) i (pl t i) + wgt t i)) = coR t (i + 1) := by
      unfold coR
      rw [up_up]
      rfl
    unfold fX1_cutCoal_L27
    simp only [if_neg (n8 hi), sm_at, there_b1, e5, e11, e10, e2, ite_b1, rd8 hi, ep, Option.bind_some, rd10 hp, wr10 hp, sm_up, nI_add1, e16]
    have key : ∀ (K : Int32 → Option (Int32 × am_M)), (Option.bind (if hb (t 5 0) (nI i) = true then if 0 ≤ t 11 i then some (0 : Int32) else some 1 else some 0) fun x4 => Option.bind (if x4 = 0 then some 0 else some (lit t (nI (pl t i)))) fun x7 => Option.bind (if x7 = 0 then some (0 : Int32) else if x7 ≤ 8 then some 1 else some 2) K) = K (wgt t i) := by
      intro K
      unfold wgt th
      rw [ep]
      cases hb (t 5 0) (nI i) with
      | false => rfl
      | true =>
        by_cases h1 : 0 ≤ t 11 i
        · have : ¬ t 11 i < 0 := Int32.not_lt.mpr h1
          simp [h1, this]
        · have : t 11 i < 0 := Int32.not_le.mp h1
          by_cases h2 : lit t (nI (pl t i)) = 0
          · simp [h1, this, h2]
          · by_cases h3 : lit t (nI (pl t i)) ≤ 8
            · simp [h1, this, h2, h3]
            · simp [h1, this, h2, h3]
    rw [key, es]
  · unfold fX1_cutCoal_L27
    simp only [if_pos p8]
theorem cut_eq {t : Nat → Nat → Int32} (hw : wf t) (M : am_M) (j : Nat) : fX1_cutCoal (va_up M (j + 2) t) j = some (va_up M (j + 2) (coR t 8)) := by
  unfold fX1_cutCoal
  rw [cut1_eq, Option.bind_some, cut2_eq hw]
  rfl
theorem bre_step {t : Nat → Nat → Int32} {i : Nat} (hi : i < 8) (M : am_M) (j : Nat) : (Option.bind (if hb (t 5 0) (nI i) = true then (Option.bind (fX1_breathe (va_up M (j + 2) (brR t i)) j (nI i)) fun M3 => some M3) else some (va_up M (j + 2) (brR t i))) fun x => some x) = some (va_up M (j + 2) (brR t (i + 1))) := by
  have fin : ∀ (a b : Int32), a = nb t i → b = nn t i → va_up (va_up (brR t i) 9 (va_up (brR t i 9) i a)) 11 (va_up (brR t i 11) i b) = brR t (i + 1) := by
    intro a b ha hb'
    funext f x
    by_cases h11 : f = 11
    · subst h11
      by_cases hx : x = i
      · subst hx
        simp [va_up, brR, hb']
      · by_cases h2 : x < i
        · have : x < i + 1 := by omega
          simp [va_up, brR, hx, h2, this]
        · have : ¬ x < i + 1 := by omega
          simp [va_up, brR, hx, h2, this]
    · by_cases h9 : f = 9
      · subst h9
        by_cases hx : x = i
        · subst hx
          simp [va_up, brR, ha]
        · by_cases h2 : x < i
          · have : x < i + 1 := by omega
            simp [va_up, brR, hx, h2, this]
          · have : ¬ x < i + 1 := by omega
            simp [va_up, brR, hx, h2, this]
      · simp [va_up, brR, h11, h9]
  have e11 : brR t i 11 i = t 11 i := by simp [va_up, brR]
  have e9 : brR t i 9 i = t 9 i := by simp [va_up, brR]
  have e8 : brR t i 8 = t 8 := rfl
  cases h : hb (t 5 0) (nI i) with
  | false =>
    rw [if_neg (by simp), Option.bind_some]
    have q := fin (t 9 i) (t 11 i) (by unfold nb th; rw [h]; rfl) (by unfold nn th; rw [h]; rfl)
    rw [← q]
    congr 2
    have q9 : va_up (brR t i 9) i (t 9 i) = brR t i 9 := by rw [← e9]; exact up_same
    have q11 : va_up (brR t i 11) i (t 11 i) = brR t i 11 := by rw [← e11]; exact up_same
    rw [q9, up_same, q11, up_same]
  | true =>
    rw [if_pos rfl]
    unfold fX1_breathe
    simp only [sm_at, rd8 hi, wr8 hi, sm_up, Option.bind_some, e11, e9, e8]
    by_cases h1 : 0 ≤ t 11 i
    · have h2 : ¬ t 11 i < 0 := Int32.not_lt.mpr h1
      rw [if_pos h1]
      have e9' : va_up (brR t i) 9 (va_up (brR t i 9) i (t 9 i - 1)) 9 i = t 9 i - 1 := by simp [va_up]
      have e11' : va_up (brR t i) 9 (va_up (brR t i 9) i (t 9 i - 1)) 11 = brR t i 11 := by simp [va_up]
      simp only [e9', e11', e11, Option.bind_some]
      have ex : (if t 9 i - 1 = 0 then some (-6 : Int32) else some (t 11 i)) = some (nn t i) := by
        unfold nn th
        rw [h]
        simp only [h2, decide_false, Bool.not_false, Bool.and_self, if_true]
        split <;> rfl
      rw [ex, Option.bind_some, Option.bind_some, Option.bind_some]
      rw [fin _ _ (by unfold nb th; rw [h]; simp [h2]) rfl]
    · have h2 : t 11 i < 0 := Int32.not_le.mp h1
      rw [if_neg h1]
      simp only [Option.bind_some]
      have q := fin (jv_min (t 8 i) (t 9 i + 1)) (t 11 i) (by unfold nb th; rw [h]; simp [h2]) (by unfold nn th; rw [h]; simp [h2])
      rw [← q]
      congr 2
      have q11 : va_up (brR t i 11) i (t 11 i) = brR t i 11 := by rw [← e11]; exact up_same
      rw [q11]
      have e : brR t i 11 = (va_up (brR t i) 9 (va_up (brR t i 9) i (jv_min (t 8 i) (t 9 i + 1)))) 11 := by simp [va_up]
      rw [e, up_same]
theorem pass_eq {t : Nat → Nat → Int32} (hw : wf t) (M : am_M) (j : Nat) : fX1_pass (va_up M (j + 2) t) j = some (va_up M (j + 2) (paR t)) := by
  unfold fX1_pass
  rw [cut_eq hw, Option.bind_some]
  have h0 : brR t 0 = coR t 8 := by
    unfold brR
    have e9 : (fun x => if x < 0 then nb t x else t 9 x) = coR t 8 9 := by funext x; simp; rfl
    have e11 : (fun x => if x < 0 then nn t x else t 11 x) = coR t 8 11 := by funext x; simp; rfl
    rw [e9, up_same, e11, up_same]
  have := it_run0 (F := fX1_pass_L6 j) (fun i => (nI i, va_up M (j + 2) (brR t i))) 8 (res := (nI 8, va_up M (j + 2) (brR t 8))) (by omega) (fun i hi rec => ?_) (fun rec => ?_)
  · rw [h0] at this
    rw [show ((0 : Int32), va_up M (j + 2) (coR t 8)) = (nI 0, va_up M (j + 2) (coR t 8)) from rfl, this, Option.bind_some]
    simp only [sm_put, sm_at]
    rfl
  · have q := bre_step (t := t) hi M j
    unfold fX1_pass_L6
    have e5 : brR t i 5 = t 5 := rfl
    simp only [if_neg (n8 hi), sm_at, there_b1, e5, ite_b1, nI_add1]
    revert q
    generalize (if hb (t 5 0) (nI i) = true then (Option.bind (fX1_breathe (va_up M (j + 2) (brR t i)) j (nI i)) fun M3 => some M3) else some (va_up M (j + 2) (brR t i))) = z
    intro q
    cases z with
    | none => cases q
    | some y =>
      rw [Option.bind_some] at q ⊢
      rw [Option.some.inj q]
  · unfold fX1_pass_L6
    simp only [if_pos p8]
