/-! A BEAT of the reference -/
set_option maxRecDepth 100000
theorem lit_pos (m : Nat → Nat → Int32) (g : Int32) : 0 ≤ lit m g := by
  unfold lit
  refine fo_inv (fun _ x => (0 : Int32) ≤ x) 10 (own_pos m g) (fun i x _ hx => ?_) 10 (Nat.le_refl _)
  split
  · exact Int32.le_trans hx (jmax_ge _ _)
  · exact hx
def mn (t u : Nat → Nat → Int32) (x : Nat) : Int32 := if th t x = true then nn t x else u 1 x
def nwA (t u : Nat → Nat → Int32) (i : Nat) : Nat → Int32 := fun x =>
  if x < 8 then (if x < i then mn t u x else u 1 x) else if x < 16 then (if x < 8 + i then nb t (x - 8) else u 1 x) else if x < 24 then u 1 x else if x < 34 then fo (cst t) (t 2) i (x - 24) else if x = 35 then u 1 35 + 1 else u 1 x
def bt1 (t : Nat → Nat → Int32) : Nat → Nat → Int32 := va_up t 12 (va_up (t 12) 0 (t 12 0 + 1))
def u35 (u : Nat → Nat → Int32) : Nat → Nat → Int32 := va_up u 1 (va_up (u 1) 35 (u 1 35 + 1))
def ubr (t u : Nat → Nat → Int32) (i : Nat) : Nat → Nat → Int32 := va_up (u35 u) 15 (fun x => if x < i then lit t (nI x) else u 15 x)
def ube (t u : Nat → Nat → Int32) (i : Nat) : Nat → Nat → Int32 := va_up (ubr t u 10) 1 (nwA t u i)
theorem wf_bt1 {t : Nat → Nat → Int32} (hw : wf t) (h9 : ¬ t 12 0 = 999) : wf (bt1 t) := by
  obtain ⟨w0, w1, w2, w3, w4, w5, w6, w7, ⟨b, hb', w8⟩, w9, w10, w11⟩ := hw
  refine ⟨w0, w1, w2, w3, w4, w5, w6, w7, ⟨b + 1, ?_, ?_⟩, w9, w10, w11⟩
  · have : ¬ b = 999 := fun z => h9 (by rw [w8, z]; rfl)
    omega
  · show t 12 0 + 1 = _
    rw [w8, nI_1]
theorem rel_u35 {t u : Nat → Nat → Int32} (h : rel t (nowv u)) (i : Nat) : rel (bt1 t) (nowv (ubr t u i)) := by
  obtain ⟨r1, r2, r3, r4, r5, r6, r7, r8⟩ := h
  have z : ∀ x, ¬ x = 35 → nowv (ubr t u i) 0 x = nowv u 0 x := by
    intro x hx
    show va_up (u 1) 35 (u 1 35 + 1) x = u 1 x
    simp [va_up, hx]
  refine ⟨fun k hk => ?_, fun g hg => ?_, ?_, ?_, r5, r6, r7, r8⟩
  · rw [z _ (by omega), z _ (by omega), z _ (by omega)]
    exact r1 k hk
  · rw [z _ (by omega)]
    exact r2 g hg
  · rw [z _ (by omega)]; exact r3
  · show u 1 35 + 1 = t 12 0 + 1
    have : u 1 35 = t 12 0 := r4
    rw [this]
theorem bri_eq {t u : Nat → Nat → Int32} (hw : wf t) (h9 : ¬ t 12 0 = 999) (h : rel t (nowv u)) (M : am_M) : am_it fX2_beat_L29 am_fuel ((0 : Int32), va_up M 1 (u35 u)) = some (nI 10, va_up M 1 (ubr t u 10)) := by
  have h0 : ubr t u 0 = u35 u := by
    unfold ubr
    have : (fun x => if x < 0 then lit t (nI x) else u 15 x) = u35 u 15 := by funext x; simp; rfl
    rw [this, up_same]
  have := it_run0 (F := fX2_beat_L29) (fun i => (nI i, va_up M 1 (ubr t u i))) 10 (res := (nI 10, va_up M 1 (ubr t u 10))) (by omega) (fun i hi rec => ?_) (fun rec => ?_)
  · rw [h0] at this
    exact this
  · have e : va_up (ubr t u i) 15 (va_up (ubr t u i 15) i (lit t (nI i))) = ubr t u (i + 1) := by
      unfold ubr
      rw [up_up]
      congr 1
      funext x
      by_cases hx : x = i
      · subst hx; simp [va_up]
      · by_cases h2 : x < i
        · have : x < i + 1 := by omega
          simp [va_up, hx, h2, this]
        · have : ¬ x < i + 1 := by omega
          simp [va_up, hx, h2, this]
    unfold fX2_beat_L29
    simp only [if_neg (n10 hi), sm_at, lightM_eq (wf_bt1 hw h9) (rel_u35 h i) hi, Option.bind_some, wr10 hi, sm_up, nI_add1]
    rw [show lit (bt1 t) (nI i) = lit t (nI i) from rfl, e]
  · unfold fX2_beat_L29
    simp only [if_pos p10]
theorem nwA_step {t u : Nat → Nat → Int32} {i : Nat} (hi : i < 8) (hp : pl t i < 10) {A : Nat → Int32} (hA : ∀ x, A x = if x = i then mn t u i else if x = 8 + i then nb t i else if x = 24 + pl t i then fo (cst t) (t 2) i (pl t i) + wgt t i else nwA t u i x) : A = nwA t u (i + 1) := by
  funext x
  rw [hA x]
  unfold nwA
  by_cases h8 : x < 8
  · rw [if_pos h8, if_pos h8]
    by_cases hx : x = i
    · rw [if_pos hx, if_pos (by omega), hx]
    · rw [if_neg hx, if_neg (by omega), if_neg (by omega)]
      by_cases h2 : x < i
      · rw [if_pos h2, if_pos (by omega)]
      · rw [if_neg h2, if_neg (by omega)]
  · rw [if_neg h8, if_neg h8, if_neg (by omega)]
    by_cases h16 : x < 16
    · rw [if_pos h16, if_pos h16]
      by_cases hx : x = 8 + i
      · rw [if_pos hx, if_pos (by omega), hx, show 8 + i - 8 = i by omega]
      · rw [if_neg hx, if_neg (by omega)]
        by_cases h2 : x < 8 + i
        · rw [if_pos h2, if_pos (by omega)]
        · rw [if_neg h2, if_neg (by omega)]
    · rw [if_neg h16, if_neg h16, if_neg (by omega)]
      by_cases h24 : x < 24
      · rw [if_pos h24, if_pos h24, if_neg (by omega)]
      · rw [if_neg h24, if_neg h24]
        by_cases h34 : x < 34
        · rw [if_pos h34, if_pos h34]
          show _ = cst t i (fo (cst t) (t 2) i) (x - 24)
          unfold cst
          by_cases hx : x = 24 + pl t i
          · rw [if_pos hx, hx, show 24 + pl t i - 24 = pl t i by omega]
            simp [va_up]
          · rw [if_neg hx]
            have : ¬ x - 24 = pl t i := by omega
            simp [va_up, this]
        · rw [if_neg h34, if_neg h34, if_neg (by omega)]
theorem minlung {a b : Nat} (ha : a ≤ 99) (hb : b ≤ a) : nI b + (if nI a ≤ nI b then (0 : Int32) else 1) = jv_min (nI a) (nI b + 1) := by
  unfold jv_min
  rw [nI_1]
  by_cases h : a ≤ b
  · have : a = b := by omega
    subst this
    rw [if_pos (nI_le (by omega) (by omega)), if_neg (nI_nlt (by omega) (by omega))]
    exact Int32.add_zero _
  · rw [if_neg (nI_ge (by omega) (by omega)), nI_1]
    by_cases h2 : b + 1 < a
    · rw [if_pos (nI_lt h2 (by omega))]
    · have : a = b + 1 := by omega
      subst this
      rw [if_neg (nI_nlt (by omega) (by omega))]
theorem be_step {t u : Nat → Nat → Int32} (hw : wf t) (h : rel t (nowv u)) {i : Nat} (hi : i < 8) (M : am_M) (rec : Int32 × am_M → Option (Int32 × am_M)) : fX2_beat_L54 rec (nI i, va_up M 1 (ube t u i)) = rec (nI (i + 1), va_up M 1 (ube t u (i + 1))) := by
  obtain ⟨hp, ep⟩ := wf_pl hw hi
  obtain ⟨q1, q2, q3, q4, q5, q6⟩ := rel_now h hi
  have e1 : ube t u i 1 = nwA t u i := rfl
  have e2 : ube t u i 2 0 = t 5 0 := by
    show u 2 0 = t 5 0
    exact rel_there h
  have e15 : ube t u i 15 (pl t i) = lit t (nI (pl t i)) := by
    show (if pl t i < 10 then _ else _) = _
    rw [if_pos hp]
  have a16 : nwA t u i (16 + i) = nI (pl t i) := by
    unfold nwA
    rw [if_neg (by omega), if_neg (by omega), if_pos (by omega), q2, ep]
  have a8 : nwA t u i (8 + i) = t 9 i := by
    unfold nwA
    rw [if_neg (by omega), if_pos (by omega), if_neg (by omega), q1]
  have a0 : nwA t u i i = u 1 i := by
    unfold nwA
    rw [if_pos hi, if_neg (by omega)]
  have a24 : nwA t u i (24 + pl t i) = fo (cst t) (t 2) i (pl t i) := by
    unfold nwA
    rw [if_neg (by omega), if_neg (by omega), if_neg (by omega), if_pos (by omega), show 24 + pl t i - 24 = pl t i by omega]
  have n16 : (16 : Int32) + nI i = nI (16 + i) := nI_add 16 i
  have n08 : (8 : Int32) + nI i = nI (8 + i) := nI_add 8 i
  have n24 : (24 : Int32) + nI (pl t i) = nI (24 + pl t i) := nI_add 24 _
  have ub : ∀ A, va_up (ube t u i) 1 A = va_up (ubr t u 10) 1 A := fun A => by unfold ube; rw [up_up]
  unfold fX2_beat_L54
  simp only [if_neg (n8 hi), sm_at, e1, n16, n08, rd36 (show 16 + i < 36 by omega), rd36 (show 8 + i < 36 by omega), rd36 (show i < 36 by omega), a16, a8, a0, Option.bind_some, thereM_b1 hi, ite_b1, e2, n24, rd36 (show 24 + pl t i < 36 by omega), a24, rd10 hp, e15, wr36 (show 8 + i < 36 by omega), wr36 (show i < 36 by omega), wr36 (show 24 + pl t i < 36 by omega), sm_up, nI_add1]
  cases hz : hb (t 5 0) (nI i) with
  | false =>
    simp only [Bool.false_eq_true, if_false, Option.bind_some]
    have q := nwA_step (t := t) (u := u) hi hp (A := nwA t u i) (fun x => by
      by_cases hx : x = i
      · rw [if_pos hx, hx, a0]; unfold mn th; rw [hz]; rfl
      · rw [if_neg hx]
        by_cases h8 : x = 8 + i
        · rw [if_pos h8, h8, a8]; unfold nb th; rw [hz]; rfl
        · rw [if_neg h8]
          by_cases h24 : x = 24 + pl t i
          · rw [if_pos h24, h24, a24]; unfold wgt th; rw [hz]; exact (Int32.add_zero _).symm
          · rw [if_neg h24])
    have e : ube t u i = ube t u (i + 1) := by unfold ube; rw [q]
    rw [e]
  | true =>
    have hn := q6 hz
    simp only [if_true, hn]
    by_cases h1 : 0 ≤ t 11 i
    · have h2 : ¬ t 11 i < 0 := Int32.not_lt.mpr h1
      rw [if_pos h1]
      have b1' : va_up (ube t u i) 1 (va_up (nwA t u i) (8 + i) (t 9 i - 1)) 1 = va_up (nwA t u i) (8 + i) (t 9 i - 1) := by simp [va_up]
      have b2 : va_up (nwA t u i) (8 + i) (t 9 i - 1) (8 + i) = t 9 i - 1 := by simp [va_up]
      have b3 : va_up (nwA t u i) (8 + i) (t 9 i - 1) i = t 11 i := by
        have : ¬ i = 8 + i := by omega
        simp only [va_up, this, if_false]
        rw [a0, hn]
      simp only [b1', b2, b3, Option.bind_some, up_up]
      have ex : (if t 9 i - 1 = 0 then some (-6 : Int32) else some (t 11 i)) = some (nn t i) := by
        unfold nn th
        rw [hz]
        simp only [h2, decide_false, Bool.not_false, Bool.and_self, if_true]
        split <;> rfl
      rw [ex, Option.bind_some, Option.bind_some, ub]
      have q := nwA_step (t := t) (u := u) hi hp (A := va_up (va_up (nwA t u i) (8 + i) (t 9 i - 1)) i (nn t i)) (fun x => by
        by_cases hx : x = i
        · rw [if_pos hx, hx]; unfold mn th; rw [hz]; simp [va_up]
        · rw [if_neg hx]
          by_cases h8 : x = 8 + i
          · rw [if_pos h8, h8]
            have : ¬ 8 + i = i := by omega
            unfold nb th
            rw [hz]
            simp [va_up, this, h2]
          · rw [if_neg h8]
            have e0 : va_up (va_up (nwA t u i) (8 + i) (t 9 i - 1)) i (nn t i) x = nwA t u i x := by simp [va_up, hx, h8]
            rw [e0]
            by_cases h24 : x = 24 + pl t i
            · rw [if_pos h24, h24, a24]; unfold wgt th; rw [hz]; simp [h2]
            · rw [if_neg h24])
      rw [q]
      rfl
    · have h2 : t 11 i < 0 := Int32.not_le.mp h1
      rw [if_neg h1]
      have hw1 : (if lit t (nI (pl t i)) ≤ 8 then (if lit t (nI (pl t i)) ≤ 0 then some (0 : Int32) else some 1) else some 2) = some (wgt t i) := by
        unfold wgt th
        rw [hz, ep]
        simp only [h2, decide_true, Bool.and_self, if_true]
        have hpos := lit_pos t (nI (pl t i))
        generalize lit t (nI (pl t i)) = l at hpos
        obtain ⟨n, hn', rfl⟩ := nI_of (Int32.not_lt.mpr hpos)
        simp only [show (nI n ≤ 8) = (n ≤ 8) from lit_le (i := 8) hn' (by omega), show (nI n ≤ 0) = (n ≤ 0) from lit_le (i := 0) hn' (by omega), show (nI n = 0) = (n = 0) from lit_eq (i := 0) hn' (by omega)]
        by_cases z0 : n = 0
        · simp [z0]
        · have : ¬ n ≤ 0 := by omega
          by_cases z8 : n ≤ 8
          · simp [z0, this, z8]
          · simp [z0, z8]
      obtain ⟨a, b, ha, hb', ea, eb, -⟩ := hw.2.2.2.2.2.2.1 i hi
      have b1' : va_up (ube t u i) 1 (va_up (nwA t u i) (24 + pl t i) (fo (cst t) (t 2) i (pl t i) + wgt t i)) 1 = va_up (nwA t u i) (24 + pl t i) (fo (cst t) (t 2) i (pl t i) + wgt t i) := by simp [va_up]
      have b5 : va_up (ube t u i) 1 (va_up (nwA t u i) (24 + pl t i) (fo (cst t) (t 2) i (pl t i) + wgt t i)) 5 i = t 8 i := by
        show u 5 i = _
        exact q5
      have b2 : va_up (nwA t u i) (24 + pl t i) (fo (cst t) (t 2) i (pl t i) + wgt t i) (8 + i) = t 9 i := by
        have : ¬ 8 + i = 24 + pl t i := by omega
        simp only [va_up, this, if_false]
        exact a8
      rw [hw1]
      simp only [Option.bind_some, b1', rd8 hi, b5, b2, up_up]
      have ex : (if t 8 i ≤ t 9 i then some (0 : Int32) else some 1) = some (if t 8 i ≤ t 9 i then (0 : Int32) else 1) := by split <;> rfl
      rw [ex, Option.bind_some, Option.bind_some, ub]
      have eml : t 9 i + (if t 8 i ≤ t 9 i then (0 : Int32) else 1) = nb t i := by
        unfold nb th
        rw [hz, if_pos rfl, if_pos h2, ea, eb]
        exact minlung ha hb'
      rw [eml]
      have q := nwA_step (t := t) (u := u) hi hp (A := va_up (va_up (nwA t u i) (24 + pl t i) (fo (cst t) (t 2) i (pl t i) + wgt t i)) (8 + i) (nb t i)) (fun x => by
        by_cases hx : x = i
        · rw [if_pos hx, hx]
          have n1 : ¬ i = 8 + i := by omega
          have n2 : ¬ i = 24 + pl t i := by omega
          have e0 : va_up (va_up (nwA t u i) (24 + pl t i) (fo (cst t) (t 2) i (pl t i) + wgt t i)) (8 + i) (nb t i) i = nwA t u i i := by simp [va_up, n1, n2]
          rw [e0, a0, hn]; unfold mn nn th; rw [hz]; simp [h2]
        · rw [if_neg hx]
          by_cases h8 : x = 8 + i
          · rw [if_pos h8, h8]; simp [va_up]
          · rw [if_neg h8]
            by_cases h24 : x = 24 + pl t i
            · rw [if_pos h24, h24]
              have n1 : ¬ 24 + pl t i = 8 + i := by omega
              simp [va_up, n1]
            · rw [if_neg h24]; simp [va_up, h8, h24])
      rw [q]
      rfl
theorem beat_eq {t u : Nat → Nat → Int32} (hw : wf t) (h : rel t (nowv u)) (M : am_M) : fX2_beat (va_up M 1 u) = if t 12 0 = 999 then some (7, va_up M 1 u) else some (0, va_up M 1 (ube t u 8)) := by
  have e35 : u 1 35 = t 12 0 := h.2.2.2.1
  unfold fX2_beat
  simp only [sm_at, show (35 : Int32) = nI 35 from rfl, rd36 (show 35 < 36 by omega), wr36 (show 35 < 36 by omega), Option.bind_some, e35]
  by_cases h9 : t 12 0 = 999
  · rw [if_pos h9, if_pos h9]
  · rw [if_neg h9, if_neg h9, sm_up]
    have eu : va_up u 1 (va_up (u 1) 35 (t 12 0 + 1)) = u35 u := by unfold u35; rw [e35]
    rw [eu, bri_eq hw h9 h, Option.bind_some]
    have h0 : ube t u 0 = ubr t u 10 := by
      unfold ube
      have : nwA t u 0 = ubr t u 10 1 := by
        funext x
        show _ = va_up (u 1) 35 (u 1 35 + 1) x
        unfold nwA
        by_cases h8 : x < 8
        · have : ¬ x = 35 := by omega
          simp [h8, va_up, this]
        · by_cases h16 : x < 16
          · have : ¬ x = 35 := by omega
            have h3 : ¬ x < 8 + 0 := by omega
            simp [h8, h16, va_up, this]
          · by_cases h24 : x < 24
            · have : ¬ x = 35 := by omega
              simp [h8, h16, h24, va_up, this]
            · by_cases h34 : x < 34
              · have : ¬ x = 35 := by omega
                have q := (rel_gal h (show x - 24 < 10 by omega)).1
                rw [show 24 + (x - 24) = x by omega] at q
                simp only [h8, h16, h24, h34, va_up, this, if_false, if_true]
                rw [q]
                rfl
              · by_cases h35 : x = 35
                · simp [h35, va_up]
                · simp [h8, h16, h24, h34, h35, va_up]
      rw [this, up_same]
    have := it_run0 (F := fX2_beat_L54) (fun i => (nI i, va_up M 1 (ube t u i))) 8 (res := (nI 8, va_up M 1 (ube t u 8))) (by omega) (fun i hi rec => be_step hw h hi M rec) (fun rec => by unfold fX2_beat_L54; simp only [if_pos p8])
    rw [h0] at this
    rw [show ((0 : Int32), va_up M 1 (ubr t u 10)) = (nI 0, va_up M 1 (ubr t u 10)) from rfl, this, Option.bind_some]
theorem rel_pass {t u : Nat → Nat → Int32} (h : rel t (nowv u)) : rel (paR t) (nowv (ube t u 8)) := by
  obtain ⟨r1, r2, r3, r4, r5, r6, r7, r8⟩ := h
  have z : ∀ x, nowv (ube t u 8) 0 x = nwA t u 8 x := fun x => rfl
  refine ⟨fun k hk => ?_, fun g hg => ?_, ?_, ?_, r5, r6, r7, r8⟩
  · obtain ⟨q1, q2, q3, q4, q5, q6⟩ := r1 k hk
    refine ⟨?_, ?_, q3, q4, q5, fun hz => ?_⟩
    · rw [z]
      unfold nwA
      rw [if_neg (by omega), if_pos (by omega), if_pos (by omega), show 8 + k - 8 = k by omega]
      show _ = (if k < 8 then nb t k else t 9 k)
      rw [if_pos hk]
    · rw [z]
      unfold nwA
      rw [if_neg (by omega), if_neg (by omega), if_pos (by omega)]
      exact q2
    · rw [z]
      unfold nwA
      rw [if_pos hk, if_pos hk]
      show _ = (if k < 8 then nn t k else t 11 k)
      rw [if_pos hk]
      unfold mn
      have hz' : th t k = true := hz
      rw [if_pos hz']
  · obtain ⟨q1, q2, q3⟩ := r2 g hg
    refine ⟨?_, q2, q3⟩
    rw [z]
    unfold nwA
    rw [if_neg (by omega), if_neg (by omega), if_neg (by omega), if_pos (by omega), show 24 + g - 24 = g by omega]
    rfl
  · rw [z]
    unfold nwA
    rw [if_neg (by omega), if_neg (by omega), if_neg (by omega), if_neg (by omega), if_neg (by omega)]
    exact r3
  · rw [z]
    unfold nwA
    rw [if_neg (by omega), if_neg (by omega), if_neg (by omega), if_neg (by omega), if_pos rfl]
    show u 1 35 + 1 = t 12 0 + 1
    have : u 1 35 = t 12 0 := r4
    rw [this]
theorem wf_pass {t : Nat → Nat → Int32} (hw : wf t) (h9 : ¬ t 12 0 = 999) : wf (paR t) := by
  obtain ⟨w0, w1, w2, w3, w4, w5, w6, w7, ⟨b, hb', w8⟩, w9, w10, w11⟩ := hw
  refine ⟨w0, w1, w2, w3, w4, w5, fun k hk => ?_, w7, ⟨b + 1, ?_, ?_⟩, w9, w10, w11⟩
  · obtain ⟨a, c, ha, hc, ea, ec, hn⟩ := w6 k hk
    have p9 : paR t 9 k = nb t k := by show (if k < 8 then nb t k else t 9 k) = _; rw [if_pos hk]
    have p11 : paR t 11 k = nn t k := by show (if k < 8 then nn t k else t 11 k) = _; rw [if_pos hk]
    have p8 : paR t 8 k = nI a := ea
    rw [p9, p11, p8]
    unfold nb nn
    cases hz : th t k with
    | false =>
      simp only [Bool.false_eq_true, if_false, Bool.false_and]
      exact ⟨a, c, ha, hc, rfl, ec, hn⟩
    | true =>
      by_cases h1 : t 11 k < 0
      · simp only [if_true, h1, decide_true, Bool.not_true, Bool.and_false, Bool.false_eq_true, if_false]
        have h6 : t 11 k = -6 := by
          rcases hn with hn | ⟨-, n, hn1, hn2⟩
          · exact hn
          · rw [hn2] at h1; exact absurd h1 (nI_pos (by omega))
        rw [ea, ec, ← minlung ha hc]
        by_cases hac : a ≤ c
        · rw [if_pos (nI_le hac (by omega))]
          exact ⟨a, c, ha, hc, rfl, Int32.add_zero _, Or.inl h6⟩
        · rw [if_neg (nI_ge (by omega) (by omega)), nI_1]
          exact ⟨a, c + 1, ha, by omega, rfl, rfl, Or.inl h6⟩
      · simp only [if_true, h1, if_false, decide_false, Bool.not_false, Bool.and_self]
        obtain ⟨hc1, n, hn1, hn2⟩ : 1 ≤ c ∧ ∃ n, n < 24 ∧ t 11 k = nI n := by
          rcases hn with hn | hn
          · rw [hn] at h1; exact absurd (by decide) h1
          · exact hn
        obtain ⟨c', rfl⟩ : ∃ c', c = c' + 1 := ⟨c - 1, by omega⟩
        rw [ec, nI_pred]
        refine ⟨a, c', ha, by omega, rfl, rfl, ?_⟩
        by_cases h0 : c' = 0
        · left; rw [h0, if_pos nI_0]
        · right
          refine ⟨by omega, n, hn1, ?_⟩
          rw [if_neg (nI_ne0 (by omega) (by omega))]
          exact hn2
  · have : ¬ b = 999 := fun z => h9 (by rw [w8, z]; rfl)
    omega
  · show t 12 0 + 1 = _
    rw [w8, nI_1]
