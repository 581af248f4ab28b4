/-! OPERATION: restore -/
set_option maxRecDepth 100000
/-- fields f in S laid up to i -/
def lyS (u : Nat → Nat → Int32) (S : Nat → Bool) (i : Nat) (s : Nat → Nat → Int32) : Nat → Nat → Int32 := fun f x => if S f = true ∧ x < i then s f x else u f x
theorem lyS_0 (u s : Nat → Nat → Int32) (S : Nat → Bool) : lyS u S 0 s = u := by
  funext f x
  unfold lyS
  rw [if_neg (by omega)]
theorem lyS_ne {u s : Nat → Nat → Int32} {S : Nat → Bool} {i f : Nat} (h : S f = false) : lyS u S i s f = u f := by
  funext x
  unfold lyS
  rw [if_neg]
  rw [h]
  simp
theorem st_1 {u s : Nat → Nat → Int32} {f i : Nat} : va_up (lyS u (fun k => decide (k = f)) i s) f (va_up (lyS u (fun k => decide (k = f)) i s f) i (s f i)) = lyS u (fun k => decide (k = f)) (i + 1) s := by
  funext k x
  unfold lyS
  by_cases h : k = f
  · subst h
    by_cases hx : x = i
    · subst hx
      simp [va_up]
    · have : (x < i + 1) = (x < i) := propext (by omega)
      simp [va_up, hx, this]
  · simp [va_up, h]
theorem st_2 {u s : Nat → Nat → Int32} {f g i : Nat} (hfg : f ≠ g) : va_up (va_up (lyS u (fun k => decide (k = f ∨ k = g)) i s) f (va_up (lyS u (fun k => decide (k = f ∨ k = g)) i s f) i (s f i))) g (va_up (lyS u (fun k => decide (k = f ∨ k = g)) i s g) i (s g i)) = lyS u (fun k => decide (k = f ∨ k = g)) (i + 1) s := by
  funext k x
  unfold lyS
  by_cases h : k = g
  · subst h
    by_cases hx : x = i
    · subst hx
      simp [va_up]
    · have : (x < i + 1) = (x < i) := propext (by omega)
      simp [va_up, hx, this]
  · by_cases h2 : k = f
    · subst h2
      by_cases hx : x = i
      · subst hx
        simp [va_up, hfg]
      · have : (x < i + 1) = (x < i) := propext (by omega)
        simp [va_up, hx, this, hfg]
    · simp [va_up, h, h2]
theorem st_3 {u s : Nat → Nat → Int32} {f g e i : Nat} (hfg : f ≠ g) (hfe : f ≠ e) (hge : g ≠ e) : va_up (va_up (va_up (lyS u (fun k => decide (k = f ∨ k = g ∨ k = e)) i s) f (va_up (lyS u (fun k => decide (k = f ∨ k = g ∨ k = e)) i s f) i (s f i))) g (va_up (lyS u (fun k => decide (k = f ∨ k = g ∨ k = e)) i s g) i (s g i))) e (va_up (lyS u (fun k => decide (k = f ∨ k = g ∨ k = e)) i s e) i (s e i)) = lyS u (fun k => decide (k = f ∨ k = g ∨ k = e)) (i + 1) s := by
  funext k x
  unfold lyS
  by_cases hx : x = i
  · subst hx
    by_cases h : k = e
    · subst h; simp [va_up]
    · by_cases h2 : k = g
      · subst h2; simp [va_up, h]
      · by_cases h3 : k = f
        · subst h3; simp [va_up, h, h2]
        · simp [va_up, h, h2, h3]
  · have : (x < i + 1) = (x < i) := propext (by omega)
    by_cases h : k = e
    · subst h; simp [va_up, hx, this]
    · by_cases h2 : k = g
      · subst h2; simp [va_up, h, hx, this]
      · by_cases h3 : k = f
        · subst h3; simp [va_up, h, h2, hx, this]
        · simp [va_up, h, h2, h3]
theorem ro_l1 {N : am_M} {u : Nat → Nat → Int32} {n : Nat} (hn : n < 2) : am_it (fX2_restore_L31 (nI n)) am_fuel ((0 : Int32), va_up N 1 u) = some (nI 36, va_up N 1 (lyS u (fun k => decide (k = 0)) 36 (imgv (u 22) n))) := by
  have z : va_up N 1 u = va_up N 1 (lyS u (fun k => decide (k = 0)) 0 (imgv (u 22) n)) := by rw [lyS_0]
  rw [z]
  refine it_run0 (F := fX2_restore_L31 (nI n)) (fun i => (nI i, va_up N 1 (lyS u (fun k => decide (k = 0)) i (imgv (u 22) n)))) 36 (by omega) (fun i hi rec => ?_) (fun rec => ?_)
  · unfold fX2_restore_L31
    simp only [if_neg (n36 hi), sm_at, ix0, nI_add1]
    rw [lyS_ne (by decide), rd_n (show 110 * n + i < 220 by omega) (by omega), Option.bind_some, wr36 hi, Option.bind_some, sm_up]
    rw [show u 22 (110 * n + i) = imgv (u 22) n 0 i from rfl, st_1]
  · unfold fX2_restore_L31
    simp only [if_pos p36]
theorem ro_l2 {N : am_M} {u : Nat → Nat → Int32} {n : Nat} (hn : n < 2) : am_it (fX2_restore_L59 (nI n)) am_fuel ((0 : Int32), va_up N 1 u) = some (nI 8, va_up N 1 (lyS u (fun k => decide (k = 3 ∨ k = 4 ∨ k = 5)) 8 (imgv (u 22) n))) := by
  have z : va_up N 1 u = va_up N 1 (lyS u (fun k => decide (k = 3 ∨ k = 4 ∨ k = 5)) 0 (imgv (u 22) n)) := by rw [lyS_0]
  rw [z]
  refine it_run0 (F := fX2_restore_L59 (nI n)) (fun i => (nI i, va_up N 1 (lyS u (fun k => decide (k = 3 ∨ k = 4 ∨ k = 5)) i (imgv (u 22) n)))) 8 (by omega) (fun i hi rec => ?_) (fun rec => ?_)
  · unfold fX2_restore_L59
    simp only [if_neg (n8 hi), sm_at, ix (C := 36) 36 i rfl, ix (C := 44) 44 i rfl, ix (C := 52) 52 i rfl, nI_add1]
    generalize hW : lyS u (fun k => decide (k = 3 ∨ k = 4 ∨ k = 5)) i (imgv (u 22) n) = W
    have w22 : W 22 = u 22 := by rw [← hW]; exact lyS_ne (by decide)
    have r4 : ∀ B, va_up W 3 B 22 = u 22 := fun _ => w22
    have r5 : ∀ B C, va_up (va_up W 3 B) 4 C 22 = u 22 := fun _ _ => w22
    rw [w22, rd_n (show 110 * n + 36 + i < 220 by omega) (by omega), Option.bind_some, wr8 hi, Option.bind_some, sm_up, sm_at, r4, rd_n (show 110 * n + 44 + i < 220 by omega) (by omega), Option.bind_some, wr8 hi, Option.bind_some, sm_up, sm_at, r5, rd_n (show 110 * n + 52 + i < 220 by omega) (by omega), Option.bind_some, wr8 hi, Option.bind_some, sm_up]
    rw [show u 22 (110 * n + 36 + i) = imgv (u 22) n 3 i from rfl, show u 22 (110 * n + 44 + i) = imgv (u 22) n 4 i from rfl, show u 22 (110 * n + 52 + i) = imgv (u 22) n 5 i from rfl]
    have s4 : ∀ B, va_up W 3 B 4 = W 4 := fun _ => rfl
    have s5 : ∀ B C, va_up (va_up W 3 B) 4 C 5 = W 5 := fun _ _ => rfl
    rw [s4, s5, ← hW, st_3 (by omega) (by omega) (by omega)]
  · unfold fX2_restore_L59
    simp only [if_pos p8]
theorem ro_l3 {N : am_M} {u : Nat → Nat → Int32} {n : Nat} (hn : n < 2) : am_it (fX2_restore_L124 (nI n)) am_fuel ((0 : Int32), va_up N 1 u) = some (nI 10, va_up N 1 (lyS u (fun k => decide (k = 6 ∨ k = 7)) 10 (imgv (u 22) n))) := by
  have z : va_up N 1 u = va_up N 1 (lyS u (fun k => decide (k = 6 ∨ k = 7)) 0 (imgv (u 22) n)) := by rw [lyS_0]
  rw [z]
  refine it_run0 (F := fX2_restore_L124 (nI n)) (fun i => (nI i, va_up N 1 (lyS u (fun k => decide (k = 6 ∨ k = 7)) i (imgv (u 22) n)))) 10 (by omega) (fun i hi rec => ?_) (fun rec => ?_)
  · unfold fX2_restore_L124
    simp only [if_neg (n10 hi), sm_at, ix (C := 60) 60 i rfl, ix (C := 70) 70 i rfl, nI_add1]
    generalize hW : lyS u (fun k => decide (k = 6 ∨ k = 7)) i (imgv (u 22) n) = W
    have w22 : W 22 = u 22 := by rw [← hW]; exact lyS_ne (by decide)
    have r4 : ∀ B, va_up W 6 B 22 = u 22 := fun _ => w22
    rw [w22, rd_n (show 110 * n + 60 + i < 220 by omega) (by omega), Option.bind_some, wr10 hi, Option.bind_some, sm_up, sm_at, r4, rd_n (show 110 * n + 70 + i < 220 by omega) (by omega), Option.bind_some, wr10 hi, Option.bind_some, sm_up]
    rw [show u 22 (110 * n + 60 + i) = imgv (u 22) n 6 i from rfl, show u 22 (110 * n + 70 + i) = imgv (u 22) n 7 i from rfl]
    have s4 : ∀ B, va_up W 6 B 7 = W 7 := fun _ => rfl
    rw [s4, ← hW, st_2 (by omega)]
  · unfold fX2_restore_L124
    simp only [if_pos p10]
theorem ro_l4 {N : am_M} {u : Nat → Nat → Int32} {n : Nat} (hn : n < 2) : am_it (fX2_restore_L172 (nI n)) am_fuel ((0 : Int32), va_up N 1 u) = some (nI 16, va_up N 1 (lyS u (fun k => decide (k = 10)) 16 (imgv (u 22) n))) := by
  have z : va_up N 1 u = va_up N 1 (lyS u (fun k => decide (k = 10)) 0 (imgv (u 22) n)) := by rw [lyS_0]
  rw [z]
  refine it_run0 (F := fX2_restore_L172 (nI n)) (fun i => (nI i, va_up N 1 (lyS u (fun k => decide (k = 10)) i (imgv (u 22) n)))) 16 (by omega) (fun i hi rec => ?_) (fun rec => ?_)
  · unfold fX2_restore_L172
    simp only [if_neg (n16 hi), sm_at, ix (C := 80) 80 i rfl, nI_add1]
    rw [lyS_ne (by decide), rd_n (show 110 * n + 80 + i < 220 by omega) (by omega), Option.bind_some, wr_n hi (by omega), Option.bind_some, sm_up]
    rw [show u 22 (110 * n + 80 + i) = imgv (u 22) n 10 i from rfl, st_1]
  · unfold fX2_restore_L172
    simp only [if_pos p16]
def reU (u : Nat → Nat → Int32) (n : Nat) : Nat → Nat → Int32 := lyS (lyS (lyS (lyS u (fun k => decide (k = 0)) 36 (imgv (u 22) n)) (fun k => decide (k = 3 ∨ k = 4 ∨ k = 5)) 8 (imgv (u 22) n)) (fun k => decide (k = 6 ∨ k = 7)) 10 (imgv (u 22) n)) (fun k => decide (k = 10)) 16 (imgv (u 22) n)
def reW (u : Nat → Nat → Int32) (n : Nat) : Nat → Nat → Int32 := va_up (va_up (va_up (reU u n) 2 (va_up (u 2) 0 (u 22 (110 * n + 100)))) 8 (va_up (u 8) 0 (u 22 (110 * n + 101)))) 9 (va_up (u 9) 0 (u 22 (110 * n + 102)))
theorem restore_eq (N : am_M) (u : Nat → Nat → Int32) {n : Nat} (hn : n < 2) (h1 : u 23 n = 1) : fX2_restore (va_up N 1 u) (nI n) = some (1, va_up N 1 (reW u n)) := by
  have g : ¬ fX2_in (nI n) 0 1 = 0 := by
    rcases (show n = 0 ∨ n = 1 by omega) with rfl | rfl <;> decide
  unfold fX2_restore
  rw [if_neg g, sm_at, rd_n hn (by omega), Option.bind_some, h1, if_neg (by decide), ro_l1 hn, Option.bind_some]
  dsimp only
  rw [ro_l2 hn, Option.bind_some]
  dsimp only
  rw [ro_l3 hn, Option.bind_some]
  dsimp only
  rw [ro_l4 hn, Option.bind_some]
  dsimp only
  have e1 : lyS u (fun k => decide (k = 0)) 36 (imgv (u 22) n) 22 = u 22 := lyS_ne (by decide)
  have e2 : ∀ w : Nat → Nat → Int32, lyS w (fun k => decide (k = 3 ∨ k = 4 ∨ k = 5)) 8 (imgv (u 22) n) 22 = w 22 := fun w => lyS_ne (by decide)
  have e3 : ∀ w : Nat → Nat → Int32, lyS w (fun k => decide (k = 6 ∨ k = 7)) 10 (imgv (u 22) n) 22 = w 22 := fun w => lyS_ne (by decide)
  have e4 : ∀ w : Nat → Nat → Int32, lyS w (fun k => decide (k = 10)) 16 (imgv (u 22) n) 22 = w 22 := fun w => lyS_ne (by decide)
  rw [e1, e2, e1, e3, e2, e1]
  rw [show lyS (lyS (lyS (lyS u (fun k => decide (k = 0)) 36 (imgv (u 22) n)) (fun k => decide (k = 3 ∨ k = 4 ∨ k = 5)) 8 (imgv (u 22) n)) (fun k => decide (k = 6 ∨ k = 7)) 10 (imgv (u 22) n)) (fun k => decide (k = 10)) 16 (imgv (u 22) n) = reU u n from rfl]
  have r22 : reU u n 22 = u 22 := by unfold reU; rw [e4, e3, e2, e1]
  have rr : ∀ k, k = 2 ∨ k = 8 ∨ k = 9 → reU u n k = u k := by
    intro k hk
    unfold reU
    rcases hk with rfl | rfl | rfl <;> rw [lyS_ne (by decide), lyS_ne (by decide), lyS_ne (by decide), lyS_ne (by decide)]
  have q1 : ∀ B, va_up (reU u n) 2 B 22 = u 22 := fun _ => r22
  have q2 : ∀ B C, va_up (va_up (reU u n) 2 B) 8 C 22 = u 22 := fun _ _ => r22
  have q3 : ∀ B, va_up (reU u n) 2 B 8 = u 8 := fun _ => rr 8 (by omega)
  have q4 : ∀ B C, va_up (va_up (reU u n) 2 B) 8 C 9 = u 9 := fun _ _ => rr 9 (by omega)
  simp only [ixc (C := 100) 100 rfl, ixc (C := 101) 101 rfl, ixc (C := 102) 102 rfl, sm_at, sm_put, r22, rd_n (show 110 * n + 100 < 220 by omega) (show 220 < 2 ^ 31 by omega), rd_n (show 110 * n + 101 < 220 by omega) (show 220 < 2 ^ 31 by omega), rd_n (show 110 * n + 102 < 220 by omega) (show 220 < 2 ^ 31 by omega), Option.bind_some, q1, q2, q3, q4, rr 2 (by omega)]
  rfl
theorem rel_re {m u : Nat → Nat → Int32} {n : Nat} (h : rel m (imgv (u 22) n)) : rel m (reW u n) := by
  have hin : ∀ (w s : Nat → Nat → Int32) (S : Nat → Bool) (i f x : Nat), S f = true → x < i → lyS w S i s f x = s f x := by
    intro w s S i f x h1 h2
    unfold lyS
    rw [if_pos ⟨h1, h2⟩]
  have eU : ∀ k, k ≠ 2 → k ≠ 8 → k ≠ 9 → reW u n k = reU u n k := by
    intro k h1 h2 h3
    unfold reW
    simp [va_up, h1, h2, h3]
  refine rel_pt (v := imgv (u 22) n) (fun i hi => ?_) (fun i hi => ?_) (fun i hi => ?_) (fun i hi => ?_) (fun i hi => ?_) (fun i hi => ?_) (fun i hi => ?_) rfl rfl rfl h
  · rw [eU 0 (by omega) (by omega) (by omega)]; unfold reU
    rw [lyS_ne (by decide), lyS_ne (by decide), lyS_ne (by decide), hin _ _ _ _ _ _ (by decide) hi]
  · rw [eU 3 (by omega) (by omega) (by omega)]; unfold reU
    rw [lyS_ne (by decide), lyS_ne (by decide), hin _ _ _ _ _ _ (by decide) hi]
  · rw [eU 4 (by omega) (by omega) (by omega)]; unfold reU
    rw [lyS_ne (by decide), lyS_ne (by decide), hin _ _ _ _ _ _ (by decide) hi]
  · rw [eU 5 (by omega) (by omega) (by omega)]; unfold reU
    rw [lyS_ne (by decide), lyS_ne (by decide), hin _ _ _ _ _ _ (by decide) hi]
  · rw [eU 6 (by omega) (by omega) (by omega)]; unfold reU
    rw [lyS_ne (by decide), hin _ _ _ _ _ _ (by decide) hi]
  · rw [eU 7 (by omega) (by omega) (by omega)]; unfold reU
    rw [lyS_ne (by decide), hin _ _ _ _ _ _ (by decide) hi]
  · rw [eU 10 (by omega) (by omega) (by omega)]; unfold reU
    rw [hin _ _ _ _ _ _ (by decide) hi]
theorem re_ne {u : Nat → Nat → Int32} {n k : Nat} (h : 11 ≤ k) : reW u n k = u k := by
  unfold reW
  simp only [va_up]
  rw [if_neg (by omega), if_neg (by omega), if_neg (by omega)]
  unfold reU
  have d : ∀ p : Prop, [Decidable p] → ¬ p → decide p = false := fun p _ hp => decide_eq_false hp
  rw [lyS_ne (d _ (by omega)), lyS_ne (d _ (by omega)), lyS_ne (d _ (by omega)), lyS_ne (d _ (by omega))]
theorem op_restore {L : Nat → Bool} {M : am_M} (h : Inv L M) (a : Int32) : opk L (fX0_restore L M a) (fun M1 => fX2_restore M1 a) := by
  have h0 := h
  by_cases g1 : fX2_in a 0 1 = 0
  · refine op_same h (-2) ?_ ?_
    · unfold fX0_restore; rw [isEnd_in, if_pos g1]
    · show fX2_restore M a = _
      unfold fX2_restore; rw [if_pos g1]
  obtain ⟨n, hn, rfl⟩ := in_n (n := 1) (by omega) g1
  obtain ⟨hw, hr, hs, hi⟩ := h
  have hc : (nI n).toNatClampNeg = n := nI_clamp (by omega)
  have hlt : ¬ (nI n < 0 ∨ 2 ≤ (nI n).toNatClampNeg) := by
    rw [hc]
    rintro (z | z)
    · rw [show (0 : Int32) = nI 0 from rfl, lit_lt (by omega) (by omega)] at z; omega
    · omega
  obtain ⟨a1, a2⟩ := hi n (by omega)
  cases hL : L (n + 4) with
  | false =>
    refine op_same h0 (-3) ?_ ?_
    · unfold fX0_restore
      rw [isEnd_in, if_neg g1, if_neg hlt, hc, hL]
      rfl
    · show fX2_restore M (nI n) = _
      unfold fX2_restore
      rw [if_neg g1, rd_n (show n < 2 by omega) (by omega), Option.bind_some, a2 hL, if_pos rfl]
  | true =>
    obtain ⟨b1, b2, b3⟩ := a1 hL
    refine ⟨1, va_up M 2 (tkR (M (n + 4)) (M 2)), va_up (va_up M 2 (tkR (M (n + 4)) (M 2))) 1 (reW (M 1) n), ?_, ?_, ?_, ?_, ?_, ?_⟩
    · unfold fX0_restore
      rw [isEnd_in, if_neg g1, if_neg hlt, hc, hL, if_pos rfl, if_neg (by rw [hc] at hlt; exact hlt), if_pos rfl, take_eq M (by omega), Option.bind_some]
    · show fX2_restore _ (nI n) = _
      have q := restore_eq (va_up M 2 (tkR (M (n + 4)) (M 2))) (M 1) (show n < 2 by omega) b3
      have e : va_up (va_up M 2 (tkR (M (n + 4)) (M 2))) 1 (M 1) = va_up M 2 (tkR (M (n + 4)) (M 2)) := by
        have := sm_id (M := va_up M 2 (tkR (M (n + 4)) (M 2))) (o := 1)
        rwa [sm_ne (show ¬ 1 = 2 by decide)] at this
      rw [e] at q
      exact q
    · rw [sm_ne (by decide), sm_at]; exact wf_take b1
    · rw [sm_ne (by decide), sm_at, sm_at]; exact rel_take (rel_re b2)
    · exact sgn_cg hs (by rw [sm_ne (by decide), sm_ne (by decide)]) (by rw [sm_ne (by decide), sm_ne (by decide)]) (by rw [sm_at, re_ne (by omega)]) (by rw [sm_at, re_ne (by omega)])
    · exact img_cg hi (by rw [sm_ne (by decide), sm_ne (by decide)]) (by rw [sm_ne (by decide), sm_ne (by decide)]) (by rw [sm_at, re_ne (by omega)]) (by rw [sm_at, re_ne (by omega)])
