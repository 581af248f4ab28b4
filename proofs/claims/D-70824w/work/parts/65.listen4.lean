/-! OPERATION: listen -/
set_option maxRecDepth 100000
theorem list_first {m : Nat → Nat → Int32} (hw : wf m) (N : am_M) (hp : 1 ≤ mo m 0) (u : Nat → Nat → Int32) (h20 : ∀ z, z < 100 → u 20 z = nI (fmN m (z / 10) (z % 10))) (h9 : u 9 0 = m 15 0) (h10 : ∀ e, e < 8 → u 10 (2 * e) = m 13 e ∧ u 10 (2 * e + 1) = m 14 e) (f : Nat) : am_it fX2_listen_L25 (f + 1) ((-6 : Int32), (1000000 : Int32), (0 : Int32), va_up N 1 u) = am_it fX2_listen_L25 f (nI (bl m 0).1, nI (bl m 0).2, nI (0 + 1), va_up N 1 (va_up u 21 (ctA (cs m 0 1000).2 (u 21)))) := by
  have b3 := mo_le m 0
  show fX2_listen_L25 (am_it _ f) _ = _
  rw [fX2_listen_L25]
  simp only [if_neg (show ¬ (10 : Int32) ≤ 0 by decide), fill2, Option.bind_some]
  rw [show (0 : Int32) = nI 0 from rfl, show am_it (fX2_listen_L62 ((-6 : Int32), (1000000 : Int32), nI 0, va_up N 1 u)) am_fuel (nI 0, nI 0, va_up N 1 (va_up u 21 (ctA (fun _ => 0) (u 21)))) = _ from worst_loop (N := N) (u := u) (B := u 21) hw h20 h9 h10 (show 0 < 10 by omega) _ _ _, Option.bind_some]
  simp only []
  rw [show (cs m 0 1000).1 = mo m 0 from rfl, if_neg (show ¬ nI (mo m 0) ≤ nI 0 by rw [lit_le (by omega) (by omega)]; omega), if_neg (show ¬ (1000000 : Int32) ≤ nI (mo m 0) from nI_ge (a := mo m 0) (b := 1000000) (by omega) (by omega)), Option.bind_some, if_neg (show ¬ (1 : Int32) = nI 0 by decide), if_neg (show ¬ (1 : Int32) = nI 0 by decide), Option.bind_some, Option.bind_some, nI_add1]
  rfl
theorem op_listen {L : Nat → Bool} {M : am_M} (h : Inv L M) (a : Int32) : opk L (fX0_listen M a) (fun M1 => fX2_listen M1 a) := by
  have h0 := h
  by_cases g1 : fX2_in a 0 1 = 0
  · refine op_same h (-2) ?_ ?_
    · unfold fX0_listen; rw [isEnd_in, if_pos g1]
    · show fX2_listen M a = _
      unfold fX2_listen; rw [if_pos g1]
  obtain ⟨hw, hr, -, -⟩ := h
  have f0 := findFar_eq hw
  have h16 : ∀ z, z < 100 → va_up (M 0) 16 (ffA (M 2) (M 0 16) 100) 16 z = frI (fm (M 2) (z / 10) (z % 10)) := by
    intro z hz
    show ffA (M 2) (M 0 16) 100 z = _
    unfold ffA
    rw [if_pos hz]
  have b0 := bl_le (M 2) 0
  obtain ⟨o', q1, q2⟩ := list_x0 hw 9 0 (va_up (va_up (M 0) 16 (ffA (M 2) (M 0 16) 100)) 17 (ctA (cs (M 2) 0 1000).2 (va_up (M 0) 16 (ffA (M 2) (M 0 16) 100) 17))) (by omega) h16 am_fuel (by show 9 < 100001; omega)
  have hI1 : Inv L (va_up M 0 o') := Inv_eqc h0 (eqc_0 ((q2 3 (by omega)).trans rfl) ((q2 4 (by omega)).trans rfl))
  have k0 : fX0_listen M a = if nI (bl (M 2) 9).2 = 0 then some (-6, va_up M 0 o') else if a = 0 then some (nI (bl (M 2) 9).1, va_up M 0 o') else some (nI (bl (M 2) 9).2, va_up M 0 o') := by
    unfold fX0_listen
    rw [isEnd_in, if_neg g1, f0, Option.bind_some, show fX0_mostLeft (va_up M 0 (va_up (M 0) 16 (ffA (M 2) (M 0 16) 100))) (0 : Int32) = _ from most_eq hw h16 (show 0 < 10 by omega), Option.bind_some]
    rw [show am_it fX0_listen_L25 am_fuel ((0 : Int32), (nI (cs (M 2) 0 1000).1, va_up M 0 (va_up (va_up (M 0) 16 (ffA (M 2) (M 0 16) 100)) 17 (ctA (cs (M 2) 0 1000).2 (va_up (M 0) 16 (ffA (M 2) (M 0 16) 100) 17)))).1, (1 : Int32), (nI (cs (M 2) 0 1000).1, va_up M 0 (va_up (va_up (M 0) 16 (ffA (M 2) (M 0 16) 100)) 17 (ctA (cs (M 2) 0 1000).2 (va_up (M 0) 16 (ffA (M 2) (M 0 16) 100) 17)))).2) = _ from q1, Option.bind_some]
  obtain ⟨u1, r1, r2, r3⟩ := layApart_eq (m := M 2) (N := va_up M 0 o') (u := M 1) hw hr
  have e1 : va_up (va_up M 0 o') 1 (M 1) = va_up M 0 o' := by
    have := sm_id (M := va_up M 0 o') (o := 1)
    rwa [sm_ne (show ¬ 1 = 0 by decide)] at this
  rw [e1] at r1
  have h9 : u1 9 0 = M 2 15 0 := by rw [r2 9 (by omega) (by omega)]; exact hr.2.2.2.2.2.2.1
  have h10 : ∀ e, e < 8 → u1 10 (2 * e) = M 2 13 e ∧ u1 10 (2 * e + 1) = M 2 14 e := fun e he => by rw [r2 10 (by omega) (by omega)]; exact hr.2.2.2.2.2.2.2 e he
  have hI2 : ∀ u' : Nat → Nat → Int32, (∀ e, e ≠ 21 → u' e = u1 e) → Inv L (va_up (va_up M 0 o') 1 u') := by
    intro u' hu
    have hk : ∀ e, e ≠ 18 → e ≠ 20 → e ≠ 21 → u' e = (va_up M 0 o') 1 e := fun e a1 a2 a3 => by
      rw [hu e a3, r2 e a1 a2, sm_ne (by decide)]
    exact Inv_eqc hI1 ⟨sm_ne (by decide), sm_ne (by decide), sm_ne (by decide), by rw [sm_ne (by decide)], by rw [sm_ne (by decide)], fun k h1 h2 => by rw [sm_at]; exact hk k (by omega) (by omega) (by omega), by rw [sm_at]; exact hk 22 (by omega) (by omega) (by omega), by rw [sm_at]; exact hk 23 (by omega) (by omega) (by omega)⟩
  rcases cs_any (M 2) 0 1000 with ⟨n1, n2⟩ | ⟨n1, c, hc, n2⟩
  · have hm : ∀ g, mo (M 2) g = 0 := by
      intro g
      rcases cs_any (M 2) g 1000 with ⟨p1, p2⟩ | ⟨p1, c, hc, p2⟩
      · exact p1
      · rw [n2 c hc] at p2; exact absurd p2 (by decide)
    have hb9 : ∀ n, (bl (M 2) n).2 = 0 := by
      intro n
      induction n with
      | zero => exact hm 0
      | succ n ih =>
        show (if mo (M 2) (n + 1) < (bl (M 2) n).2 then mo (M 2) (n + 1) else (bl (M 2) n).2) = 0
        rw [ih, if_neg (by omega)]
    obtain ⟨u', w1, w2⟩ := list_none hw (va_up M 0 o') hm 10 0 u1 (by omega) r3 h9 h10 am_fuel (by show 10 < 100001; omega)
    refine ⟨-6, va_up M 0 o', va_up (va_up M 0 o') 1 u', ?_, ?_, hI2 u' w2⟩
    · rw [k0, hb9 9, if_pos (show nI 0 = 0 from rfl)]
    · show fX2_listen _ a = _
      unfold fX2_listen
      rw [if_neg g1, r1, Option.bind_some, show am_it fX2_listen_L25 am_fuel ((-6 : Int32), (1000000 : Int32), (0 : Int32), va_up (va_up M 0 o') 1 u1) = _ from w1, Option.bind_some, if_pos (show (-6 : Int32) < 0 by decide)]
  · have hm : ∀ g, 1 ≤ mo (M 2) g := by
      intro g
      rcases cs_any (M 2) g 1000 with ⟨p1, p2⟩ | ⟨p1, -⟩
      · rw [p2 c hc] at n2; exact absurd n2 (by decide)
      · exact p1
    have hb9 : ∀ n, 1 ≤ (bl (M 2) n).2 := by
      intro n
      induction n with
      | zero => exact hm 0
      | succ n ih =>
        show 1 ≤ (if mo (M 2) (n + 1) < (bl (M 2) n).2 then mo (M 2) (n + 1) else (bl (M 2) n).2)
        split
        · exact hm _
        · exact ih
    obtain ⟨l1, l2⟩ := bl_le (M 2) 9
    have l3 := hb9 9
    obtain ⟨u', w1, w2⟩ := list_x2 hw (va_up M 0 o') hm 9 0 (va_up u1 21 (ctA (cs (M 2) 0 1000).2 (u1 21))) (by omega) r3 h9 h10 100000 (by omega)
    have k2 : fX2_listen (va_up M 0 o') a = if a = 0 then some (nI (bl (M 2) 9).1, va_up (va_up M 0 o') 1 u') else some (nI (bl (M 2) 9).2, va_up (va_up M 0 o') 1 u') := by
      unfold fX2_listen
      rw [if_neg g1, r1, Option.bind_some, show am_fuel = 100000 + 1 from rfl, list_first hw (va_up M 0 o') (hm 0) u1 r3 h9 h10, w1, Option.bind_some, if_neg (show ¬ nI (bl (M 2) 9).1 < 0 by rw [show (0 : Int32) = nI 0 from rfl, lit_lt (by omega) (by omega)]; omega)]
    have hI := hI2 u' (fun e he => (w2 e he).trans (by simp [va_up, he]))
    rw [if_neg (show ¬ nI (bl (M 2) 9).2 = 0 by rw [show (0 : Int32) = nI 0 from rfl, lit_eq (by omega) (by omega)]; omega)] at k0
    by_cases ca : a = 0
    · exact ⟨_, _, _, by rw [k0, if_pos ca], by show fX2_listen _ a = _; rw [k2, if_pos ca], hI⟩
    · exact ⟨_, _, _, by rw [k0, if_neg ca], by show fX2_listen _ a = _; rw [k2, if_neg ca], hI⟩
