/-! OPERATIONS, the plain ones -/
set_option maxRecDepth 100000
def opk (L : Nat → Bool) (f0 : Option (Int32 × am_M)) (f2 : am_M → Option (Int32 × am_M)) : Prop := ∃ (r : Int32) (M1 M2 : am_M), f0 = some (r, M1) ∧ f2 M1 = some (r, M2) ∧ Inv L M2
theorem op_same {L : Nat → Bool} {M : am_M} (h : Inv L M) {f0 : Option (Int32 × am_M)} {f2 : am_M → Option (Int32 × am_M)} (r : Int32) (h0 : f0 = some (r, M)) (h2 : f2 M = some (r, M)) : opk L f0 f2 := ⟨r, M, M, h0, h2, h⟩
theorem op_wipe {L : Nat → Bool} {M : am_M} (h : Inv L M) : opk L (fX0_wipe M) fX2_wipe := by
  obtain ⟨h1, h2, ⟨s, hs, e1, e2, h3, h4⟩, h5⟩ := h
  refine ⟨nI s, am_put M 0 4 0, am_put (am_put M 0 4 0) 1 11 0, ?_, ?_, ?_, ?_, ?_, ?_⟩
  · unfold fX0_wipe
    rw [e1]
  · unfold fX2_wipe
    simp [am_put, am_up, va_up, e2]
  · simpa [am_put, am_up, va_up] using h1
  · have e : (am_put (am_put M 0 4 0) 1 11 0) 2 = M 2 := by simp [am_put, am_up, va_up]
    rw [e]
    exact rel_cg (fun k hk _ => by simp [am_put, am_up, va_up, show ¬ k = 11 by omega]) h2
  · exact ⟨0, by omega, by simp [am_put, am_up, va_up, nI_0], by simp [am_put, am_up, va_up, nI_0], fun i hi => by simpa [am_put, am_up, va_up] using h3 i hi, fun i hi => absurd hi (by omega)⟩
  · exact img_cg h5 (by simp [am_put, am_up, va_up]) (by simp [am_put, am_up, va_up]) (by simp [am_put, am_up, va_up]) (by simp [am_put, am_up, va_up])
theorem nar_char {c : Nat} (h : c < 65536) : vp_nar .char (((nI c).toUInt32 % 65536).toInt32) = nI c := by
  rw [pk_vc, pk_char, pk_tn (by omega), Nat.mod_eq_of_lt h]
theorem op_say {L : Nat → Bool} {M : am_M} (h : Inv L M) (a : Int32) : opk L (fX0_say M a) (fun M1 => fX2_say M1 a) := by
  by_cases g1 : fX2_in a 33 126 = 0
  · refine op_same h (-2) ?_ ?_
    · unfold fX0_say; rw [in_33_126, if_pos g1]
    · show fX2_say M a = _
      unfold fX2_say; rw [if_pos g1]
  have hh := h
  obtain ⟨h1, h2, ⟨s, hs, e1, e2, h3, h4⟩, h5⟩ := h
  by_cases g2 : s = 60
  · subst g2
    refine op_same hh (-4) ?_ ?_
    · unfold fX0_say; rw [in_33_126, if_neg g1, e1, if_pos (show nI 60 = (60 : Int32) from rfl)]
    · show fX2_say M a = _
      unfold fX2_say; rw [if_neg g1, e2, if_pos (show nI 60 = (60 : Int32) from rfl)]
  obtain ⟨q1, q2⟩ := in_ok g1
  obtain ⟨c, hc, rfl⟩ := nI_of2 (x := a) (M := 126) (n := 126) (by decide) (Int32.not_lt.mpr (Int32.le_trans (by decide) q1)) q2
  have hc1 : 33 ≤ c := (nI_leI (a := 33) (b := c) (by omega) (by omega)).mp q1
  have n60 : ¬ nI s = (60 : Int32) := by
    rw [show (60 : Int32) = nI 60 from rfl, lit_eq (by omega) (by omega)]; exact g2
  have hs1 : nI s + 1 = nI (s + 1) := nI_1 s
  refine ⟨nI (s + 1), am_put (am_up M 0 3 s (nI c)) 0 4 (nI (s + 1)), am_put (am_up (am_put (am_up M 0 3 s (nI c)) 0 4 (nI (s + 1))) 1 12 s (nI c)) 1 11 (nI (s + 1)), ?_, ?_, ?_, ?_, ?_, ?_⟩
  · unfold fX0_say
    rw [in_33_126, if_neg g1, e1, if_neg n60, wr_n (by omega) (by omega), nar_char (by omega)]
    simp [am_put, am_up, va_up, e1, hs1]
  · show fX2_say _ _ = _
    have e2' : (am_put (am_up M 0 3 s (nI c)) 0 4 (nI (s + 1))) 1 11 0 = nI s := by simpa [am_put, am_up, va_up] using e2
    unfold fX2_say
    rw [if_neg g1, e2', if_neg n60, wr_n (by omega) (by omega)]
    simp [am_put, am_up, va_up, e2, hs1]
  · simpa [am_put, am_up, va_up] using h1
  · have e : (am_put (am_up (am_put (am_up M 0 3 s (nI c)) 0 4 (nI (s + 1))) 1 12 s (nI c)) 1 11 (nI (s + 1))) 2 = M 2 := by simp [am_put, am_up, va_up]
    rw [e]
    exact rel_cg (fun k hk _ => by simp [am_put, am_up, va_up, show ¬ k = 11 by omega, show ¬ k = 12 by omega]) h2
  · refine ⟨s + 1, by omega, by simp [am_put, am_up, va_up], by simp [am_put, am_up, va_up], fun i hi => ?_, fun i hi => ?_⟩
    · by_cases e : i = s
      · simp [am_put, am_up, va_up, e]
      · simpa [am_put, am_up, va_up, e] using h3 i hi
    · by_cases e : i = s
      · exact ⟨c, hc1, hc, by simp [am_put, am_up, va_up, e]⟩
      · obtain ⟨c', z1, z2, z3⟩ := h4 i (by omega)
        exact ⟨c', z1, z2, by simpa [am_put, am_up, va_up, e] using z3⟩
  · exact img_cg h5 (by simp [am_put, am_up, va_up]) (by simp [am_put, am_up, va_up]) (by simp [am_put, am_up, va_up]) (by simp [am_put, am_up, va_up])
theorem op_forget {L : Nat → Bool} {M : am_M} (h : Inv L M) : opk L (fX0_forget M) fX2_forget := by
  obtain ⟨⟨w0, w1, w2, w3, w4, w5, w6, w7, w8, w9, w10, w11⟩, ⟨r1, r2, r3, r4, r5, r6, r7, r8⟩, h3, h5⟩ := h
  refine ⟨M 2 15 0, am_put M 2 15 0, am_put (am_put M 2 15 0) 1 9 0, rfl, ?_, ?_, ?_, ?_, ?_⟩
  · unfold fX2_forget
    simp [am_put, am_up, va_up, r7]
  · refine ⟨?_, ?_, ?_, ?_, ?_, ?_, ?_, ?_, ?_, ?_, ?_, ?_⟩
    · simpa [am_put, am_up, va_up] using w0
    · simpa [am_put, am_up, va_up] using w1
    · simpa [am_put, am_up, va_up] using w2
    · simpa [am_put, am_up, va_up] using w3
    · simpa [am_put, am_up, va_up] using w4
    · simpa [am_put, am_up, va_up] using w5
    · simpa [am_put, am_up, va_up] using w6
    · simpa [am_put, am_up, va_up] using w7
    · simpa [am_put, am_up, va_up] using w8
    · simpa [am_put, am_up, va_up] using w9
    · simpa [am_put, am_up, va_up] using w10
    · exact ⟨0, by omega, by simp [am_put, am_up, va_up, nI_0]⟩
  · refine ⟨?_, ?_, ?_, ?_, ?_, ?_, ?_, ?_⟩
    · simpa [am_put, am_up, va_up] using r1
    · simpa [am_put, am_up, va_up] using r2
    · simpa [am_put, am_up, va_up] using r3
    · simpa [am_put, am_up, va_up] using r4
    · simpa [am_put, am_up, va_up] using r5
    · simpa [am_put, am_up, va_up] using r6
    · simp [am_put, am_up, va_up]
    · simpa [am_put, am_up, va_up] using r8
  · exact sgn_cg h3 (by simp [am_put, am_up, va_up]) (by simp [am_put, am_up, va_up]) (by simp [am_put, am_up, va_up]) (by simp [am_put, am_up, va_up])
  · exact img_cg h5 (by simp [am_put, am_up, va_up]) (by simp [am_put, am_up, va_up]) (by simp [am_put, am_up, va_up]) (by simp [am_put, am_up, va_up])
theorem in_9 {a : Int32} (h : ¬ fX2_in a 0 9 = 0) : ∃ j, j < 10 ∧ a = nI j := by
  obtain ⟨j, h1, h2⟩ := in_n (n := 9) (by omega) h
  exact ⟨j, by omega, h2⟩
theorem in_7 {a : Int32} (h : ¬ fX2_in a 0 7 = 0) : ∃ j, j < 8 ∧ a = nI j := by
  obtain ⟨j, h1, h2⟩ := in_n (n := 7) (by omega) h
  exact ⟨j, by omega, h2⟩
theorem inx_m1_23 {a : Int32} (h : ¬ fX2_in a (-1) 23 = 0) : a = -1 ∨ ∃ n, n < 24 ∧ a = nI n := by
  obtain ⟨h1, h2⟩ := in_ok h
  by_cases z : a < 0
  · left
    apply Int32.toInt_inj.mp
    have e1 := Int32.le_iff_toInt_le.mp h1
    have e2 := Int32.lt_iff_toInt_lt.mp z
    have e3 : (-1 : Int32).toInt = -1 := by decide
    have e4 : (0 : Int32).toInt = 0 := by decide
    omega
  · right
    obtain ⟨j, hj, e⟩ := nI_of2 (x := a) (M := 23) (n := 23) (by decide) z h2
    exact ⟨j, by omega, e⟩
theorem op_heard {L : Nat → Bool} {M : am_M} (h : Inv L M) (a b : Int32) : opk L (fX0_heard M a b) (fun M1 => fX2_heard M1 a b) := by
  by_cases g1 : fX2_in a 0 9 = 0
  · refine op_same h (-1) ?_ ?_
    · unfold fX0_heard; rw [isGal_in, if_pos g1]
    · show fX2_heard M a b = _
      unfold fX2_heard; rw [isGal2_in, if_pos g1]
  by_cases g2 : fX2_in b (-1) 23 = 0
  · refine op_same h (-2) ?_ ?_
    · unfold fX0_heard; rw [isGal_in, if_neg g1, in_m1_23, if_pos g2]
    · show fX2_heard M a b = _
      unfold fX2_heard; rw [isGal2_in, if_neg g1, if_pos g2]
  have hh := h
  obtain ⟨⟨w0, w1, w2, w3, w4, w5, w6, w7, w8, w9, w10, s, hs, w11⟩, ⟨r1, r2, r3, r4, r5, r6, r7, r8⟩, h3, h5⟩ := h
  by_cases g3 : s = 8
  · subst g3
    refine op_same hh (-4) ?_ ?_
    · unfold fX0_heard; rw [isGal_in, if_neg g1, in_m1_23, if_neg g2, w11, if_pos (show nI 8 = (8 : Int32) from rfl)]
    · show fX2_heard M a b = _
      unfold fX2_heard; rw [isGal2_in, if_neg g1, if_neg g2, r7, w11, if_pos (show nI 8 = (8 : Int32) from rfl)]
  have n8 : ¬ nI s = (8 : Int32) := by
    rw [show (8 : Int32) = nI 8 from rfl, lit_eq (by omega) (by omega)]; exact g3
  have hs1 : nI s + 1 = nI (s + 1) := nI_1 s
  have e2s : (2 : Int32) * nI s = nI (2 * s) := pk_mul 2 s
  have e2s1 : nI (2 * s) + 1 = nI (2 * s + 1) := nI_1 _
  have r7' := r7.trans w11
  refine ⟨nI (s + 1), am_put (am_up (am_up M 2 13 s a) 2 14 s b) 2 15 (nI (s + 1)), am_put (am_up (am_up (am_put (am_up (am_up M 2 13 s a) 2 14 s b) 2 15 (nI (s + 1))) 1 10 (2 * s) a) 1 10 (2 * s + 1) b) 1 9 (nI (s + 1)), ?_, ?_, ?_, ?_, ?_, ?_⟩
  · have e : am_up M 2 13 s a 2 15 0 = nI s := by simpa [am_put, am_up, va_up] using w11
    unfold fX0_heard
    rw [isGal_in, if_neg g1, in_m1_23, if_neg g2, w11, if_neg n8, wr_n (by omega) (by omega)]
    dsimp only [Option.bind]
    rw [e, wr_n (by omega) (by omega)]
    simp [am_put, am_up, va_up, w11, hs1]
  · show fX2_heard _ a b = _
    have e : (am_put (am_up (am_up M 2 13 s a) 2 14 s b) 2 15 (nI (s + 1))) 1 9 0 = nI s := by simpa [am_put, am_up, va_up] using r7'
    have e' : (am_up (am_put (am_up (am_up M 2 13 s a) 2 14 s b) 2 15 (nI (s + 1))) 1 10 (2 * s) a) 1 9 0 = nI s := by simpa [am_put, am_up, va_up] using r7'
    unfold fX2_heard
    rw [isGal2_in, if_neg g1, if_neg g2, e, if_neg n8, e2s, wr_n (by omega) (by omega)]
    dsimp only [Option.bind]
    rw [e', e2s, e2s1, wr_n (by omega) (by omega)]
    simp [am_put, am_up, va_up, r7', hs1]
  · obtain ⟨g, hg, ea⟩ := in_9 g1
    refine ⟨?_, ?_, ?_, ?_, ?_, ?_, ?_, ?_, ?_, ?_, ?_, ?_⟩
    · simpa [am_put, am_up, va_up] using w0
    · simpa [am_put, am_up, va_up] using w1
    · simpa [am_put, am_up, va_up] using w2
    · simpa [am_put, am_up, va_up] using w3
    · simpa [am_put, am_up, va_up] using w4
    · simpa [am_put, am_up, va_up] using w5
    · simpa [am_put, am_up, va_up] using w6
    · simpa [am_put, am_up, va_up] using w7
    · simpa [am_put, am_up, va_up] using w8
    · intro e he
      by_cases z : e = s
      · exact ⟨g, hg, by simp [am_put, am_up, va_up, z, ea]⟩
      · simpa [am_put, am_up, va_up, z] using w9 e he
    · intro e he
      by_cases z : e = s
      · simpa [am_put, am_up, va_up, z] using inx_m1_23 g2
      · simpa [am_put, am_up, va_up, z] using w10 e he
    · exact ⟨s + 1, by omega, by simp [am_put, am_up, va_up]⟩
  · refine ⟨?_, ?_, ?_, ?_, ?_, ?_, ?_, ?_⟩
    · simpa [am_put, am_up, va_up] using r1
    · simpa [am_put, am_up, va_up] using r2
    · simpa [am_put, am_up, va_up] using r3
    · simpa [am_put, am_up, va_up] using r4
    · simpa [am_put, am_up, va_up] using r5
    · simpa [am_put, am_up, va_up] using r6
    · simp [am_put, am_up, va_up]
    · intro e he
      by_cases z : e = s
      · have z1 : ¬ 2 * s = 2 * s + 1 := by omega
        simp [am_put, am_up, va_up, z]
      · have z1 : ¬ 2 * e = 2 * s + 1 := by omega
        have z2 : ¬ 2 * e = 2 * s := by omega
        have z3 : ¬ 2 * e + 1 = 2 * s := by omega
        have z4 : ¬ 2 * e + 1 = 2 * s + 1 := by omega
        simpa [am_put, am_up, va_up, z, z1, z2, z3, z4] using r8 e he
  · exact sgn_cg h3 (by simp [am_put, am_up, va_up]) (by simp [am_put, am_up, va_up]) (by simp [am_put, am_up, va_up]) (by simp [am_put, am_up, va_up])
  · exact img_cg h5 (by simp [am_put, am_up, va_up]) (by simp [am_put, am_up, va_up]) (by simp [am_put, am_up, va_up]) (by simp [am_put, am_up, va_up])
