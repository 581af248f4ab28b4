/-! OPERATIONS on a mine: gallery, voice, breath, leave, passage. Printed by gen/ops2.py -/
set_option maxRecDepth 100000
theorem put_at {M : am_M} {j k : Nat} {v : Int32} : am_put M j k v j k 0 = v := by simp [am_put, am_up, va_up]
theorem op_gallery {L : Nat → Bool} {M : am_M} (h : Inv L M) (a b c : Int32) : opk L (fX0_gallery M a b c) (fun M1 => fX2_gallery M1 a b c) := by
  by_cases g1 : fX2_in a 0 9 = 0
  · refine op_same h (-1) ?_ ?_
    · unfold fX0_gallery; rw [isGal_in, if_pos g1]
    · show fX2_gallery M a b c = _
      unfold fX2_gallery; rw [isGal2_in, if_pos g1]
  by_cases g2 : fX2_in b 0 9 = 0
  · refine op_same h (-1) ?_ ?_
    · unfold fX0_gallery; rw [isGal_in, if_neg g1, isGal_in, if_pos g2]
    · show fX2_gallery M a b c = _
      unfold fX2_gallery; rw [isGal2_in, if_neg g1, isGal2_in, if_pos g2]
  obtain ⟨⟨w0, w1, w2, w3, w4, w5, w6, w7, w8, w9, w10, w11⟩, ⟨r1, r2, r3, r4, r5, r6, r7, r8⟩, h3, h5⟩ := h
  obtain ⟨g, hg, rfl⟩ := in_9 g1
  obtain ⟨e, he, rfl⟩ := in_9 g2
  obtain ⟨s, hs, w3⟩ := w3
  refine ⟨M 2 1 g, am_put (am_up M 2 1 g (nI e)) 2 3 (nI (wth s g c)), am_put (am_up (am_put (am_up M 2 1 g (nI e)) 2 3 (nI (wth s g c))) 1 7 g (nI e)) 1 8 (nI (wth s g c)), ?_, ?_, ?_, ?_, ?_, ?_⟩
  · have e3 : am_up M 2 1 g (nI e) 2 3 0 = nI s := by simpa [am_put, am_up, va_up] using w3
    unfold fX0_gallery
    rw [isGal_in, if_neg g1, isGal_in, if_neg g2, rd_n hg (by omega), wr_n hg (by omega)]
    dsimp only [Option.bind]
    rw [e3, with_n (by omega) (by omega)]
  · show fX2_gallery _ _ _ _ = _
    have e7 : (am_put (am_up M 2 1 g (nI e)) 2 3 (nI (wth s g c))) 1 7 g = M 2 1 g := by simpa [am_put, am_up, va_up] using (r2 g hg).2.2
    have e8 : (am_up (am_put (am_up M 2 1 g (nI e)) 2 3 (nI (wth s g c))) 1 7 g (nI e)) 1 8 0 = nI s := by simpa [am_put, am_up, va_up] using r6.trans w3
    have hput : ∀ (N : am_M) (x y : Int32), am_put (am_put N 1 8 x) 1 8 y = am_put N 1 8 y := by
      intro N x y
      funext p q z
      by_cases h1 : p = 1
      · by_cases h2 : q = 8
        · by_cases h3 : z = 0 <;> simp [am_put, am_up, va_up, h1, h2, h3]
        · simp [am_put, am_up, va_up, h1, h2]
      · simp [am_put, am_up, va_up, h1]
    unfold fX2_gallery
    rw [isGal2_in, if_neg g1, isGal2_in, if_neg g2, rd_n hg (by omega), wr_n hg (by omega), e7]
    dsimp only [Option.bind]
    rw [e8, put_at]
    have hx : (if c = 0 then some (0 : Int32) else some ((1 : Int32) <<< (nI g &&& 31))) = some (if c = 0 then (0 : Int32) else (1 : Int32) <<< (nI g &&& 31)) := by split <;> rfl
    rw [hx]
    show some _ = some _
    rw [hput, model_with (by omega) (by omega)]
  · refine ⟨?_, ?_, ?_, ?_, ?_, ?_, ?_, ?_, ?_, ?_, ?_, ?_⟩
    · simpa [am_put, am_up, va_up] using w0
    · simpa [am_put, am_up, va_up] using w1
    · intro x hx
      by_cases z : x = g
      · exact ⟨e, he, by simp [am_put, am_up, va_up, z]⟩
      · simpa [am_put, am_up, va_up, z] using w2 x hx
    · exact ⟨wth s g c, wth_lt (n := 10) hs hg, by simp [am_put, am_up, va_up]⟩
    · simpa [am_put, am_up, va_up] using w4
    · simpa [am_put, am_up, va_up] using w5
    · simpa [am_put, am_up, va_up] using w6
    · simpa [am_put, am_up, va_up] using w7
    · simpa [am_put, am_up, va_up] using w8
    · simpa [am_put, am_up, va_up] using w9
    · simpa [am_put, am_up, va_up] using w10
    · simpa [am_put, am_up, va_up] using w11
  · refine ⟨?_, ?_, ?_, ?_, ?_, ?_, ?_, ?_⟩
    · simpa [am_put, am_up, va_up] using r1
    · intro x hx
      by_cases z : x = g
      · have q := r2 x hx
        subst z
        refine ⟨?_, ?_, ?_⟩
        · simpa [am_put, am_up, va_up] using q.1
        · simpa [am_put, am_up, va_up] using q.2.1
        · simp [am_put, am_up, va_up]
      · simpa [am_put, am_up, va_up, z] using r2 x hx
    · simpa [am_put, am_up, va_up] using r3
    · simpa [am_put, am_up, va_up] using r4
    · simpa [am_put, am_up, va_up] using r5
    · simp [am_put, am_up, va_up]
    · simpa [am_put, am_up, va_up] using r7
    · simpa [am_put, am_up, va_up] using r8
  · exact sgn_cg h3 (by simp [am_put, am_up, va_up]) (by simp [am_put, am_up, va_up]) (by simp [am_put, am_up, va_up]) (by simp [am_put, am_up, va_up])
  · exact img_cg h5 (by simp [am_put, am_up, va_up]) (by simp [am_put, am_up, va_up]) (by simp [am_put, am_up, va_up]) (by simp [am_put, am_up, va_up])
theorem op_leave {L : Nat → Bool} {M : am_M} (h : Inv L M) (a : Int32) : opk L (fX0_leave M a) (fun M1 => fX2_leave M1 a) := by
  have hh := here_in h a
  by_cases g1 : fX2_isThere (M 1) a = 0
  · refine op_same h (-1) ?_ ?_
    · unfold fX0_leave; rw [hh, if_pos g1]
    · show fX2_leave M a = _
      unfold fX2_leave; rw [if_pos g1]
  obtain ⟨⟨w0, w1, w2, w3, w4, w5, w6, w7, w8, w9, w10, w11⟩, ⟨r1, r2, r3, r4, r5, r6, r7, r8⟩, h3, h5⟩ := h
  obtain ⟨k, hk, rfl, hbk⟩ := there_ok g1
  obtain ⟨s, hs, w5⟩ := w5
  have hc : clr s k < 256 := clr_lt hs
  refine ⟨nI (pop (clr s k)), am_up (am_put M 2 5 (nI (clr s k))) 2 11 k (-6), am_put (am_up (am_put M 2 5 (nI (clr s k))) 2 11 k (-6)) 1 2 (nI (clr s k)), ?_, ?_, ?_, ?_, ?_, ?_⟩
  · have e5 : (am_up (am_put M 2 5 (nI (clr s k))) 2 11 k (-6)) 2 5 0 = nI (clr s k) := by simp [am_put, am_up, va_up]
    unfold fX0_leave
    rw [hh, if_neg g1, w5, with_n (by omega) (by omega), wr_n hk (by omega)]
    dsimp only [Option.bind]
    rw [show wth s k 0 = clr s k from rfl, e5, bitCount_n (by omega)]
  · show fX2_leave _ _ = _
    have e1 : (am_up (am_put M 2 5 (nI (clr s k))) 2 11 k (-6)) 1 = M 1 := by simp [am_put, am_up, va_up]
    unfold fX2_leave
    rw [e1, if_neg g1, put_at, r5, w5, one_shl (by omega), nI_clr (by omega) (by omega), bits_n (by omega)]
    rfl
  · refine ⟨?_, ?_, ?_, ?_, ?_, ?_, ?_, ?_, ?_, ?_, ?_, ?_⟩
    · simpa [am_put, am_up, va_up] using w0
    · simpa [am_put, am_up, va_up] using w1
    · simpa [am_put, am_up, va_up] using w2
    · simpa [am_put, am_up, va_up] using w3
    · simpa [am_put, am_up, va_up] using w4
    · exact ⟨clr s k, hc, by simp [am_put, am_up, va_up]⟩
    · intro x hx
      obtain ⟨p, q, z1, z2, z3, z4, z5⟩ := w6 x hx
      refine ⟨p, q, z1, z2, by simpa [am_put, am_up, va_up] using z3, by simpa [am_put, am_up, va_up] using z4, ?_⟩
      by_cases z : x = k
      · left; simp [am_put, am_up, va_up, z]
      · simpa [am_put, am_up, va_up, z] using z5
    · simpa [am_put, am_up, va_up] using w7
    · simpa [am_put, am_up, va_up] using w8
    · simpa [am_put, am_up, va_up] using w9
    · simpa [am_put, am_up, va_up] using w10
    · simpa [am_put, am_up, va_up] using w11
  · refine ⟨?_, ?_, ?_, ?_, ?_, ?_, ?_, ?_⟩
    · intro x hx
      obtain ⟨q1, q2, q3, q4, q5, q6⟩ := r1 x hx
      refine ⟨by simpa [am_put, am_up, va_up] using q1, by simpa [am_put, am_up, va_up] using q2, by simpa [am_put, am_up, va_up] using q3, by simpa [am_put, am_up, va_up] using q4, by simpa [am_put, am_up, va_up] using q5, fun hb1 => ?_⟩
      have hb2 : hb (nI (clr s k)) (nI x) = true := by simpa [am_put, am_up, va_up] using hb1
      rw [hb_bit (by omega) (by omega), clr_bit (by omega) (by omega)] at hb2
      simp only [Bool.and_eq_true, decide_eq_true_eq] at hb2
      have z : ¬ x = k := hb2.2
      have q := q6 (by rw [w5, hb_bit (by omega) (by omega)]; exact hb2.1)
      simpa [am_put, am_up, va_up, z] using q
    · simpa [am_put, am_up, va_up] using r2
    · simpa [am_put, am_up, va_up] using r3
    · simpa [am_put, am_up, va_up] using r4
    · simp [am_put, am_up, va_up]
    · simpa [am_put, am_up, va_up] using r6
    · simpa [am_put, am_up, va_up] using r7
    · simpa [am_put, am_up, va_up] using r8
  · exact sgn_cg h3 (by simp [am_put, am_up, va_up]) (by simp [am_put, am_up, va_up]) (by simp [am_put, am_up, va_up]) (by simp [am_put, am_up, va_up])
  · exact img_cg h5 (by simp [am_put, am_up, va_up]) (by simp [am_put, am_up, va_up]) (by simp [am_put, am_up, va_up]) (by simp [am_put, am_up, va_up])
theorem op_breath {L : Nat → Bool} {M : am_M} (h : Inv L M) (a v : Int32) : opk L (fX0_breath M a v) (fun M1 => fX2_breath M1 a v) := by
  have hh := here_in h a
  by_cases g1 : fX2_isThere (M 1) a = 0
  · refine op_same h (-1) ?_ ?_
    · unfold fX0_breath; rw [hh, if_pos g1]
    · show fX2_breath M a v = _
      unfold fX2_breath; rw [if_pos g1]
  have h0 := h
  obtain ⟨⟨w0, w1, w2, w3, w4, w5, w6, w7, w8, w9, w10, w11⟩, ⟨r1, r2, r3, r4, r5, r6, r7, r8⟩, h3, h5⟩ := h
  obtain ⟨k, hk, rfl, hbk⟩ := there_ok g1
  obtain ⟨p, q, z1, z2, z3, z4, z5⟩ := w6 k hk
  obtain ⟨q1, q2, q3, q4, q5, q6⟩ := r1 k hk
  have q5' := q5.trans z3
  by_cases g2 : fX2_in v 0 (nI p) = 0
  · refine op_same h0 (-2) ?_ ?_
    · unfold fX0_breath; rw [hh, if_neg g1, rd_n hk (by omega)]; dsimp only [Option.bind]; rw [z3, in_0_x, if_pos g2]
    · show fX2_breath M _ v = _
      unfold fX2_breath; rw [if_neg g1, rd_n hk (by omega)]; dsimp only [Option.bind]; rw [q5', if_pos g2]
  obtain ⟨b, hb0, rfl⟩ := in_n (by omega) g2
  have hbk' : hb (M 2 5 0) (nI k) = true := by rw [← r5]; exact hbk
  have e8 : (8 : Int32) + nI k = nI (8 + k) := nI_add 8 k
  have hnote := q6 hbk'
  obtain ⟨x, hx⟩ : ∃ x : Int32, x = if nI b = 0 then -6 else M 2 11 k := ⟨_, rfl⟩
  refine ⟨M 2 9 k, am_up (am_up M 2 9 k (nI b)) 2 11 k x, am_up (am_up (am_up (am_up M 2 9 k (nI b)) 2 11 k x) 1 0 (8 + k) (nI b)) 1 0 k x, ?_, ?_, ?_, ?_, ?_, ?_⟩
  · have e11 : (am_up M 2 9 k (nI b)) 2 11 = M 2 11 := by simp [am_put, am_up, va_up]
    unfold fX0_breath
    rw [hh, if_neg g1, rd_n hk (by omega)]
    dsimp only [Option.bind]
    rw [z3, in_0_x, if_neg g2, rd_n hk (by omega), wr_n hk (by omega)]
    dsimp only [Option.bind]
    rw [e11, rd_n hk (by omega)]
    have ex : (if nI b = 0 then some (-6 : Int32) else some (M 2 11 k)) = some x := by rw [hx]; split <;> rfl
    dsimp only [Option.bind]
    rw [ex]
    dsimp only [Option.bind]
    rw [wr_n hk (by omega)]
  · show fX2_breath _ _ _ = _
    have e1 : (am_up (am_up M 2 9 k (nI b)) 2 11 k x) 1 = M 1 := by simp [am_put, am_up, va_up]
    have e0 : (am_up (am_up (am_up M 2 9 k (nI b)) 2 11 k x) 1 0 (8 + k) (nI b)) 1 0 k = M 2 11 k := by
      have zz : ¬ k = 8 + k := by omega
      simpa [am_put, am_up, va_up, zz] using hnote
    unfold fX2_breath
    rw [e1, if_neg g1, rd_n hk (by omega)]
    dsimp only [Option.bind]
    rw [q5', if_neg g2, e8, rd_n (by omega) (by omega), wr_n (by omega) (by omega)]
    dsimp only [Option.bind]
    rw [rd_n (by omega) (by omega), e0]
    have ex : (if nI b = 0 then some (-6 : Int32) else some (M 2 11 k)) = some x := by rw [hx]; split <;> rfl
    dsimp only [Option.bind]
    rw [ex]
    dsimp only [Option.bind]
    rw [wr_n (by omega) (by omega), q1]
  · refine ⟨?_, ?_, ?_, ?_, ?_, ?_, ?_, ?_, ?_, ?_, ?_, ?_⟩
    · simpa [am_put, am_up, va_up] using w0
    · simpa [am_put, am_up, va_up] using w1
    · simpa [am_put, am_up, va_up] using w2
    · simpa [am_put, am_up, va_up] using w3
    · simpa [am_put, am_up, va_up] using w4
    · simpa [am_put, am_up, va_up] using w5
    · intro y hy
      by_cases z : y = k
      · subst z
        refine ⟨p, b, z1, hb0, by simpa [am_put, am_up, va_up] using z3, by simp [am_put, am_up, va_up], ?_⟩
        have ex : (am_up (am_up (am_up (am_up M 2 9 y (nI b)) 2 11 y x) 1 0 (8 + y) (nI b)) 1 0 y x) 2 11 y = x := by simp [am_put, am_up, va_up]
        rw [ex, hx]
        by_cases zb : b = 0
        · left; rw [zb, if_pos nI_0]
        · rw [if_neg (nI_ne0 (by omega) (by omega))]
          rcases z5 with z5 | z5
          · left; exact z5
          · right; exact ⟨by omega, z5.2⟩
      · simpa [am_put, am_up, va_up, z] using w6 y hy
    · simpa [am_put, am_up, va_up] using w7
    · simpa [am_put, am_up, va_up] using w8
    · simpa [am_put, am_up, va_up] using w9
    · simpa [am_put, am_up, va_up] using w10
    · simpa [am_put, am_up, va_up] using w11
  · refine ⟨?_, ?_, ?_, ?_, ?_, ?_, ?_, ?_⟩
    · intro y hy
      by_cases z : y = k
      · subst z
        have n1 : ¬ 8 + y = y := by omega
        have n2 : ¬ 16 + y = y := by omega
        have n3 : ¬ 16 + y = 8 + y := by omega
        have n4 : ¬ y = 8 + y := by omega
        refine ⟨by simp [am_put, am_up, va_up, n1], by simpa [am_put, am_up, va_up, n2, n3] using q2, by simpa [am_put, am_up, va_up] using q3, by simpa [am_put, am_up, va_up] using q4, by simpa [am_put, am_up, va_up] using q5, fun _ => by simp [am_put, am_up, va_up]⟩
      · have n1 : ¬ 8 + y = k := by omega
        have n2 : ¬ 8 + y = 8 + k := by omega
        have n3 : ¬ 16 + y = k := by omega
        have n4 : ¬ 16 + y = 8 + k := by omega
        have n5 : ¬ y = 8 + k := by omega
        simpa [am_put, am_up, va_up, z, n1, n2, n3, n4, n5] using r1 y hy
    · intro y hy
      have n1 : ¬ 24 + y = k := by omega
      have n2 : ¬ 24 + y = 8 + k := by omega
      simpa [am_put, am_up, va_up, n1, n2] using r2 y hy
    · have n1 : ¬ 34 = k := by omega
      have n2 : ¬ 34 = 8 + k := by omega
      simpa [am_put, am_up, va_up, n1, n2] using r3
    · have n1 : ¬ 35 = k := by omega
      have n2 : ¬ 35 = 8 + k := by omega
      simpa [am_put, am_up, va_up, n1, n2] using r4
    · simpa [am_put, am_up, va_up] using r5
    · simpa [am_put, am_up, va_up] using r6
    · simpa [am_put, am_up, va_up] using r7
    · simpa [am_put, am_up, va_up] using r8
  · exact sgn_cg h3 (by simp [am_put, am_up, va_up]) (by simp [am_put, am_up, va_up]) (by simp [am_put, am_up, va_up]) (by simp [am_put, am_up, va_up])
  · exact img_cg h5 (by simp [am_put, am_up, va_up]) (by simp [am_put, am_up, va_up]) (by simp [am_put, am_up, va_up]) (by simp [am_put, am_up, va_up])
theorem op_voice {L : Nat → Bool} {M : am_M} (h : Inv L M) (a b c d f : Int32) : opk L (fX0_voice M a b c d f) (fun M1 => fX2_voice M1 a b c d f) := by
  by_cases g1 : fX2_in a 0 7 = 0
  · refine op_same h (-1) ?_ ?_
    · unfold fX0_voice; rw [isVoi_in, if_pos g1]
    · show fX2_voice M a b c d f = _
      unfold fX2_voice; rw [if_pos g1]
  by_cases g2 : fX2_in f 0 9 = 0
  · refine op_same h (-1) ?_ ?_
    · unfold fX0_voice; rw [isVoi_in, if_neg g1, isGal_in, if_pos g2]
    · show fX2_voice M a b c d f = _
      unfold fX2_voice; rw [if_neg g1, isGal2_in, if_pos g2]
  by_cases g3 : fX2_in b 0 23 = 0
  · refine op_same h (-2) ?_ ?_
    · unfold fX0_voice; rw [isVoi_in, if_neg g1, isGal_in, if_neg g2, isNot_in, if_pos g3]
    · show fX2_voice M a b c d f = _
      unfold fX2_voice; rw [if_neg g1, isGal2_in, if_neg g2, if_pos g3]
  by_cases g4 : fX2_in c b 23 = 0
  · refine op_same h (-2) ?_ ?_
    · unfold fX0_voice; rw [isVoi_in, if_neg g1, isGal_in, if_neg g2, isNot_in, if_neg g3, in_x_23, if_pos g4]
    · show fX2_voice M a b c d f = _
      unfold fX2_voice; rw [if_neg g1, isGal2_in, if_neg g2, if_neg g3, if_pos g4]
  by_cases g5 : fX2_in d 0 99 = 0
  · refine op_same h (-2) ?_ ?_
    · unfold fX0_voice; rw [isVoi_in, if_neg g1, isGal_in, if_neg g2, isNot_in, if_neg g3, in_x_23, if_neg g4, in_0_99, if_pos g5]
    · show fX2_voice M a b c d f = _
      unfold fX2_voice; rw [if_neg g1, isGal2_in, if_neg g2, if_neg g3, if_neg g4, if_pos g5]
  obtain ⟨⟨w0, w1, w2, w3, w4, w5, w6, w7, w8, w9, w10, w11⟩, ⟨r1, r2, r3, r4, r5, r6, r7, r8⟩, h3, h5⟩ := h
  obtain ⟨k, hk, rfl⟩ := in_7 g1
  obtain ⟨g, hg, rfl⟩ := in_9 g2
  obtain ⟨p, hp, rfl⟩ := in_n (n := 99) (by omega) g5
  obtain ⟨s, hs, w5⟩ := w5
  have hc : ins s k < 256 := ins_lt (n := 8) hs hk
  have e8 : (8 : Int32) + nI k = nI (8 + k) := nI_add 8 k
  have e16 : (16 : Int32) + nI k = nI (16 + k) := nI_add 16 k
  have hw : fX0_with (nI s) (nI k) 1 = nI (ins s k) := by rw [with_n (by omega) (by omega)]; rfl
  obtain ⟨N1, hN1⟩ : ∃ N : am_M, N = am_up (am_up (am_up (am_up (am_up (am_up (am_put M 2 5 (nI (ins s k))) 2 6 k b) 2 7 k c) 2 8 k (nI p)) 2 9 k (nI p)) 2 10 k (nI g)) 2 11 k (-6) := ⟨_, rfl⟩
  have m1 : N1 1 = M 1 := by rw [hN1]; simp [am_put, am_up, va_up]
  obtain ⟨N2, hN2⟩ : ∃ N : am_M, N = am_up (am_up (am_up (am_up (am_up (am_up (am_put N1 1 2 (nI (ins s k))) 1 3 k b) 1 4 k c) 1 5 k (nI p)) 1 0 k (-6)) 1 0 (8 + k) (nI p)) 1 0 (16 + k) (nI g) := ⟨_, rfl⟩
  refine ⟨nI (pop (ins s k)), N1, N2, ?_, ?_, ?_, ?_, ?_, ?_⟩
  · have e5 : N1 2 5 0 = nI (ins s k) := by rw [hN1]; simp [am_put, am_up, va_up]
    unfold fX0_voice
    rw [isVoi_in, if_neg g1, isGal_in, if_neg g2, isNot_in, if_neg g3, in_x_23, if_neg g4, in_0_99, if_neg g5, w5, hw, wr_n hk (by omega)]
    dsimp only [Option.bind]
    rw [wr_n hk (by omega)]
    dsimp only [Option.bind]
    rw [wr_n hk (by omega)]
    dsimp only [Option.bind]
    rw [wr_n hk (by omega)]
    dsimp only [Option.bind]
    rw [wr_n hk (by omega)]
    dsimp only [Option.bind]
    rw [wr_n hk (by omega)]
    dsimp only [Option.bind]
    rw [← hN1, e5, bitCount_n (by omega)]
  · show fX2_voice _ _ _ _ _ _ = _
    have e2 : N2 1 2 0 = nI (ins s k) := by rw [hN2]; simp [am_put, am_up, va_up]
    unfold fX2_voice
    rw [if_neg g1, isGal2_in, if_neg g2, if_neg g3, if_neg g4, if_neg g5, m1, r5, w5, one_shl (by omega), nI_or (by omega) (by have := ins_lt (s := 0) (n := 8) (k := k) (by omega) hk; unfold ins at this; rw [Nat.zero_or] at this; omega), show s ||| 2 ^ k = ins s k from rfl, e8, e16, wr_n hk (by omega)]
    dsimp only [Option.bind]
    rw [wr_n hk (by omega)]
    dsimp only [Option.bind]
    rw [wr_n hk (by omega)]
    dsimp only [Option.bind]
    rw [wr_n (by omega) (by omega)]
    dsimp only [Option.bind]
    rw [wr_n (by omega) (by omega)]
    dsimp only [Option.bind]
    rw [wr_n (by omega) (by omega)]
    dsimp only [Option.bind]
    rw [← hN2, e2, bits_n (by omega)]
  · refine ⟨?_, ?_, ?_, ?_, ?_, ?_, ?_, ?_, ?_, ?_, ?_, ?_⟩
    · simpa [am_put, am_up, va_up, hN2, hN1] using w0
    · simpa [am_put, am_up, va_up, hN2, hN1] using w1
    · simpa [am_put, am_up, va_up, hN2, hN1] using w2
    · simpa [am_put, am_up, va_up, hN2, hN1] using w3
    · simpa [am_put, am_up, va_up, hN2, hN1] using w4
    · exact ⟨ins s k, hc, by simp [am_put, am_up, va_up, hN2, hN1]⟩
    · intro y hy
      by_cases z : y = k
      · subst z
        exact ⟨p, p, hp, Nat.le_refl _, by simp [am_put, am_up, va_up, hN2, hN1], by simp [am_put, am_up, va_up, hN2, hN1], Or.inl (by simp [am_put, am_up, va_up, hN2, hN1])⟩
      · simpa [am_put, am_up, va_up, hN2, hN1, z] using w6 y hy
    · intro y hy
      by_cases z : y = k
      · exact ⟨g, hg, by simp [am_put, am_up, va_up, hN2, hN1, z]⟩
      · simpa [am_put, am_up, va_up, hN2, hN1, z] using w7 y hy
    · simpa [am_put, am_up, va_up, hN2, hN1] using w8
    · simpa [am_put, am_up, va_up, hN2, hN1] using w9
    · simpa [am_put, am_up, va_up, hN2, hN1] using w10
    · simpa [am_put, am_up, va_up, hN2, hN1] using w11
  · refine ⟨?_, ?_, ?_, ?_, ?_, ?_, ?_, ?_⟩
    · intro y hy
      by_cases z : y = k
      · subst z
        have n1 : ¬ 8 + y = 16 + y := by omega
        have n2 : ¬ y = 16 + y := by omega
        have n3 : ¬ y = 8 + y := by omega
        refine ⟨by simp [am_put, am_up, va_up, hN2, hN1, n1], by simp [am_put, am_up, va_up, hN2, hN1], by simp [am_put, am_up, va_up, hN2, hN1], by simp [am_put, am_up, va_up, hN2, hN1], by simp [am_put, am_up, va_up, hN2, hN1], fun _ => by simp [am_put, am_up, va_up, hN2, hN1, n2, n3]⟩
      · obtain ⟨q1, q2, q3, q4, q5, q6⟩ := r1 y hy
        have n1 : ¬ 8 + y = k := by omega
        have n2 : ¬ 8 + y = 8 + k := by omega
        have n3 : ¬ 8 + y = 16 + k := by omega
        have n4 : ¬ 16 + y = k := by omega
        have n5 : ¬ 16 + y = 8 + k := by omega
        have n6 : ¬ 16 + y = 16 + k := by omega
        have n7 : ¬ y = 8 + k := by omega
        have n8 : ¬ y = 16 + k := by omega
        refine ⟨by simpa [am_put, am_up, va_up, hN2, hN1, z, n1, n2, n3] using q1, by simpa [am_put, am_up, va_up, hN2, hN1, z, n4, n5, n6] using q2, by simpa [am_put, am_up, va_up, hN2, hN1, z] using q3, by simpa [am_put, am_up, va_up, hN2, hN1, z] using q4, by simpa [am_put, am_up, va_up, hN2, hN1, z] using q5, fun hb1 => ?_⟩
        have hb2 : hb (nI (ins s k)) (nI y) = true := by simpa [am_put, am_up, va_up, hN2, hN1] using hb1
        rw [hb_bit (by omega) (by omega), ins_bit] at hb2
        simp only [Bool.or_eq_true, decide_eq_true_eq] at hb2
        have q := q6 (by rw [w5, hb_bit (by omega) (by omega)]; exact hb2.resolve_right z)
        simpa [am_put, am_up, va_up, hN2, hN1, z, n7, n8] using q
    · intro y hy
      have n1 : ¬ 24 + y = k := by omega
      have n2 : ¬ 24 + y = 8 + k := by omega
      have n3 : ¬ 24 + y = 16 + k := by omega
      simpa [am_put, am_up, va_up, hN2, hN1, n1, n2, n3] using r2 y hy
    · have n1 : ¬ 34 = k := by omega
      have n2 : ¬ 34 = 8 + k := by omega
      have n3 : ¬ 34 = 16 + k := by omega
      simpa [am_put, am_up, va_up, hN2, hN1, n1, n2, n3] using r3
    · have n1 : ¬ 35 = k := by omega
      have n2 : ¬ 35 = 8 + k := by omega
      have n3 : ¬ 35 = 16 + k := by omega
      simpa [am_put, am_up, va_up, hN2, hN1, n1, n2, n3] using r4
    · simp [am_put, am_up, va_up, hN2, hN1]
    · simpa [am_put, am_up, va_up, hN2, hN1] using r6
    · simpa [am_put, am_up, va_up, hN2, hN1] using r7
    · simpa [am_put, am_up, va_up, hN2, hN1] using r8
  · exact sgn_cg h3 (by simp [am_put, am_up, va_up, hN2, hN1]) (by simp [am_put, am_up, va_up, hN2, hN1]) (by simp [am_put, am_up, va_up, hN2, hN1]) (by simp [am_put, am_up, va_up, hN2, hN1])
  · exact img_cg h5 (by simp [am_put, am_up, va_up, hN2, hN1]) (by simp [am_put, am_up, va_up, hN2, hN1]) (by simp [am_put, am_up, va_up, hN2, hN1]) (by simp [am_put, am_up, va_up, hN2, hN1])
theorem pas_x0 {M : am_M} {p : Nat → Nat} (h : ∀ g, g < 10 → p g < 1024 ∧ M 2 0 g = nI (p g)) : am_it (fX0_passage_L73 M) am_fuel ((0 : Int32), (0 : Int32)) = some (fo (fun g n => n + nI (pop (p g))) 0 10, nI 10) := by
  refine it_fo (fun g n => n + nI (pop (p g))) 0 10 (fun x => (x, nI 10)) (fun _ _ => True) (by omega) trivial (fun i x hi _ => ⟨fun rec => ?_, trivial⟩) (fun x _ rec => ?_)
  · unfold fX0_passage_L73
    dsimp only
    rw [if_neg (by rw [show (10 : Int32) = nI 10 from rfl, lit_le (by omega) (by omega)]; omega), rd_n hi (by omega)]
    dsimp only [Option.bind]
    rw [(h i hi).2, bitCount_n (h i hi).1]
    dsimp only [Option.bind]
    rw [nI_add1]
  · unfold fX0_passage_L73
    dsimp only
    rw [if_pos (by rw [show (10 : Int32) = nI 10 from rfl, lit_le (by omega) (by omega)]; omega)]
theorem pas_x2 {M : am_M} {p : Nat → Nat} (h : ∀ g, g < 10 → p g < 1024 ∧ M 1 6 g = nI (p g)) : am_it (fX2_passage_L95 M) am_fuel ((0 : Int32), (0 : Int32)) = some (fo (fun g n => n + nI (pop (p g))) 0 10, nI 10) := by
  refine it_fo (fun g n => n + nI (pop (p g))) 0 10 (fun x => (x, nI 10)) (fun _ _ => True) (by omega) trivial (fun i x hi _ => ⟨fun rec => ?_, trivial⟩) (fun x _ rec => ?_)
  · unfold fX2_passage_L95
    dsimp only
    rw [if_neg (by rw [show (10 : Int32) = nI 10 from rfl, lit_le (by omega) (by omega)]; omega), rd_n hi (by omega)]
    dsimp only [Option.bind]
    rw [(h i hi).2, bits_n (h i hi).1]
    dsimp only [Option.bind]
    rw [nI_add1]
  · unfold fX2_passage_L95
    dsimp only
    rw [if_pos (by rw [show (10 : Int32) = nI 10 from rfl, lit_le (by omega) (by omega)]; omega)]
theorem op_passage {L : Nat → Bool} {M : am_M} (h : Inv L M) (a b c : Int32) : opk L (fX0_passage M a b c) (fun M1 => fX2_passage M1 a b c) := by
  by_cases g1 : fX2_in a 0 9 = 0
  · refine op_same h (-1) ?_ ?_
    · unfold fX0_passage; rw [isGal_in, if_pos g1]
    · show fX2_passage M a b c = _
      unfold fX2_passage; rw [isGal2_in, if_pos g1]
  by_cases g2 : fX2_in b 0 9 = 0
  · refine op_same h (-1) ?_ ?_
    · unfold fX0_passage; rw [isGal_in, if_neg g1, isGal_in, if_pos g2]
    · show fX2_passage M a b c = _
      unfold fX2_passage; rw [isGal2_in, if_neg g1, isGal2_in, if_pos g2]
  by_cases g3 : a = b
  · refine op_same h (-1) ?_ ?_
    · unfold fX0_passage; rw [isGal_in, if_neg g1, isGal_in, if_neg g2, if_pos g3]
    · show fX2_passage M a b c = _
      unfold fX2_passage; rw [isGal2_in, if_neg g1, isGal2_in, if_neg g2, if_pos g3]
  obtain ⟨⟨w0, w1, w2, w3, w4, w5, w6, w7, w8, w9, w10, w11⟩, ⟨r1, r2, r3, r4, r5, r6, r7, r8⟩, h3, h5⟩ := h
  obtain ⟨x, hx, rfl⟩ := in_9 g1
  obtain ⟨y, hy, rfl⟩ := in_9 g2
  have nxy : ¬ x = y := fun z => g3 (by rw [z])
  have nyx : ¬ y = x := fun z => nxy z.symm
  have hpx : ∃ p : Nat → Nat, ∀ g, g < 10 → p g < 1024 ∧ M 2 0 g = nI (p g) := by
    refine ⟨fun g => (M 2 0 g).toBitVec.toNat, fun g hg => ?_⟩
    obtain ⟨q, hq, e⟩ := w0 g hg
    dsimp only
    rw [e, pk_tn (by omega)]
    exact ⟨hq, rfl⟩
  obtain ⟨p, hp⟩ := hpx
  have px := hp x hx
  have py := hp y hy
  have qx := wth_lt (n := 10) (k := y) (is := c) px.1 hy
  have qy := wth_lt (n := 10) (k := x) (is := c) py.1 hx
  obtain ⟨p', hp'⟩ : ∃ p' : Nat → Nat, p' = fun g => if g = y then wth (p y) x c else if g = x then wth (p x) y c else p g := ⟨_, rfl⟩
  obtain ⟨N1, hN1⟩ : ∃ N : am_M, N = am_up (am_up M 2 0 x (nI (wth (p x) y c))) 2 0 y (nI (wth (p y) x c)) := ⟨_, rfl⟩
  have a1 : ∀ g, g < 10 → p' g < 1024 ∧ N1 2 0 g = nI (p' g) := by
    intro g hg
    rw [hp', hN1]
    by_cases z1 : g = y
    · simp only [z1, if_true]
      exact ⟨qy, by simp [am_put, am_up, va_up]⟩
    · by_cases z2 : g = x
      · subst z2
        simp only [z1, if_false, if_true]
        exact ⟨qx, by simp [am_put, am_up, va_up, z1]⟩
      · simp only [z1, z2, if_false]
        exact ⟨(hp g hg).1, by simpa [am_put, am_up, va_up, z1, z2] using (hp g hg).2⟩
  have m1 : N1 1 = M 1 := by rw [hN1]; simp [am_put, am_up, va_up]
  obtain ⟨N2, hN2⟩ : ∃ N : am_M, N = am_up (am_up (am_up (am_up N1 1 6 x (nI (clr (p x) y))) 1 6 y (nI (clr (p y) x))) 1 6 x (nI (wth (p x) y c))) 1 6 y (nI (wth (p y) x c)) := ⟨_, rfl⟩
  have a2 : ∀ g, g < 10 → p' g < 1024 ∧ N2 1 6 g = nI (p' g) := by
    intro g hg
    rw [hp', hN2]
    by_cases z1 : g = y
    · simp only [z1, if_true]
      exact ⟨qy, by simp [am_put, am_up, va_up]⟩
    · by_cases z2 : g = x
      · subst z2
        simp only [z1, if_false, if_true]
        exact ⟨qx, by simp [am_put, am_up, va_up, z1]⟩
      · simp only [z1, z2, if_false]
        refine ⟨(hp g hg).1, ?_⟩
        have q := (r2 g hg).2.1.trans (hp g hg).2
        simpa [am_put, am_up, va_up, z1, z2, m1] using q
  refine ⟨fo (fun g n => n + nI (pop (p' g))) 0 10 / 2, N1, N2, ?_, ?_, ?_, ?_, ?_, ?_⟩
  · have e2 : (am_up M 2 0 x (nI (wth (p x) y c))) 2 0 y = nI (p y) := by simpa [am_put, am_up, va_up, nyx] using py.2
    unfold fX0_passage
    rw [isGal_in, if_neg g1, isGal_in, if_neg g2, if_neg g3, rd_n hx (by omega)]
    dsimp only [Option.bind]
    rw [px.2, with_n (by omega) (by omega), wr_n hx (by omega)]
    dsimp only [Option.bind]
    rw [rd_n hy (by omega), e2]
    dsimp only [Option.bind]
    rw [with_n (by omega) (by omega), wr_n hy (by omega), ← hN1]
    dsimp only [Option.bind]
    rw [pas_x0 a1]
  · show fX2_passage _ _ _ _ = _
    have ex : M 1 6 x = nI (p x) := (r2 x hx).2.1.trans px.2
    have ey : M 1 6 y = nI (p y) := (r2 y hy).2.1.trans py.2
    have e2 : (am_up N1 1 6 x (nI (clr (p x) y))) 1 6 y = nI (p y) := by simpa [am_put, am_up, va_up, nyx, m1] using ey
    have e3 : (am_up (am_up N1 1 6 x (nI (clr (p x) y))) 1 6 y (nI (clr (p y) x))) 1 6 x = nI (clr (p x) y) := by simp [am_put, am_up, va_up, nxy]
    have e4 : (am_up (am_up (am_up N1 1 6 x (nI (clr (p x) y))) 1 6 y (nI (clr (p y) x))) 1 6 x (nI (wth (p x) y c))) 1 6 y = nI (clr (p y) x) := by simp [am_put, am_up, va_up, nyx]
    have hxc : ∀ k : Nat, (if c = 0 then some (0 : Int32) else some ((1 : Int32) <<< (nI k &&& 31))) = some (if c = 0 then (0 : Int32) else (1 : Int32) <<< (nI k &&& 31)) := by intro k; split <;> rfl
    have mw1 := model_with (s := p x) (k := y) (is := c) (by omega) (by omega)
    have mw2 := model_with (s := p y) (k := x) (is := c) (by omega) (by omega)
    rw [one_shl (by omega), nI_clr (by omega) (by omega)] at mw1 mw2
    unfold fX2_passage
    rw [isGal2_in, if_neg g1, isGal2_in, if_neg g2, if_neg g3, m1, rd_n hx (by omega), ex]
    dsimp only [Option.bind]
    rw [one_shl (show y < 31 by omega), one_shl (show x < 31 by omega), nI_clr (by omega) (by omega), wr_n hx (by omega)]
    dsimp only [Option.bind]
    rw [rd_n hy (by omega), e2]
    dsimp only [Option.bind]
    rw [nI_clr (by omega) (by omega), wr_n hy (by omega)]
    dsimp only [Option.bind]
    rw [rd_n hx (by omega), e3]
    dsimp only [Option.bind]
    have hxa : (if c = 0 then some (0 : Int32) else some (nI (2 ^ y))) = some (if c = 0 then (0 : Int32) else nI (2 ^ y)) := by split <;> rfl
    have hxb : (if c = 0 then some (0 : Int32) else some (nI (2 ^ x))) = some (if c = 0 then (0 : Int32) else nI (2 ^ x)) := by split <;> rfl
    rw [hxa]
    dsimp only [Option.bind]
    rw [mw1, wr_n hx (by omega)]
    dsimp only [Option.bind]
    rw [rd_n hy (by omega), e4]
    dsimp only [Option.bind]
    rw [hxb]
    dsimp only [Option.bind]
    rw [mw2, wr_n hy (by omega), ← hN2]
    dsimp only [Option.bind]
    rw [pas_x2 a2]
  · refine ⟨?_, ?_, ?_, ?_, ?_, ?_, ?_, ?_, ?_, ?_, ?_, ?_⟩
    · intro g hg
      have e : N2 2 0 g = N1 2 0 g := by rw [hN2]; simp [am_put, am_up, va_up]
      exact ⟨p' g, (a1 g hg).1, e.trans (a1 g hg).2⟩
    · intro u v hu hv
      have eu : N2 2 0 u = nI (p' u) := by rw [← (a1 u hu).2, hN2]; simp [am_put, am_up, va_up]
      have ev : N2 2 0 v = nI (p' v) := by rw [← (a1 v hv).2, hN2]; simp [am_put, am_up, va_up]
      have bu := (a1 u hu).1
      have bv := (a1 v hv).1
      rw [eu, ev, hb_bit (by omega) (by omega), hb_bit (by omega) (by omega), hp']
      have key : ∀ i j, i < 10 → j < 10 → (p i).testBit j = (p j).testBit i := by
        intro i j hi hj
        have q := w1 i j hi hj
        have := (hp i hi).1
        have := (hp j hj).1
        rw [(hp i hi).2, (hp j hj).2, hb_bit (by omega) (by omega), hb_bit (by omega) (by omega)] at q
        exact q
      have bx : ∀ i, (wth (p x) y c).testBit i = if i = y then decide (c ≠ 0) else (p x).testBit i := fun i => wth_bit (by omega) (by omega)
      have by_ : ∀ i, (wth (p y) x c).testBit i = if i = x then decide (c ≠ 0) else (p y).testBit i := fun i => wth_bit (by omega) (by omega)
      by_cases z1 : u = y
      · by_cases z2 : v = y
        · rw [z1, z2]
        · by_cases z3 : v = x
          · subst z1; subst z3; simp [bx, by_, z2]
          · have z4 := key y v hy hv
            subst z1; simp [z2, z3, by_, z4]
      · by_cases z2 : u = x
        · by_cases z3 : v = y
          · subst z2; subst z3; simp [bx, by_, z1]
          · by_cases z4 : v = x
            · rw [z2, z4]
            · have z5 := key x v hx hv
              subst z2; simp [z1, z3, z4, bx, z5]
        · by_cases z3 : v = y
          · have z5 := key u y hu hy
            subst z3; simp [z1, z2, by_, z5]
          · by_cases z4 : v = x
            · have z5 := key u x hu hx
              subst z4; simp [z1, z2, z3, bx, z5]
            · simpa [z1, z2, z3, z4] using key u v hu hv
    · simpa [am_put, am_up, va_up, hN2, hN1] using w2
    · simpa [am_put, am_up, va_up, hN2, hN1] using w3
    · simpa [am_put, am_up, va_up, hN2, hN1] using w4
    · simpa [am_put, am_up, va_up, hN2, hN1] using w5
    · simpa [am_put, am_up, va_up, hN2, hN1] using w6
    · simpa [am_put, am_up, va_up, hN2, hN1] using w7
    · simpa [am_put, am_up, va_up, hN2, hN1] using w8
    · simpa [am_put, am_up, va_up, hN2, hN1] using w9
    · simpa [am_put, am_up, va_up, hN2, hN1] using w10
    · simpa [am_put, am_up, va_up, hN2, hN1] using w11
  · refine ⟨?_, ?_, ?_, ?_, ?_, ?_, ?_, ?_⟩
    · simpa [am_put, am_up, va_up, hN2, hN1] using r1
    · intro g hg
      obtain ⟨q1, q2, q3⟩ := r2 g hg
      refine ⟨by simpa [am_put, am_up, va_up, hN2, hN1] using q1, ?_, by simpa [am_put, am_up, va_up, hN2, hN1] using q3⟩
      rw [(a2 g hg).2, ← (a1 g hg).2, hN2]
      simp [am_put, am_up, va_up]
    · simpa [am_put, am_up, va_up, hN2, hN1] using r3
    · simpa [am_put, am_up, va_up, hN2, hN1] using r4
    · simpa [am_put, am_up, va_up, hN2, hN1] using r5
    · simpa [am_put, am_up, va_up, hN2, hN1] using r6
    · simpa [am_put, am_up, va_up, hN2, hN1] using r7
    · simpa [am_put, am_up, va_up, hN2, hN1] using r8
  · exact sgn_cg h3 (by simp [am_put, am_up, va_up, hN2, hN1]) (by simp [am_put, am_up, va_up, hN2, hN1]) (by simp [am_put, am_up, va_up, hN2, hN1]) (by simp [am_put, am_up, va_up, hN2, hN1])
  · exact img_cg h5 (by simp [am_put, am_up, va_up, hN2, hN1]) (by simp [am_put, am_up, va_up, hN2, hN1]) (by simp [am_put, am_up, va_up, hN2, hN1]) (by simp [am_put, am_up, va_up, hN2, hN1])
