/-! OPERATIONS: restore; the reference's image -/
set_option maxRecDepth 100000
theorem rel_pt {m v v' : Nat → Nat → Int32} (h0 : ∀ i, i < 36 → v' 0 i = v 0 i) (h3 : ∀ i, i < 8 → v' 3 i = v 3 i) (h4 : ∀ i, i < 8 → v' 4 i = v 4 i) (h5 : ∀ i, i < 8 → v' 5 i = v 5 i) (h6 : ∀ i, i < 10 → v' 6 i = v 6 i) (h7 : ∀ i, i < 10 → v' 7 i = v 7 i) (h10 : ∀ i, i < 16 → v' 10 i = v 10 i) (h2 : v' 2 0 = v 2 0) (h8 : v' 8 0 = v 8 0) (h9 : v' 9 0 = v 9 0) (h : rel m v) : rel m v' := by
  obtain ⟨r1, r2, r3, r4, r5, r6, r7, r8⟩ := h
  refine ⟨fun k hk => ?_, fun g hg => ?_, ?_, ?_, ?_, ?_, ?_, fun e he => ?_⟩
  · rw [h0 _ (by omega), h0 _ (by omega), h0 _ (by omega), h3 _ hk, h4 _ hk, h5 _ hk]; exact r1 k hk
  · rw [h0 _ (by omega), h6 _ hg, h7 _ hg]; exact r2 g hg
  · rw [h0 _ (by omega)]; exact r3
  · rw [h0 _ (by omega)]; exact r4
  · rw [h2]; exact r5
  · rw [h8]; exact r6
  · rw [h9]; exact r7
  · rw [h10 _ (by omega), h10 _ (by omega)]; exact r8 e he
/-! an image as the reference lays it -/
def tsrc (u : Nat → Nat → Int32) (z : Nat) : Int32 := if z < 36 then u 0 z else if z < 44 then u 3 (z - 36) else if z < 52 then u 4 (z - 44) else if z < 60 then u 5 (z - 52) else if z < 70 then u 6 (z - 60) else if z < 80 then u 7 (z - 70) else if z < 96 then u 10 (z - 80) else if z = 100 then u 2 0 else if z = 101 then u 8 0 else u 9 0
def imA (u : Nat → Nat → Int32) (n : Nat) (D : Nat → Bool) (A : Nat → Int32) : Nat → Int32 := fun y => if D y = true then tsrc u (y - 110 * n) else A y
theorem imA_cg {u : Nat → Nat → Int32} {n : Nat} {D D' : Nat → Bool} {A : Nat → Int32} (h : ∀ y, D y = D' y) : imA u n D A = imA u n D' A := by rw [show D = D' from funext h]
theorem imA_st {u : Nat → Nat → Int32} {n : Nat} {D : Nat → Bool} {A : Nat → Int32} {y0 : Nat} {v : Int32} (hv : v = tsrc u (y0 - 110 * n)) : va_up (imA u n D A) y0 v = imA u n (fun y => D y || decide (y = y0)) A := by
  funext y
  unfold imA
  by_cases h : y = y0
  · simp [va_up, h, hv]
  · simp [va_up, h]
theorem wr_im {N : am_M} {u : Nat → Nat → Int32} {A : Nat → Int32} {y0 : Nat} {v : Int32} (h : y0 < 220) : am_wr (va_up N 1 (va_up u 22 A)) 1 22 220 (nI y0) v = some (va_up N 1 (va_up u 22 (va_up A y0 v))) := by
  rw [wr_n h (by omega), sm_up]
  congr 2
  rw [show va_up u 22 A 22 = A by simp [va_up]]
  funext f
  by_cases hf : f = 22 <;> simp [va_up, hf]
def iD1 (n i : Nat) : Nat → Bool := fun y => decide (110 * n ≤ y ∧ y < 110 * n + i)
def iD2 (n i : Nat) : Nat → Bool := fun y => decide (110 * n ≤ y ∧ (y < 110 * n + 36 + i ∨ (110 * n + 44 ≤ y ∧ y < 110 * n + 44 + i) ∨ (110 * n + 52 ≤ y ∧ y < 110 * n + 52 + i)))
def iD3 (n i : Nat) : Nat → Bool := fun y => decide (110 * n ≤ y ∧ (y < 110 * n + 60 + i ∨ (110 * n + 70 ≤ y ∧ y < 110 * n + 70 + i)))
def iD4 (n i : Nat) : Nat → Bool := fun y => decide (110 * n ≤ y ∧ y < 110 * n + 80 + i)
def iD5 (n : Nat) : Nat → Bool := fun y => decide (110 * n ≤ y ∧ (y < 110 * n + 96 ∨ y = 110 * n + 100 ∨ y = 110 * n + 101 ∨ y = 110 * n + 102))
theorem ix {n : Nat} (c i : Nat) {C : Int32} (hC : C = nI c) : (110 : Int32) * nI n + C + nI i = nI (110 * n + c + i) := by
  rw [hC, show (110 : Int32) = nI 110 from rfl, pk_mul, nI_add, nI_add]
theorem ix0 {n : Nat} (i : Nat) : (110 : Int32) * nI n + nI i = nI (110 * n + i) := by
  rw [show (110 : Int32) = nI 110 from rfl, pk_mul, nI_add]
theorem ixc {n : Nat} (c : Nat) {C : Int32} (hC : C = nI c) : (110 : Int32) * nI n + C = nI (110 * n + c) := by
  rw [hC, show (110 : Int32) = nI 110 from rfl, pk_mul, nI_add]
theorem n16 {i : Nat} (h : i < 16) : ¬ (16 : Int32) ≤ nI i := nI_ge (a := i) (b := 16) h (by omega)
theorem im_l1 {N : am_M} {u : Nat → Nat → Int32} {A : Nat → Int32} {n : Nat} (hn : n < 2) : am_it (fX2_image_L19 (nI n)) am_fuel ((0 : Int32), va_up N 1 (va_up u 22 (imA u n (iD1 n 0) A))) = some (nI 36, va_up N 1 (va_up u 22 (imA u n (iD1 n 36) A))) := by
  refine it_run0 (F := fX2_image_L19 (nI n)) (fun i => (nI i, va_up N 1 (va_up u 22 (imA u n (iD1 n i) A)))) 36 (by omega) (fun i hi rec => ?_) (fun rec => ?_)
  · unfold fX2_image_L19
    simp only [if_neg (n36 hi), sm_at, ix0, nI_add1]
    rw [show va_up u 22 (imA u n (iD1 n i) A) 0 = u 0 from rfl, rd36 hi, Option.bind_some, wr_im (by omega), Option.bind_some, imA_st (by unfold tsrc; rw [show 110 * n + i - 110 * n = i by omega, if_pos hi])]
    rw [imA_cg (D' := iD1 n (i + 1))]
    intro y
    unfold iD1
    rw [Bool.eq_iff_iff]
    simp only [Bool.or_eq_true, decide_eq_true_eq]
    omega
  · unfold fX2_image_L19
    simp only [if_pos p36]
theorem im_l2 {N : am_M} {u : Nat → Nat → Int32} {A : Nat → Int32} {n : Nat} (hn : n < 2) : am_it (fX2_image_L47 (nI n)) am_fuel ((0 : Int32), va_up N 1 (va_up u 22 (imA u n (iD2 n 0) A))) = some (nI 8, va_up N 1 (va_up u 22 (imA u n (iD2 n 8) A))) := by
  refine it_run0 (F := fX2_image_L47 (nI n)) (fun i => (nI i, va_up N 1 (va_up u 22 (imA u n (iD2 n i) A)))) 8 (by omega) (fun i hi rec => ?_) (fun rec => ?_)
  · unfold fX2_image_L47
    simp only [if_neg (n8 hi), sm_at, ix (C := 36) 36 i rfl, ix (C := 44) 44 i rfl, ix (C := 52) 52 i rfl, nI_add1]
    have r3 : ∀ B, va_up u 22 B 3 = u 3 := fun _ => rfl
    have r4 : ∀ B, va_up u 22 B 4 = u 4 := fun _ => rfl
    have r5 : ∀ B, va_up u 22 B 5 = u 5 := fun _ => rfl
    rw [r3, rd8 hi, Option.bind_some, wr_im (by omega), Option.bind_some, sm_at, r4, rd8 hi, Option.bind_some, wr_im (by omega), Option.bind_some, sm_at, r5, rd8 hi, Option.bind_some, wr_im (by omega), Option.bind_some]
    rw [imA_st (y0 := 110 * n + 36 + i) (by unfold tsrc; rw [show 110 * n + 36 + i - 110 * n = 36 + i by omega, if_neg (by omega), if_pos (by omega)]; congr 1; omega)]
    rw [imA_st (y0 := 110 * n + 44 + i) (by unfold tsrc; rw [show 110 * n + 44 + i - 110 * n = 44 + i by omega, if_neg (by omega), if_neg (by omega), if_pos (by omega)]; congr 1; omega)]
    rw [imA_st (y0 := 110 * n + 52 + i) (by unfold tsrc; rw [show 110 * n + 52 + i - 110 * n = 52 + i by omega, if_neg (by omega), if_neg (by omega), if_neg (by omega), if_pos (by omega)]; congr 1; omega)]
    rw [imA_cg (D' := iD2 n (i + 1))]
    intro y
    unfold iD2
    rw [Bool.eq_iff_iff]
    simp only [Bool.or_eq_true, decide_eq_true_eq]
    omega
  · unfold fX2_image_L47
    simp only [if_pos p8]
theorem im_l3 {N : am_M} {u : Nat → Nat → Int32} {A : Nat → Int32} {n : Nat} (hn : n < 2) : am_it (fX2_image_L112 (nI n)) am_fuel ((0 : Int32), va_up N 1 (va_up u 22 (imA u n (iD3 n 0) A))) = some (nI 10, va_up N 1 (va_up u 22 (imA u n (iD3 n 10) A))) := by
  refine it_run0 (F := fX2_image_L112 (nI n)) (fun i => (nI i, va_up N 1 (va_up u 22 (imA u n (iD3 n i) A)))) 10 (by omega) (fun i hi rec => ?_) (fun rec => ?_)
  · unfold fX2_image_L112
    simp only [if_neg (n10 hi), sm_at, ix (C := 60) 60 i rfl, ix (C := 70) 70 i rfl, nI_add1]
    have r3 : ∀ B, va_up u 22 B 6 = u 6 := fun _ => rfl
    have r4 : ∀ B, va_up u 22 B 7 = u 7 := fun _ => rfl
    rw [r3, rd10 hi, Option.bind_some, wr_im (by omega), Option.bind_some, sm_at, r4, rd10 hi, Option.bind_some, wr_im (by omega), Option.bind_some]
    rw [imA_st (y0 := 110 * n + 60 + i) (by unfold tsrc; rw [show 110 * n + 60 + i - 110 * n = 60 + i by omega, if_neg (by omega), if_neg (by omega), if_neg (by omega), if_neg (by omega), if_pos (by omega)]; congr 1; omega)]
    rw [imA_st (y0 := 110 * n + 70 + i) (by unfold tsrc; rw [show 110 * n + 70 + i - 110 * n = 70 + i by omega, if_neg (by omega), if_neg (by omega), if_neg (by omega), if_neg (by omega), if_neg (by omega), if_pos (by omega)]; congr 1; omega)]
    rw [imA_cg (D' := iD3 n (i + 1))]
    intro y
    unfold iD3
    rw [Bool.eq_iff_iff]
    simp only [Bool.or_eq_true, decide_eq_true_eq]
    omega
  · unfold fX2_image_L112
    simp only [if_pos p10]
theorem p16 : (16 : Int32) ≤ nI 16 := by decide
theorem im_l4 {N : am_M} {u : Nat → Nat → Int32} {A : Nat → Int32} {n : Nat} (hn : n < 2) : am_it (fX2_image_L160 (nI n)) am_fuel ((0 : Int32), va_up N 1 (va_up u 22 (imA u n (iD4 n 0) A))) = some (nI 16, va_up N 1 (va_up u 22 (imA u n (iD4 n 16) A))) := by
  refine it_run0 (F := fX2_image_L160 (nI n)) (fun i => (nI i, va_up N 1 (va_up u 22 (imA u n (iD4 n i) A)))) 16 (by omega) (fun i hi rec => ?_) (fun rec => ?_)
  · unfold fX2_image_L160
    simp only [if_neg (n16 hi), sm_at, ix (C := 80) 80 i rfl, nI_add1]
    have r3 : ∀ B, va_up u 22 B 10 = u 10 := fun _ => rfl
    rw [r3, rd_n hi (by omega), Option.bind_some, wr_im (by omega), Option.bind_some]
    rw [imA_st (y0 := 110 * n + 80 + i) (by unfold tsrc; rw [show 110 * n + 80 + i - 110 * n = 80 + i by omega, if_neg (by omega), if_neg (by omega), if_neg (by omega), if_neg (by omega), if_neg (by omega), if_neg (by omega), if_pos (by omega)]; congr 1; omega)]
    rw [imA_cg (D' := iD4 n (i + 1))]
    intro y
    unfold iD4
    rw [Bool.eq_iff_iff]
    simp only [Bool.or_eq_true, decide_eq_true_eq]
    omega
  · unfold fX2_image_L160
    simp only [if_pos p16]
def imU (u : Nat → Nat → Int32) (n : Nat) : Nat → Nat → Int32 := va_up (va_up u 22 (imA u n (iD5 n) (u 22))) 23 (va_up (u 23) n 1)
theorem image_eq (N : am_M) (u : Nat → Nat → Int32) {n : Nat} (hn : n < 2) : fX2_image (va_up N 1 u) (nI n) = some (1, va_up N 1 (imU u n)) := by
  have g : ¬ fX2_in (nI n) 0 1 = 0 := by
    rcases (show n = 0 ∨ n = 1 by omega) with rfl | rfl <;> decide
  have c1 : u = va_up u 22 (imA u n (iD1 n 0) (u 22)) := by
    have : imA u n (iD1 n 0) (u 22) = u 22 := by
      funext y
      unfold imA iD1
      rw [if_neg]
      simp only [decide_eq_true_eq]
      omega
    rw [this, up_same]
  have c2 : imA u n (iD1 n 36) (u 22) = imA u n (iD2 n 0) (u 22) := imA_cg (fun y => by
    unfold iD1 iD2
    rw [Bool.eq_iff_iff]
    simp only [decide_eq_true_eq]
    omega)
  have c3 : imA u n (iD2 n 8) (u 22) = imA u n (iD3 n 0) (u 22) := imA_cg (fun y => by
    unfold iD2 iD3
    rw [Bool.eq_iff_iff]
    simp only [decide_eq_true_eq]
    omega)
  have c4 : imA u n (iD3 n 10) (u 22) = imA u n (iD4 n 0) (u 22) := imA_cg (fun y => by
    unfold iD3 iD4
    rw [Bool.eq_iff_iff]
    simp only [decide_eq_true_eq]
    omega)
  unfold fX2_image
  rw [if_neg g]
  conv => lhs; rw [c1]
  rw [im_l1 hn, Option.bind_some]
  dsimp only
  rw [c2, im_l2 hn, Option.bind_some]
  dsimp only
  rw [c3, im_l3 hn, Option.bind_some]
  dsimp only
  rw [c4, im_l4 hn, Option.bind_some]
  dsimp only
  have r2 : ∀ B, va_up u 22 B 2 = u 2 := fun _ => rfl
  have r8 : ∀ B, va_up u 22 B 8 = u 8 := fun _ => rfl
  have r9 : ∀ B, va_up u 22 B 9 = u 9 := fun _ => rfl
  rw [ixc (C := 100) 100 rfl, ixc (C := 101) 101 rfl, ixc (C := 102) 102 rfl, wr_im (by omega), Option.bind_some, wr_im (by omega), Option.bind_some, wr_im (by omega), Option.bind_some, sm_at, sm_at, sm_at, r2, r8, r9]
  rw [imA_st (y0 := 110 * n + 100) (by unfold tsrc; rw [show 110 * n + 100 - 110 * n = 100 by omega]; rfl)]
  rw [imA_st (y0 := 110 * n + 101) (by unfold tsrc; rw [show 110 * n + 101 - 110 * n = 101 by omega]; rfl)]
  rw [imA_st (y0 := 110 * n + 102) (by unfold tsrc; rw [show 110 * n + 102 - 110 * n = 102 by omega]; rfl)]
  rw [imA_cg (D' := iD5 n)]
  · rw [wr_n hn (by omega), Option.bind_some, sm_up]
    rfl
  · intro y
    unfold iD4 iD5
    rw [Bool.eq_iff_iff]
    simp only [Bool.or_eq_true, decide_eq_true_eq]
    omega
theorem imA_in {u : Nat → Nat → Int32} {n y : Nat} {A : Nat → Int32} (h : iD5 n (110 * n + y) = true) : imA u n (iD5 n) A (110 * n + y) = tsrc u y := by
  unfold imA
  rw [if_pos h, show 110 * n + y - 110 * n = y by omega]
theorem iD5_in {n y : Nat} (h : y < 96 ∨ y = 100 ∨ y = 101 ∨ y = 102) : iD5 n (110 * n + y) = true := by
  unfold iD5
  simp only [decide_eq_true_eq]
  omega
theorem rel_img {m u : Nat → Nat → Int32} {n : Nat} {A : Nat → Int32} (h : rel m u) : rel m (imgv (imA u n (iD5 n) A) n) := by
  have e : ∀ c i, c + i < 96 → imA u n (iD5 n) A (110 * n + c + i) = tsrc u (c + i) := fun c i hc => by
    rw [Nat.add_assoc]; exact imA_in (iD5_in (Or.inl hc))
  refine rel_pt (fun i hi => ?_) (fun i hi => ?_) (fun i hi => ?_) (fun i hi => ?_) (fun i hi => ?_) (fun i hi => ?_) (fun i hi => ?_) ?_ ?_ ?_ h
  · show imA _ _ _ _ (110 * n + i) = _
    rw [imA_in (iD5_in (Or.inl (by omega)))]
    unfold tsrc
    rw [if_pos hi]
  · show imA _ _ _ _ (110 * n + 36 + i) = _
    rw [e 36 i (by omega)]
    unfold tsrc
    rw [if_neg (by omega), if_pos (by omega), show 36 + i - 36 = i by omega]
  · show imA _ _ _ _ (110 * n + 44 + i) = _
    rw [e 44 i (by omega)]
    unfold tsrc
    rw [if_neg (by omega), if_neg (by omega), if_pos (by omega), show 44 + i - 44 = i by omega]
  · show imA _ _ _ _ (110 * n + 52 + i) = _
    rw [e 52 i (by omega)]
    unfold tsrc
    rw [if_neg (by omega), if_neg (by omega), if_neg (by omega), if_pos (by omega), show 52 + i - 52 = i by omega]
  · show imA _ _ _ _ (110 * n + 60 + i) = _
    rw [e 60 i (by omega)]
    unfold tsrc
    rw [if_neg (by omega), if_neg (by omega), if_neg (by omega), if_neg (by omega), if_pos (by omega), show 60 + i - 60 = i by omega]
  · show imA _ _ _ _ (110 * n + 70 + i) = _
    rw [e 70 i (by omega)]
    unfold tsrc
    rw [if_neg (by omega), if_neg (by omega), if_neg (by omega), if_neg (by omega), if_neg (by omega), if_pos (by omega), show 70 + i - 70 = i by omega]
  · show imA _ _ _ _ (110 * n + 80 + i) = _
    rw [e 80 i (by omega)]
    unfold tsrc
    rw [if_neg (by omega), if_neg (by omega), if_neg (by omega), if_neg (by omega), if_neg (by omega), if_neg (by omega), if_pos (by omega), show 80 + i - 80 = i by omega]
  · exact imA_in (iD5_in (by omega))
  · exact imA_in (iD5_in (by omega))
  · exact imA_in (iD5_in (by omega))
theorem imgv_ne {u : Nat → Nat → Int32} {n n' : Nat} {A : Nat → Int32} (hn : n < 2) (hn' : n' < 2) (hne : n' ≠ n) {m : Nat → Nat → Int32} (h : rel m (imgv A n')) : rel m (imgv (imA u n (iD5 n) A) n') := by
  have e : ∀ y, y < 110 → imA u n (iD5 n) A (110 * n' + y) = A (110 * n' + y) := fun y hy => by
    unfold imA iD5
    rw [if_neg]
    simp only [decide_eq_true_eq]
    omega
  have e' : ∀ c y, c + y < 110 → imA u n (iD5 n) A (110 * n' + c + y) = A (110 * n' + c + y) := fun c y hy => by
    rw [Nat.add_assoc]; exact e _ hy
  exact rel_pt (v := imgv A n') (fun i hi => e i (by omega)) (fun i hi => e' 36 i (by omega)) (fun i hi => e' 44 i (by omega)) (fun i hi => e' 52 i (by omega)) (fun i hi => e' 60 i (by omega)) (fun i hi => e' 70 i (by omega)) (fun i hi => e' 80 i (by omega)) (e 100 (by omega)) (e 101 (by omega)) (e 102 (by omega)) h
theorem op_image {L L' : Nat → Bool} {M M1 : am_M} (h : Inv L M) {n : Nat} (hn : n < 2) (hL : ∀ i, i ≠ n + 4 → L' i = L i) (hT : L' (n + 4) = true) (hM : ∀ o, o ≠ n + 4 → M1 o = M o) (m0 : Nat → Nat → Int32) (hm : M1 (n + 4) = tkR (M 2) m0) : ∃ M2, fX2_image M1 (nI n) = some (1, M2) ∧ Inv L' M2 := by
  obtain ⟨hw, hr, hs, hi⟩ := h
  have e1 : M1 1 = M 1 := hM 1 (by omega)
  refine ⟨va_up M1 1 (imU (M 1) n), ?_, ?_, ?_, ?_, ?_⟩
  · have q := image_eq M1 (M 1) hn
    rw [← e1, sm_id] at q
    rw [q, e1]
  · rw [sm_ne (by decide), hM 2 (by omega)]; exact hw
  · rw [sm_ne (by decide), sm_at, hM 2 (by omega)]
    exact rel_cg (fun k hk _ => by unfold imU; simp only [va_up]; rw [if_neg (by omega), if_neg (by omega)]) hr
  · exact sgn_cg hs (by rw [sm_ne (by decide), hM 0 (by omega)]) (by rw [sm_ne (by decide), hM 0 (by omega)]) (by rw [sm_at]; rfl) (by rw [sm_at]; rfl)
  · intro n' hn'
    have e22 : va_up M1 1 (imU (M 1) n) 1 22 = imA (M 1) n (iD5 n) (M 1 22) := by rw [sm_at]; rfl
    have e23 : va_up M1 1 (imU (M 1) n) 1 23 = va_up (M 1 23) n 1 := by rw [sm_at]; rfl
    rw [e22, e23, sm_ne (show ¬ n' + 4 = 1 by omega)]
    by_cases hx : n' = n
    · subst hx
      refine ⟨fun _ => ⟨?_, ?_, ?_⟩, fun z => ?_⟩
      · rw [hm]; exact wf_take hw
      · rw [hm]; exact rel_img (rel_take hr)
      · simp [va_up]
      · rw [hT] at z; exact absurd z (by decide)
    · rw [hL (n' + 4) (by omega), hM (n' + 4) (by omega)]
      obtain ⟨a, b⟩ := hi n' hn'
      refine ⟨fun z => ?_, fun z => ?_⟩
      · obtain ⟨a1, a2, a3⟩ := a z
        refine ⟨a1, imgv_ne hn hn' hx a2, ?_⟩
        simp [va_up, hx, a3]
      · simp [va_up, hx, b z]
