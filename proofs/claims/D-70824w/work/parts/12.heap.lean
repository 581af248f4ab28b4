/-! HEAP ROWS: fields, arrays, calls, over am_R -/
set_option maxRecDepth 100000
/-- the link of a field's instruction: class own, entry idx, class number c, field number k -/
def am_kF (own : String) (idx c k : Nat) : Prop := ∃ (C : String) (T : u_T) (N : Nat) (ty0 : Nat → FieldType), am_cl[c]? = some (C, T, N) ∧ N = am_N c ∧ (∀ w ∈ u_ws C T N, w ∈ lw_all) ∧ (∀ k, k < N → parseFieldDescriptor (T k).2.2.1 = some (ty0 k)) ∧ (∀ a, a < N → ∀ b, b < N → a ≠ b → (T a).2.1 ≠ (T b).2.1) ∧ k < N ∧ (T k).1 = C ∧ ((am_kd c k).1 = 0 → (T k).2.2.2 = false ∧ ty0 k = .int) ∧
  (Cond.fieldLink own idx C (T k).2.1 (T k).2.2.1 ∈ lw_all ∨ (own = "SongLamps" ∧ C = "SongLamps$Mine" ∧ (idx, (T k).2.1, (T k).2.2.1) ∈ am_nf))
theorem am_kF0 {own : String} {idx k : Nat} (hk : k < 18) (h1 : (TX0 k).1 = RX0) (h2 : (am_kd 0 k).1 = 0 → (TX0 k).2.2.2 = false ∧ tyX0 k = .int) (h : Cond.fieldLink own idx RX0 (TX0 k).2.1 (TX0 k).2.2.1 ∈ lw_all) : am_kF own idx 0 k := ⟨RX0, TX0, 18, tyX0, rfl, rfl, in_X0, tyX0_ok, nmX0, hk, h1, h2, Or.inl h⟩
theorem am_kF1 {own : String} {idx k : Nat} (hk : k < 17) (h1 : (TX1 k).1 = RX1) (h2 : (am_kd 1 k).1 = 0 → (TX1 k).2.2.2 = false ∧ tyX1 k = .int) (h : Cond.fieldLink own idx RX1 (TX1 k).2.1 (TX1 k).2.2.1 ∈ lw_all) : am_kF own idx 1 k := ⟨RX1, TX1, 17, tyX1, rfl, rfl, in_X1, tyX1_ok, nmX1, hk, h1, h2, Or.inl h⟩
theorem am_kF2 {own : String} {idx k : Nat} (hk : k < 24) (h1 : (TX2 k).1 = RX2) (h2 : (am_kd 2 k).1 = 0 → (TX2 k).2.2.2 = false ∧ tyX2 k = .int) (h : Cond.fieldLink own idx RX2 (TX2 k).2.1 (TX2 k).2.2.1 ∈ lw_all) : am_kF own idx 2 k := ⟨RX2, TX2, 24, tyX2, rfl, rfl, in_X2, tyX2_ok, nmX2, hk, h1, h2, Or.inl h⟩
theorem am_kFn {idx k : Nat} (hk : k < 17) (h1 : (TX1 k).1 = RX1) (h2 : (am_kd 1 k).1 = 0 → (TX1 k).2.2.2 = false ∧ tyX1 k = .int) (h : (idx, (TX1 k).2.1, (TX1 k).2.2.1) ∈ am_nf) : am_kF "SongLamps" idx 1 k := ⟨RX1, TX1, 17, tyX1, rfl, rfl, in_X1, tyX1_ok, nmX1, hk, h1, h2, Or.inr ⟨rfl, rfl, h⟩⟩
section AMH
variable {α : Type} {G : am_G} {d : Nat} {q : am_Q} {g : α → Option am_V × am_M} {pc : Nat} {ls : List (Option am_V)} {st : List am_V} {M : am_M} {o : Option α}
/-- a field is read: its value as the picture has it -/
theorem am_getX {idx c k j : Nat} {v : am_V} (lk : am_kF q.1.cls idx c k) (hj : am_cls j = c) (hd : decode q.2.1 pc = .ok (.getfield idx, 3)) (hv : am_fv G.2.2.1 M j k = am_cv G v)
    (hok : ∀ s : State, am_Kn G s → (j, 0) ∈ am_ids G.2.2.2.1 → am_vok G v) (kk : am_R G d q g (pc + 3) ls (v :: st) M o) : am_R G d q g pc ls (am_r j 0 :: st) M o := by
  intro a ha p e s m args below meth cd H locs lsA cx hP hD hS hl hs
  subst hj
  obtain ⟨C, T, N, ty0, hc, hN, hin, hty, hnm, hk, hT1, -, hlk⟩ := lk
  have hmem : (j, 0) ∈ am_ids G.2.2.2.1 := am_vs_h hs
  obtain ⟨q0, hq0⟩ := am_place hmem
  have he := am_ws_at (M := M) hq0
  have hfs : (am_fs G.2.2.1 M j)[k]? = some (am_cv G v) := by rw [am_fs_at (by rw [← hN]; exact hk), hv]
  have kW := kk a ha p e s m args below meth cd H locs lsA cx hP hD hS hl (am_vs_c (hok s cx.2.2.2.2.2.2.2 hmem) (am_vs_t hs))
  rcases hlk with hlk | ⟨ho, hC, hlk⟩
  · exact va_get cx.1 cx.2.1 cx.2.2.2.2.2.2.1 hin cx.2.2.2.2.2.1 cx.2.2.2.2.2.2.2.1 hP q0 he hc k hk (cx.2.2.2.2.2.2.1 _ hlk) (fun x hx => by rw [hT1] at hx; exact hx) hfs hd kW
  · subst hC
    have hn := va_Nw.use (A := args) rfl (cx.2.2.2.2.2.2.2.2.1 _ hlk)
    exact va_getN (host := "SongLamps") cx.1 cx.2.1 cx.2.2.2.2.2.2.1 hin (by rw [← ho]; exact cx.2.2.2.2.2.1) cx.2.2.2.2.2.2.2.1 hP q0 he hc k hk hn (fun x hx => by rw [hT1] at hx; exact hx) hfs hd kW
theorem am_get {idx c k j : Nat} (lk : am_kF q.1.cls idx c k) (hj : am_cls j = c) (h0 : (am_kd (am_cls j) k).1 = 0) (hd : decode q.2.1 pc = .ok (.getfield idx, 3)) (kk : am_R G d q g (pc + 3) ls (am_i (M j k 0) :: st) M o) : am_R G d q g pc ls (am_r j 0 :: st) M o :=
  am_getX (v := am_i (M j k 0)) lk hj hd (by unfold am_fv; rw [if_pos h0]; rfl) (fun _ _ _ => trivial) kk
theorem am_getA {idx c k j : Nat} (lk : am_kF q.1.cls idx c k) (hj : am_cls j = c) (h1 : am_isA (am_kd (am_cls j) k) = true) (hd : decode q.2.1 pc = .ok (.getfield idx, 3)) (kk : am_R G d q g (pc + 3) ls (am_r j (k + 1) :: st) M o) : am_R G d q g pc ls (am_r j 0 :: st) M o := by
  have h0 : ¬ (am_kd (am_cls j) k).1 = 0 := fun e => by unfold am_isA at h1; rw [e] at h1; exact absurd h1 (by decide)
  have h5 : ¬ (am_kd (am_cls j) k).1 = 5 := fun e => by unfold am_isA at h1; rw [e] at h1; exact absurd h1 (by decide)
  have hk : k < am_N (am_cls j) := by
    obtain ⟨C, T, N, ty0, hc, hN, hin, hty, hnm, hk, -⟩ := lk
    rw [hj, ← hN]
    exact hk
  exact am_getX (v := am_r j (k + 1)) lk hj hd (by unfold am_fv; rw [if_neg h0, if_neg h5]; rfl) (fun _ _ hm => am_ids_arr hm hk h1) kk
/-- the system's own mines -/
theorem am_getO {idx k o2 : Nat} (lk : am_kF q.1.cls idx 0 k) (h5 : am_kd 0 k = (5, o2)) (ho : o2 = 2 ∨ o2 = 3) (hd : decode q.2.1 pc = .ok (.getfield idx, 3)) (kk : am_R G d q g (pc + 3) ls (am_r o2 0 :: st) M o) : am_R G d q g pc ls (am_r 0 0 :: st) M o := by
  refine am_getX (j := 0) lk rfl hd (v := am_r o2 0) ?_ (fun s hK hm => ?_) kk
  · have e : am_kd (am_cls 0) k = (5, o2) := h5
    unfold am_fv
    rw [e]
    rfl
  · have hL := hK.2.2.2 (am_ids_obj hm).1
    rcases ho with rfl | rfl
    · exact am_ids_of hL.1 (by decide) List.mem_cons_self
    · exact am_ids_of hL.2 (by decide) List.mem_cons_self
theorem am_putf {idx c k j : Nat} {v : Int32} (lk : am_kF q.1.cls idx c k) (hj : am_cls j = c) (h0 : (am_kd (am_cls j) k).1 = 0) (hd : decode q.2.1 pc = .ok (.putfield idx, 3)) (kk : am_R G d q g (pc + 3) ls st (am_put M j k v) o) : am_R G d q g pc ls (am_i v :: am_r j 0 :: st) M o := by
  intro a ha p e s m args below meth cd H locs lsA cx hP hD hS hl hs
  subst hj
  obtain ⟨C, T, N, ty0, hc, hN, hin, hty, hnm, hk, hT1, hsc, hlk⟩ := lk
  obtain ⟨hfin, hty0⟩ := hsc h0
  have hmem : (j, 0) ∈ am_ids G.2.2.2.1 := am_vs_h (am_vs_t hs)
  obtain ⟨q0, hq0⟩ := am_place hmem
  have he := am_ws_at (M := M) hq0
  have hpd : parseFieldDescriptor (T k).2.2.1 = some .int := by rw [hty k hk, hty0]
  have hset : (am_ws G M).set q0 (G.2.2.1 j 0, .inr (am_cls j, (am_fs G.2.2.1 M j).set k (.int v))) = am_ws G (am_put M j k v) := by
    rw [am_fs_set h0]
    exact am_ws_set hD hq0 (am_ce_fld h0 (fun a b hab => am_up_ne hab))
  have kW : ∀ (H1 : Heap) (locs1 : List Loc), va_P G.2.1 am_cl ((am_ws G M).set q0 (G.2.2.1 j 0, .inr (am_cls j, (am_fs G.2.2.1 M j).set k (.int v)))) H1 → va_D (am_A G) ((am_ws G M).set q0 (G.2.2.1 j 0, .inr (am_cls j, (am_fs G.2.2.1 M j).set k (.int v)))) → va_S (am_A G) s.heap H1 locs1 → W p G.1 e (am_rm d) s m args below meth cd H1 locs1 0 0 (MQ below (am_QQ G (g a).1 (g a).2) args s 0 0 (am_A G)) (F0 m (pc + 3) lsA (st.map (am_cv G))) := by
    intro H1 locs1 hP1 hD1 hS1
    rw [hset] at hP1 hD1
    exact kk a ha p e s m args below meth cd H1 locs1 lsA cx hP1 hD1 hS1 hl (am_vs_t (am_vs_t hs))
  rcases hlk with hlk | ⟨ho, hC, hlk⟩
  · exact va_put cx.1 cx.2.1 cx.2.2.2.2.2.2.1 hin ty0 hty hnm cx.2.2.2.2.2.1 cx.2.2.2.2.2.2.2.1 hP hD hS q0 he hc k hk (cx.2.2.2.2.2.2.1 _ hlk) (fun x hx => by rw [hT1] at hx; exact hx) hfin hpd rfl rfl (by rw [am_fs_len, ← hN]; exact hk) hd kW
  · subst hC
    have hn := va_Nw.use (A := args) rfl (cx.2.2.2.2.2.2.2.2.1 _ hlk)
    exact va_putN (host := "SongLamps") cx.1 cx.2.1 cx.2.2.2.2.2.2.1 hin ty0 hty hnm (by rw [← ho]; exact cx.2.2.2.2.2.1) cx.2.2.2.2.2.2.2.1 hP hD hS q0 he hc k hk hn (fun x hx => by rw [hT1] at hx; exact hx) hfin hpd rfl rfl (by rw [am_fs_len, ← hN]; exact hk) hd kW
/-! arrays -/
theorem am_ae_n {j k t n : Nat} (h : am_kd (am_cls j) k = (t, n)) (ht : ¬ t = 4) : am_ce G M (j, k + 1) = .inl (G.2.2.2.2.1 (t - 1), n, .inl (M j k)) := by
  show am_ae G M j k = _
  unfold am_ae
  rw [h]
  simp [ht]
theorem am_iald {β : Type} {j k n : Nat} {i : Int32} {K : Int32 → Option α} (h : am_kd (am_cls j) k = (1, n)) (hd : decode q.2.1 pc = .ok (.iaload, 1)) (kk : ∀ v, am_R G d q g (pc + 1) ls (am_i v :: st) M (K v)) : am_R G d q g pc ls (am_i i :: am_r j (k + 1) :: st) M (Option.bind (am_rd (M j k) n i) K) := by
  intro a ha p e s m args below meth cd H locs lsA cx hP hD hS hl hs
  unfold am_rd at ha
  by_cases hi : i < 0 ∨ n ≤ i.toNatClampNeg
  · rw [if_pos hi] at ha; cases ha
  rw [if_neg hi] at ha
  have hmem : (j, k + 1) ∈ am_ids G.2.2.2.1 := am_vs_h (am_vs_t hs)
  obtain ⟨q0, hq0⟩ := am_place hmem
  have he := am_ws_at (M := M) hq0
  rw [am_ae_n h (by decide)] at he
  exact va_iald cx.1 cx.2.1 cx.2.2.2.2.2.2.2.1 hP q0 0 he rfl hi hd (kk _ a ha p e s m args below meth cd H locs lsA cx hP hD hS hl (am_vs_c trivial (am_vs_t (am_vs_t hs))))
theorem am_cald {j k n : Nat} {i : Int32} {K : Int32 → Option α} (h : am_kd (am_cls j) k = (2, n)) (hd : decode q.2.1 pc = .ok (.caload, 1)) (kk : ∀ v, am_R G d q g (pc + 1) ls (am_i v :: st) M (K v)) : am_R G d q g pc ls (am_i i :: am_r j (k + 1) :: st) M (Option.bind (am_rd (M j k) n i) K) := by
  intro a ha p e s m args below meth cd H locs lsA cx hP hD hS hl hs
  unfold am_rd at ha
  by_cases hi : i < 0 ∨ n ≤ i.toNatClampNeg
  · rw [if_pos hi] at ha; cases ha
  rw [if_neg hi] at ha
  have hmem : (j, k + 1) ∈ am_ids G.2.2.2.1 := am_vs_h (am_vs_t hs)
  obtain ⟨q0, hq0⟩ := am_place hmem
  have he := am_ws_at (M := M) hq0
  rw [am_ae_n h (by decide)] at he
  exact va_cald cx.1 cx.2.1 cx.2.2.2.2.2.2.2.1 hP q0 1 he rfl hi hd (kk _ a ha p e s m args below meth cd H locs lsA cx hP hD hS hl (am_vs_c trivial (am_vs_t (am_vs_t hs))))
theorem am_zald {j k n : Nat} {i : Int32} {K : Int32 → Option α} (h : am_kd (am_cls j) k = (3, n)) (hd : decode q.2.1 pc = .ok (.baload, 1)) (kk : ∀ v, am_R G d q g (pc + 1) ls (am_i v :: st) M (K v)) : am_R G d q g pc ls (am_i i :: am_r j (k + 1) :: st) M (Option.bind (am_rd (M j k) n i) K) := by
  intro a ha p e s m args below meth cd H locs lsA cx hP hD hS hl hs
  unfold am_rd at ha
  by_cases hi : i < 0 ∨ n ≤ i.toNatClampNeg
  · rw [if_pos hi] at ha; cases ha
  rw [if_neg hi] at ha
  have hmem : (j, k + 1) ∈ am_ids G.2.2.2.1 := am_vs_h (am_vs_t hs)
  obtain ⟨q0, hq0⟩ := am_place hmem
  have he := am_ws_at (M := M) hq0
  rw [am_ae_n h (by decide)] at he
  exact va_zald cx.1 cx.2.1 cx.2.2.2.2.2.2.2.1 hP q0 2 he rfl hi hd (kk _ a ha p e s m args below meth cd H locs lsA cx hP hD hS hl (am_vs_c trivial (am_vs_t (am_vs_t hs))))
theorem am_ae_up {j k t n i : Nat} {v : Int32} (h : am_kd (am_cls j) k = (t, n)) (ht : ¬ t = 4) : am_ce G (am_up M j k i v) (j, k + 1) = .inl (G.2.2.2.2.1 (t - 1), n, .inl (upd (M j k) i v)) := by
  rw [am_ae_n h ht, am_up_eq]
  rfl
theorem am_iast {j k n : Nat} {i x : Int32} {K : am_M → Option α} (h : am_kd (am_cls j) k = (1, n)) (hd : decode q.2.1 pc = .ok (.iastore, 1)) (kk : ∀ M', am_R G d q g (pc + 1) ls st M' (K M')) : am_R G d q g pc ls (am_i x :: am_i i :: am_r j (k + 1) :: st) M (Option.bind (am_wr M j k n i x) K) := by
  intro a ha p e s m args below meth cd H locs lsA cx hP hD hS hl hs
  unfold am_wr at ha
  by_cases hi : i < 0 ∨ n ≤ i.toNatClampNeg
  · rw [if_pos hi] at ha; cases ha
  rw [if_neg hi] at ha
  have hmem : (j, k + 1) ∈ am_ids G.2.2.2.1 := am_vs_h (am_vs_t (am_vs_t hs))
  obtain ⟨q0, hq0⟩ := am_place hmem
  have he := am_ws_at (M := M) hq0
  rw [am_ae_n h (by decide)] at he
  have hset := am_ws_set (M1 := am_up M j k i.toNatClampNeg x) hD hq0 (fun y _ hy => am_ce_arr (by rw [h]; exact fun z => by cases z) (fun a b hab => am_up_ne hab) y hy)
  rw [am_ae_up h (by decide)] at hset
  exact va_iast cx.1 cx.2.1 cx.2.2.2.2.2.2.2.1 hP hD hS q0 0 he rfl hi hd (fun H1 locs1 hP1 hD1 hS1 => by
    rw [hset] at hP1 hD1
    exact kk _ a ha p e s m args below meth cd H1 locs1 lsA cx hP1 hD1 hS1 hl (am_vs_t (am_vs_t (am_vs_t hs))))
theorem am_cast {j k n : Nat} {i x : Int32} {K : am_M → Option α} (h : am_kd (am_cls j) k = (2, n)) (hd : decode q.2.1 pc = .ok (.castore, 1)) (kk : ∀ M', am_R G d q g (pc + 1) ls st M' (K M')) : am_R G d q g pc ls (am_i x :: am_i i :: am_r j (k + 1) :: st) M (Option.bind (am_wr M j k n i (vp_nar .char x)) K) := by
  intro a ha p e s m args below meth cd H locs lsA cx hP hD hS hl hs
  unfold am_wr at ha
  by_cases hi : i < 0 ∨ n ≤ i.toNatClampNeg
  · rw [if_pos hi] at ha; cases ha
  rw [if_neg hi] at ha
  have hmem : (j, k + 1) ∈ am_ids G.2.2.2.1 := am_vs_h (am_vs_t (am_vs_t hs))
  obtain ⟨q0, hq0⟩ := am_place hmem
  have he := am_ws_at (M := M) hq0
  rw [am_ae_n h (by decide)] at he
  have hset := am_ws_set (M1 := am_up M j k i.toNatClampNeg (vp_nar .char x)) hD hq0 (fun y _ hy => am_ce_arr (by rw [h]; exact fun z => by cases z) (fun a b hab => am_up_ne hab) y hy)
  rw [am_ae_up h (by decide)] at hset
  exact va_cast cx.1 cx.2.1 cx.2.2.2.2.2.2.2.1 hP hD hS q0 1 he rfl hi hd (fun H1 locs1 hP1 hD1 hS1 => by
    rw [hset] at hP1 hD1
    exact kk _ a ha p e s m args below meth cd H1 locs1 lsA cx hP1 hD1 hS1 hl (am_vs_t (am_vs_t (am_vs_t hs))))
theorem am_zast {j k n : Nat} {i x : Int32} {K : am_M → Option α} (h : am_kd (am_cls j) k = (3, n)) (hd : decode q.2.1 pc = .ok (.bastore, 1)) (kk : ∀ M', am_R G d q g (pc + 1) ls st M' (K M')) : am_R G d q g pc ls (am_i x :: am_i i :: am_r j (k + 1) :: st) M (Option.bind (am_wr M j k n i (vp_nar .boolean x)) K) := by
  intro a ha p e s m args below meth cd H locs lsA cx hP hD hS hl hs
  unfold am_wr at ha
  by_cases hi : i < 0 ∨ n ≤ i.toNatClampNeg
  · rw [if_pos hi] at ha; cases ha
  rw [if_neg hi] at ha
  have hmem : (j, k + 1) ∈ am_ids G.2.2.2.1 := am_vs_h (am_vs_t (am_vs_t hs))
  obtain ⟨q0, hq0⟩ := am_place hmem
  have he := am_ws_at (M := M) hq0
  rw [am_ae_n h (by decide)] at he
  have hset := am_ws_set (M1 := am_up M j k i.toNatClampNeg (vp_nar .boolean x)) hD hq0 (fun y _ hy => am_ce_arr (by rw [h]; exact fun z => by cases z) (fun a b hab => am_up_ne hab) y hy)
  rw [am_ae_up h (by decide)] at hset
  exact va_zast cx.1 cx.2.1 cx.2.2.2.2.2.2.2.1 hP hD hS q0 2 he rfl hi hd (fun H1 locs1 hP1 hD1 hS1 => by
    rw [hset] at hP1 hD1
    exact kk _ a ha p e s m args below meth cd H1 locs1 lsA cx hP1 hD1 hS1 hl (am_vs_t (am_vs_t (am_vs_t hs))))
theorem am_alen {j k t n : Nat} {v : Int32} (h : am_kd (am_cls j) k = (t, n)) (ht : t = 1 ∨ t = 2 ∨ t = 3) (hv : Int32.ofNat n = v) (hd : decode q.2.1 pc = .ok (.arraylength, 1)) (kk : am_R G d q g (pc + 1) ls (am_i v :: st) M o) : am_R G d q g pc ls (am_r j (k + 1) :: st) M o := by
  intro a ha p e s m args below meth cd H locs lsA cx hP hD hS hl hs
  have hmem : (j, k + 1) ∈ am_ids G.2.2.2.1 := am_vs_h hs
  obtain ⟨q0, hq0⟩ := am_place hmem
  have he := am_ws_at (M := M) hq0
  rw [am_ae_n h (by omega)] at he
  have kW := kk a ha p e s m args below meth cd H locs lsA cx hP hD hS hl (am_vs_c trivial (am_vs_t hs))
  rcases ht with rfl | rfl | rfl
  · exact va_alen cx.1 cx.2.1 cx.2.2.2.2.2.2.2.1 hP q0 0 he (ty := .int) rfl hv hd kW
  · exact va_alen cx.1 cx.2.1 cx.2.2.2.2.2.2.2.1 hP q0 1 he (ty := .char) rfl hv hd kW
  · exact va_alen cx.1 cx.2.1 cx.2.2.2.2.2.2.2.1 hP q0 2 he (ty := .boolean) rfl hv hd kW
/-- an image is read out of its row -/
theorem am_aald {i : Int32} {o1 o2 : Option α} (hd : decode q.2.1 pc = .ok (.aaload, 1)) (k1 : am_R G d q g (pc + 1) ls (am_r (i.toNatClampNeg + 4) 0 :: st) M o1) (k2 : am_R G d q g (pc + 1) ls (am_n :: st) M o2) : am_R G d q g pc ls (am_i i :: am_r 0 3 :: st) M (if i < 0 ∨ 2 ≤ i.toNatClampNeg then none else if G.2.2.2.1 (i.toNatClampNeg + 4) = true then o1 else o2) := by
  intro a ha p e s m args below meth cd H locs lsA cx hP hD hS hl hs
  by_cases hi : i < 0 ∨ 2 ≤ i.toNatClampNeg
  · rw [if_pos hi] at ha; cases ha
  rw [if_neg hi] at ha
  have hmem : (0, 3) ∈ am_ids G.2.2.2.1 := am_vs_h (am_vs_t hs)
  obtain ⟨q0, hq0⟩ := am_place hmem
  have he := am_ws_at (M := M) hq0
  have hce : am_ce G M (0, 3) = .inl (G.2.2.2.2.1 3, 2, .inr (.inr (.inr (.inr (fun n => if G.2.2.2.1 (n + 4) = true then some (G.2.2.1 (n + 4) 0) else none))))) := rfl
  rw [hce] at he
  refine va_aldq (C := "SongLamps$Mine") cx.1 cx.2.1 cx.2.2.2.2.2.2.2.1 hP q0 3 he rfl hi hd ?_
  by_cases hL : G.2.2.2.1 (i.toNatClampNeg + 4) = true
  · rw [if_pos hL] at ha ⊢
    exact k1 a ha p e s m args below meth cd H locs lsA cx hP hD hS hl (am_vs_c (am_ids_of hL (by omega) List.mem_cons_self) (am_vs_t (am_vs_t hs)))
  · rw [if_neg hL] at ha ⊢
    exact k2 a ha p e s m args below meth cd H locs lsA cx hP hD hS hl (am_vs_c trivial (am_vs_t (am_vs_t hs)))
theorem am_ifnonnull {j x : Nat} {off : Int} {tgt : Nat} (hd : decode q.2.1 pc = .ok (.ifnonnull off, 3)) (ht : (pc : Int) + off = (tgt : Int)) (kk : am_R G d q g tgt ls st M o) : am_R G d q g pc ls (am_r j x :: st) M o :=
  am_lift (fun h => am_vs_t h) (fun p e s m args below meth c H locs lsA Q cx hl hs hP hD k => lv_ifnonnull cx.1 cx.2.1 hd ht k) kk
theorem am_ifnonnullN {off : Int} (hd : decode q.2.1 pc = .ok (.ifnonnull off, 3)) (kk : am_R G d q g (pc + 3) ls st M o) : am_R G d q g pc ls (am_n :: st) M o :=
  am_lift (fun h => am_vs_t h) (fun p e s m args below meth c H locs lsA Q cx hl hs hP hD k => lv_ifnonnullN cx.1 cx.2.1 hd k) kk
/-- ints laid over from one array to another, from its beginning -/
def am_cp (M : am_M) (j1 k1 n1 j2 k2 n2 : Nat) (n : Int32) : Option am_M := if n < 0 ∨ n1 < n.toNatClampNeg ∨ n2 < n.toNatClampNeg then none else some (va_up M j2 (va_up (M j2) k2 (va_cpy (M j1 k1) (M j2 k2) 0 0 n.toNatClampNeg)))
theorem am_acopy {idx j1 k1 n1 j2 k2 n2 : Nat} {n : Int32} {K : am_M → Option α} (h1 : am_kd (am_cls j1) k1 = (1, n1)) (h2 : am_kd (am_cls j2) k2 = (1, n2)) (hlk : Cond.methodLink q.1.cls idx arraycopyName ∈ lw_all) (hnat : Cond.native arraycopyName ∈ lw_all) (hst : Cond.static arraycopyName ∈ lw_all) (hini : Cond.initialized "java/lang/System" ∈ lw_all) (hdd : 1 ≤ d) (hd : decode q.2.1 pc = .ok (.invokestatic idx, 3)) (kk : ∀ M', am_R G d q g (pc + 3) ls [] M' (K M')) : am_R G d q g pc ls [am_i n, am_i 0, am_r j2 (k2 + 1), am_i 0, am_r j1 (k1 + 1)] M (Option.bind (am_cp M j1 k1 n1 j2 k2 n2 n) K) := by
  intro a ha p e s m args below meth cd H locs lsA cx hP hD hS hl hs
  unfold am_cp at ha
  by_cases hi : n < 0 ∨ n1 < n.toNatClampNeg ∨ n2 < n.toNatClampNeg
  · rw [if_pos hi] at ha; cases ha
  rw [if_neg hi] at ha
  have hm2 : (j2, k2 + 1) ∈ am_ids G.2.2.2.1 := am_vs_h (am_vs_t (am_vs_t hs))
  have hm1 : (j1, k1 + 1) ∈ am_ids G.2.2.2.1 := am_vs_h (am_vs_t (am_vs_t (am_vs_t (am_vs_t hs))))
  obtain ⟨q1, hq1⟩ := am_place hm1
  obtain ⟨q2, hq2⟩ := am_place hm2
  have he1 := am_ws_at (M := M) hq1
  have he2 := am_ws_at (M := M) hq2
  rw [am_ae_n h1 (by decide)] at he1
  rw [am_ae_n h2 (by decide)] at he2
  have hset := am_ws_set (M1 := va_up M j2 (va_up (M j2) k2 (va_cpy (M j1 k1) (M j2 k2) 0 0 n.toNatClampNeg))) hD hq2 (fun y _ hy => am_ce_arr (by rw [h2]; exact fun z => by cases z) (fun a b hab => by
    by_cases ha : a = j2
    · subst ha
      have hb : ¬ b = k2 := fun z => hab ⟨rfl, z⟩
      simp [va_up, hb]
    · simp [va_up, ha]) y hy)
  rw [am_ae_n h2 (by decide), show va_up M j2 (va_up (M j2) k2 (va_cpy (M j1 k1) (M j2 k2) 0 0 n.toNatClampNeg)) j2 k2 = va_cpy (M j1 k1) (M j2 k2) 0 0 n.toNatClampNeg by simp [va_up]] at hset
  have hts := cx.2.2.2.2.2.2.1
  have hz : nativeFrameWords "java/lang/System" "arraycopy" 5 = 7 := by decide +kernel
  have hlc : ((([] : List Value)).map fun v => v.category).sum + (nativeFrameWords "java/lang/System" "arraycopy" 5 + 11) ≤ (am_rm d).locals := by
    rw [hz]
    show 0 + 18 ≤ 30 * d
    omega
  have b1 : (0 : Int32).toNatClampNeg + n.toNatClampNeg ≤ n1 := by
    show 0 + n.toNatClampNeg ≤ n1
    omega
  have b2 : (0 : Int32).toNatClampNeg + n.toNatClampNeg ≤ n2 := by
    show 0 + n.toNatClampNeg ≤ n2
    omega
  exact va_copyi (ty := .int) (sp := 0) (dp := 0) (n := n) (rest := []) cx.1 cx.2.1 (by rw [cx.2.2.2.2.1]; exact hl.1.symm) cx.2.2.2.2.2.1 (hts _ hlk) (hts _ hnat) (hts _ hst) (hts _ hini) cx.2.2.2.2.2.2.2.1 hP hD hS q1 q2 0 0 he1 he2 rfl rfl rfl (by decide) (by decide) (fun z => hi (Or.inl z)) b1 b2 (fun _ _ => rfl) hdd hlc hd (fun H1 locs1 hP1 hD1 hS1 => by
    rw [show (Int32.toNatClampNeg 0) = 0 from rfl, hset] at hP1 hD1
    exact kk _ a ha p e s m args below meth cd H1 locs1 lsA cx hP1 hD1 hS1 hl (fun _ z => by cases z))
end AMH
