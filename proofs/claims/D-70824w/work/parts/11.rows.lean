/-! ROWS: one lemma an instruction, over am_R. Printed by gen/rows.py -/
set_option maxRecDepth 100000
def jv_rem (x y : Int32) : Int32 := x - x / y * y
def jv_lrem (x y : Int64) : Int64 := x - x / y * y
def jv_ushr (x y : Int32) : Int32 := (x.toUInt32 >>> (y.toUInt32 &&& Int32.toUInt32 31)).toInt32
section AMR2
variable {α : Type} {G : am_G} {d : Nat} {q : am_Q} {g : α → Option am_V × am_M} {pc : Nat} {ls : List (Option am_V)} {st : List am_V} {M : am_M} {o : Option α}
theorem am_iconst {n : Int} {v : Int32} (hd : decode q.2.1 pc = .ok (.iconst n, 1)) (hv : Int32.ofInt n = v) (k : am_R G d q g (pc + 1) ls (am_i v :: st) M o) : am_R G d q g pc ls st M o :=
  am_lift (fun h => am_vs_i h) (fun p e s m args below meth c H locs lsA Q cx hl hs hP hD k => lv_iconst cx.1 cx.2.1 hd hv k) k
theorem am_bipush {n : Int} {v : Int32} (hd : decode q.2.1 pc = .ok (.bipush n, 2)) (hv : (Int8.ofInt n).toInt32 = v) (k : am_R G d q g (pc + 2) ls (am_i v :: st) M o) : am_R G d q g pc ls st M o :=
  am_lift (fun h => am_vs_i h) (fun p e s m args below meth c H locs lsA Q cx hl hs hP hD k => lv_bipush cx.1 cx.2.1 hd hv k) k
theorem am_sipush {n : Int} {v : Int32} (hd : decode q.2.1 pc = .ok (.sipush n, 3)) (hv : (Int16.ofInt n).toInt32 = v) (k : am_R G d q g (pc + 3) ls (am_i v :: st) M o) : am_R G d q g pc ls st M o :=
  am_lift (fun h => am_vs_i h) (fun p e s m args below meth c H locs lsA Q cx hl hs hP hD k => lv_sipush cx.1 cx.2.1 hd hv k) k
theorem am_lconst {n : Fin 2} {v : Int64} (hd : decode q.2.1 pc = .ok (.lconst n, 1)) (hv : Int64.ofNat (n : Nat) = v) (k : am_R G d q g (pc + 1) ls (am_l v :: st) M o) : am_R G d q g pc ls st M o :=
  am_lift (fun h => am_vs_l h) (fun p e s m args below meth c H locs lsA Q cx hl hs hP hD k => lv_lconst cx.1 cx.2.1 hd hv k) k
theorem am_ldc {n : Nat} {v : Int32} (hd : decode q.2.1 pc = .ok (.ldc n, 2)) (hc : Cond.constant q.1.cls n v ∈ lw_all) (k : am_R G d q g (pc + 2) ls (am_i v :: st) M o) : am_R G d q g pc ls st M o :=
  am_lift (fun h => am_vs_i h) (fun p e s m args below meth c H locs lsA Q cx hl hs hP hD k => lv_ldc cx.1 cx.2.1 cx.2.2.2.2.2.1 (cx.2.2.2.2.2.2.1 _ hc) hd k) k
theorem am_ldcw {n : Nat} {v : Int32} (hd : decode q.2.1 pc = .ok (.ldc_w n, 3)) (hc : Cond.constant q.1.cls n v ∈ lw_all) (k : am_R G d q g (pc + 3) ls (am_i v :: st) M o) : am_R G d q g pc ls st M o :=
  am_lift (fun h => am_vs_i h) (fun p e s m args below meth c H locs lsA Q cx hl hs hP hD k => lv_ldcw cx.1 cx.2.1 cx.2.2.2.2.2.1 (cx.2.2.2.2.2.2.1 _ hc) hd k) k
theorem am_ldc2 {n : Nat} {v : Int64} (hd : decode q.2.1 pc = .ok (.ldc2_w n, 3)) (hc : Cond.constantLong q.1.cls n v ∈ lw_all) (k : am_R G d q g (pc + 3) ls (am_l v :: st) M o) : am_R G d q g pc ls st M o :=
  am_lift (fun h => am_vs_l h) (fun p e s m args below meth c H locs lsA Q cx hl hs hP hD k => lv_ldc2 cx.1 cx.2.1 cx.2.2.2.2.2.1 (cx.2.2.2.2.2.2.1 _ hc) hd k) k
theorem am_iload_n {k : Fin 4} {i : Nat} {x : Int32} (hd : decode q.2.1 pc = .ok (.iload_n k, 1)) (hi : (k : Nat) = i) (hx : ls[i]? = some (some (am_i x))) (kk : am_R G d q g (pc + 1) ls (am_i x :: st) M o) : am_R G d q g pc ls st M o :=
  am_lift (fun h => am_vs_i h) (fun p e s m args below meth c H locs lsA Q cx hl hs hP hD k => lv_iload_n cx.1 cx.2.1 hd hi (hl.2.2 i _ hx).1 k) kk
theorem am_iload {i : Nat} {x : Int32} (hd : decode q.2.1 pc = .ok (.iload i, 2)) (hx : ls[i]? = some (some (am_i x))) (kk : am_R G d q g (pc + 2) ls (am_i x :: st) M o) : am_R G d q g pc ls st M o :=
  am_lift (fun h => am_vs_i h) (fun p e s m args below meth c H locs lsA Q cx hl hs hP hD k => lv_iload cx.1 cx.2.1 hd (hl.2.2 i _ hx).1 k) kk
theorem am_lload_n {k : Fin 4} {i : Nat} {x : Int64} (hd : decode q.2.1 pc = .ok (.lload_n k, 1)) (hi : (k : Nat) = i) (hx : ls[i]? = some (some (am_l x))) (kk : am_R G d q g (pc + 1) ls (am_l x :: st) M o) : am_R G d q g pc ls st M o :=
  am_lift (fun h => am_vs_l h) (fun p e s m args below meth c H locs lsA Q cx hl hs hP hD k => lv_lload_n cx.1 cx.2.1 hd hi (hl.2.2 i _ hx).1 k) kk
theorem am_lload {i : Nat} {x : Int64} (hd : decode q.2.1 pc = .ok (.lload i, 2)) (hx : ls[i]? = some (some (am_l x))) (kk : am_R G d q g (pc + 2) ls (am_l x :: st) M o) : am_R G d q g pc ls st M o :=
  am_lift (fun h => am_vs_l h) (fun p e s m args below meth c H locs lsA Q cx hl hs hP hD k => lv_lload cx.1 cx.2.1 hd (hl.2.2 i _ hx).1 k) kk
theorem am_liftA {j x i pc' : Nat} (hx : ls[i]? = some (some (am_r j x)))
    (hrow : ∀ (p : Program) (e : Env) (s : State) (m : MethodId) (args : Array Value) (below : List Frame) (meth : Method) (c : Code) (H : Heap) (locs : List Loc) (lsA : Array Slot) (Q : State → Prop), am_cx G q p s m args meth c → lsA[i]? = some (.val (.ref (G.2.2.1 j x))) →
      W p G.1 e (am_rm d) s m args below meth c H locs 0 0 Q (F0 m pc' lsA (.ref (G.2.2.1 j x) :: st.map (am_cv G))) → W p G.1 e (am_rm d) s m args below meth c H locs 0 0 Q (F0 m pc lsA (st.map (am_cv G))))
    (k : am_R G d q g pc' ls (am_r j x :: st) M o) : am_R G d q g pc ls st M o := by
  intro a ha p e s m args below meth c H locs lsA cx hP hD hS hl hs
  exact hrow p e s m args below meth c H locs lsA _ cx (hl.2.2 i _ hx).1 (k a ha p e s m args below meth c H locs lsA cx hP hD hS hl (am_vs_c (hl.2.2 i _ hx).2 hs))
theorem am_aload_n {k : Fin 4} {i j x : Nat} (hd : decode q.2.1 pc = .ok (.aload_n k, 1)) (hi : (k : Nat) = i) (hx : ls[i]? = some (some (am_r j x))) (kk : am_R G d q g (pc + 1) ls (am_r j x :: st) M o) : am_R G d q g pc ls st M o :=
  am_liftA hx (fun p e s m args below meth c H locs lsA Q cx hl k => lv_aload_n cx.1 cx.2.1 hd hi hl k) kk
theorem am_aload {i j x : Nat} (hd : decode q.2.1 pc = .ok (.aload i, 2)) (hx : ls[i]? = some (some (am_r j x))) (kk : am_R G d q g (pc + 2) ls (am_r j x :: st) M o) : am_R G d q g pc ls st M o :=
  am_liftA hx (fun p e s m args below meth c H locs lsA Q cx hl k => lv_aload cx.1 cx.2.1 hd hl k) kk
theorem am_istore_n {k : Fin 4} {i : Nat} {x : Int32} (ls' : List (Option am_V)) (hd : decode q.2.1 pc = .ok (.istore_n k, 1)) (hi : (k : Nat) = i) (hn : am_nl ls i = true) (hb : i < q.2.2.1) (hx : ls.set i (some (am_i x)) = ls') (kk : am_R G d q g (pc + 1) ls' st M o) : am_R G d q g pc ls (am_i x :: st) M o := by
  intro a ha p e s m args below meth c H locs lsA cx hP hD hS hl hs
  exact lv_istore_n cx.1 cx.2.1 hd hi (am_has hl) hb rfl (fun lsB hB => kk a ha p e s m args below meth c H locs lsB cx hP hD hS (am_lr_st1 (v := am_i x) hl hn trivial hx hB) (am_vs_t hs))
theorem am_istore {i : Nat} {x : Int32} (ls' : List (Option am_V)) (hd : decode q.2.1 pc = .ok (.istore i, 2)) (hn : am_nl ls i = true) (hb : i < q.2.2.1) (hx : ls.set i (some (am_i x)) = ls') (kk : am_R G d q g (pc + 2) ls' st M o) : am_R G d q g pc ls (am_i x :: st) M o := by
  intro a ha p e s m args below meth c H locs lsA cx hP hD hS hl hs
  exact lv_istore cx.1 cx.2.1 hd (am_has hl) hb rfl (fun lsB hB => kk a ha p e s m args below meth c H locs lsB cx hP hD hS (am_lr_st1 (v := am_i x) hl hn trivial hx hB) (am_vs_t hs))
theorem am_lstore_n {k : Fin 4} {i : Nat} {x : Int64} (ls' : List (Option am_V)) (hd : decode q.2.1 pc = .ok (.lstore_n k, 1)) (hi : (k : Nat) = i) (hn : am_nl ls i = true) (hb : i + 1 < q.2.2.1) (hx : (ls.set i (some (am_l x))).set (i + 1) none = ls') (kk : am_R G d q g (pc + 1) ls' st M o) : am_R G d q g pc ls (am_l x :: st) M o := by
  intro a ha p e s m args below meth c H locs lsA cx hP hD hS hl hs
  exact lv_lstore_n cx.1 cx.2.1 hd hi (am_has hl) hb rfl (fun lsB hB => kk a ha p e s m args below meth c H locs lsB cx hP hD hS (am_lr_st2 (v := am_l x) hl hn trivial hx hB) (am_vs_t hs))
theorem am_lstore {i : Nat} {x : Int64} (ls' : List (Option am_V)) (hd : decode q.2.1 pc = .ok (.lstore i, 2)) (hn : am_nl ls i = true) (hb : i + 1 < q.2.2.1) (hx : (ls.set i (some (am_l x))).set (i + 1) none = ls') (kk : am_R G d q g (pc + 2) ls' st M o) : am_R G d q g pc ls (am_l x :: st) M o := by
  intro a ha p e s m args below meth c H locs lsA cx hP hD hS hl hs
  exact lv_lstore cx.1 cx.2.1 hd (am_has hl) hb rfl (fun lsB hB => kk a ha p e s m args below meth c H locs lsB cx hP hD hS (am_lr_st2 (v := am_l x) hl hn trivial hx hB) (am_vs_t hs))
theorem am_lvl_idx {i : Nat} {v : am_V} (h : ls[i]? = some (some v)) : ∃ k : Nat, (am_lvl G ls)[k]? = some (i, am_cv G v) := List.getElem?_of_mem (am_lvl_mem h)
theorem am_iinc {i : Nat} {n : Int} {x v : Int32} (ls' : List (Option am_V)) (hd : decode q.2.1 pc = .ok (.iinc i n, 3)) (hl0 : ls[i]? = some (some (am_i x))) (hv : Int32.ofInt n = v) (hn : am_nl ls i = true) (hb : i < q.2.2.1) (hx : ls.set i (some (am_i (x + v))) = ls') (kk : am_R G d q g (pc + 3) ls' st M o) : am_R G d q g pc ls st M o := by
  intro a ha p e s m args below meth c H locs lsA cx hP hD hS hl hs
  obtain ⟨k, hk⟩ := am_lvl_idx (G := G) hl0
  exact lv_iinc (v := x + v) cx.1 cx.2.1 hd (am_has hl) hk (by rw [hv]) hb rfl (fun lsB hB => kk a ha p e s m args below meth c H locs lsB cx hP hD hS (am_lr_st1 (v := am_i (x + v)) hl hn trivial hx hB) hs)
theorem am_iadd {x y : Int32} (hd : decode q.2.1 pc = .ok (.iadd, 1)) (kk : am_R G d q g (pc + 1) ls (am_i (x + y) :: st) M o) : am_R G d q g pc ls (am_i y :: am_i x :: st) M o :=
  am_lift (fun h => am_vs_i (am_vs_t (am_vs_t h))) (fun p e s m args below meth c H locs lsA Q cx hl hs hP hD k => lv_iadd cx.1 cx.2.1 hd k) kk
theorem am_isub {x y : Int32} (hd : decode q.2.1 pc = .ok (.isub, 1)) (kk : am_R G d q g (pc + 1) ls (am_i (x - y) :: st) M o) : am_R G d q g pc ls (am_i y :: am_i x :: st) M o :=
  am_lift (fun h => am_vs_i (am_vs_t (am_vs_t h))) (fun p e s m args below meth c H locs lsA Q cx hl hs hP hD k => lv_isub cx.1 cx.2.1 hd k) kk
theorem am_imul {x y : Int32} (hd : decode q.2.1 pc = .ok (.imul, 1)) (kk : am_R G d q g (pc + 1) ls (am_i (x * y) :: st) M o) : am_R G d q g pc ls (am_i y :: am_i x :: st) M o :=
  am_lift (fun h => am_vs_i (am_vs_t (am_vs_t h))) (fun p e s m args below meth c H locs lsA Q cx hl hs hP hD k => lv_imul cx.1 cx.2.1 hd k) kk
theorem am_iand {x y : Int32} (hd : decode q.2.1 pc = .ok (.iand, 1)) (kk : am_R G d q g (pc + 1) ls (am_i (x &&& y) :: st) M o) : am_R G d q g pc ls (am_i y :: am_i x :: st) M o :=
  am_lift (fun h => am_vs_i (am_vs_t (am_vs_t h))) (fun p e s m args below meth c H locs lsA Q cx hl hs hP hD k => lv_iand cx.1 cx.2.1 hd k) kk
theorem am_ior {x y : Int32} (hd : decode q.2.1 pc = .ok (.ior, 1)) (kk : am_R G d q g (pc + 1) ls (am_i (x ||| y) :: st) M o) : am_R G d q g pc ls (am_i y :: am_i x :: st) M o :=
  am_lift (fun h => am_vs_i (am_vs_t (am_vs_t h))) (fun p e s m args below meth c H locs lsA Q cx hl hs hP hD k => lv_ior cx.1 cx.2.1 hd k) kk
theorem am_ixor {x y : Int32} (hd : decode q.2.1 pc = .ok (.ixor, 1)) (kk : am_R G d q g (pc + 1) ls (am_i (x ^^^ y) :: st) M o) : am_R G d q g pc ls (am_i y :: am_i x :: st) M o :=
  am_lift (fun h => am_vs_i (am_vs_t (am_vs_t h))) (fun p e s m args below meth c H locs lsA Q cx hl hs hP hD k => lv_ixor cx.1 cx.2.1 hd k) kk
theorem am_ishl {x y : Int32} (hd : decode q.2.1 pc = .ok (.ishl, 1)) (kk : am_R G d q g (pc + 1) ls (am_i (x <<< (y &&& 31)) :: st) M o) : am_R G d q g pc ls (am_i y :: am_i x :: st) M o :=
  am_lift (fun h => am_vs_i (am_vs_t (am_vs_t h))) (fun p e s m args below meth c H locs lsA Q cx hl hs hP hD k => lv_ishl cx.1 cx.2.1 hd k) kk
theorem am_ishr {x y : Int32} (hd : decode q.2.1 pc = .ok (.ishr, 1)) (kk : am_R G d q g (pc + 1) ls (am_i (x >>> (y &&& 31)) :: st) M o) : am_R G d q g pc ls (am_i y :: am_i x :: st) M o :=
  am_lift (fun h => am_vs_i (am_vs_t (am_vs_t h))) (fun p e s m args below meth c H locs lsA Q cx hl hs hP hD k => lv_ishr cx.1 cx.2.1 hd k) kk
theorem am_idiv {x y : Int32} (hd : decode q.2.1 pc = .ok (.idiv, 1)) (hne : ¬ y = 0) (kk : am_R G d q g (pc + 1) ls (am_i (x / y) :: st) M o) : am_R G d q g pc ls (am_i y :: am_i x :: st) M o :=
  am_lift (fun h => am_vs_i (am_vs_t (am_vs_t h))) (fun p e s m args below meth c H locs lsA Q cx hl hs hP hD k => lv_idiv cx.1 cx.2.1 hd hne k) kk
theorem am_irem {x y : Int32} (hd : decode q.2.1 pc = .ok (.irem, 1)) (hne : ¬ y = 0) (kk : am_R G d q g (pc + 1) ls (am_i (jv_rem x y) :: st) M o) : am_R G d q g pc ls (am_i y :: am_i x :: st) M o :=
  am_lift (fun h => am_vs_i (am_vs_t (am_vs_t h))) (fun p e s m args below meth c H locs lsA Q cx hl hs hP hD k => lv_irem cx.1 cx.2.1 hd hne k) kk
theorem am_ladd {x y : Int64} (hd : decode q.2.1 pc = .ok (.ladd, 1)) (kk : am_R G d q g (pc + 1) ls (am_l (x + y) :: st) M o) : am_R G d q g pc ls (am_l y :: am_l x :: st) M o :=
  am_lift (fun h => am_vs_l (am_vs_t (am_vs_t h))) (fun p e s m args below meth c H locs lsA Q cx hl hs hP hD k => lv_ladd cx.1 cx.2.1 hd k) kk
theorem am_lsub {x y : Int64} (hd : decode q.2.1 pc = .ok (.lsub, 1)) (kk : am_R G d q g (pc + 1) ls (am_l (x - y) :: st) M o) : am_R G d q g pc ls (am_l y :: am_l x :: st) M o :=
  am_lift (fun h => am_vs_l (am_vs_t (am_vs_t h))) (fun p e s m args below meth c H locs lsA Q cx hl hs hP hD k => lv_lsub cx.1 cx.2.1 hd k) kk
theorem am_lmul {x y : Int64} (hd : decode q.2.1 pc = .ok (.lmul, 1)) (kk : am_R G d q g (pc + 1) ls (am_l (x * y) :: st) M o) : am_R G d q g pc ls (am_l y :: am_l x :: st) M o :=
  am_lift (fun h => am_vs_l (am_vs_t (am_vs_t h))) (fun p e s m args below meth c H locs lsA Q cx hl hs hP hD k => lv_lmul cx.1 cx.2.1 hd k) kk
theorem am_ldiv {x y : Int64} (hd : decode q.2.1 pc = .ok (.ldiv, 1)) (hne : ¬ y = 0) (kk : am_R G d q g (pc + 1) ls (am_l (x / y) :: st) M o) : am_R G d q g pc ls (am_l y :: am_l x :: st) M o :=
  am_lift (fun h => am_vs_l (am_vs_t (am_vs_t h))) (fun p e s m args below meth c H locs lsA Q cx hl hs hP hD k => lv_ldiv cx.1 cx.2.1 hd hne k) kk
theorem am_lrem {x y : Int64} (hd : decode q.2.1 pc = .ok (.lrem, 1)) (hne : ¬ y = 0) (kk : am_R G d q g (pc + 1) ls (am_l (jv_lrem x y) :: st) M o) : am_R G d q g pc ls (am_l y :: am_l x :: st) M o :=
  am_lift (fun h => am_vs_l (am_vs_t (am_vs_t h))) (fun p e s m args below meth c H locs lsA Q cx hl hs hP hD k => lv_lrem cx.1 cx.2.1 hd hne k) kk
theorem am_iushr {x y : Int32} (hd : decode q.2.1 pc = .ok (.iushr, 1)) (kk : am_R G d q g (pc + 1) ls (am_i (jv_ushr x y) :: st) M o) : am_R G d q g pc ls (am_i y :: am_i x :: st) M o :=
  am_lift (fun h => am_vs_i (am_vs_t (am_vs_t h))) (fun p e s m args below meth c H locs lsA Q cx hl hs hP hD k => lv_iushr cx.1 cx.2.1 hd rfl k) kk
theorem am_lcmp {x y : Int64} (hd : decode q.2.1 pc = .ok (.lcmp, 1)) (kk : am_R G d q g (pc + 1) ls (am_i (lg_cmp x y) :: st) M o) : am_R G d q g pc ls (am_l y :: am_l x :: st) M o :=
  am_lift (fun h => am_vs_i (am_vs_t (am_vs_t h))) (fun p e s m args below meth c H locs lsA Q cx hl hs hP hD k => W.lcmp cx.1 cx.2.1 hd k) kk
theorem am_ineg {x : Int32} (hd : decode q.2.1 pc = .ok (.ineg, 1)) (kk : am_R G d q g (pc + 1) ls (am_i (-x) :: st) M o) : am_R G d q g pc ls (am_i x :: st) M o :=
  am_lift (fun h => am_vs_i (am_vs_t h)) (fun p e s m args below meth c H locs lsA Q cx hl hs hP hD k => lv_ineg cx.1 cx.2.1 hd k) kk
theorem am_i2l {x : Int32} (hd : decode q.2.1 pc = .ok (.i2l, 1)) (kk : am_R G d q g (pc + 1) ls (am_l (x.toInt64) :: st) M o) : am_R G d q g pc ls (am_i x :: st) M o :=
  am_lift (fun h => am_vs_l (am_vs_t h)) (fun p e s m args below meth c H locs lsA Q cx hl hs hP hD k => lv_i2l cx.1 cx.2.1 hd rfl k) kk
theorem am_l2i {x : Int64} (hd : decode q.2.1 pc = .ok (.l2i, 1)) (kk : am_R G d q g (pc + 1) ls (am_i (x.toInt32) :: st) M o) : am_R G d q g pc ls (am_l x :: st) M o :=
  am_lift (fun h => am_vs_i (am_vs_t h)) (fun p e s m args below meth c H locs lsA Q cx hl hs hP hD k => lv_l2i cx.1 cx.2.1 hd rfl k) kk
theorem am_i2c {x : Int32} (hd : decode q.2.1 pc = .ok (.i2c, 1)) (kk : am_R G d q g (pc + 1) ls (am_i ((x.toUInt32 % 65536).toInt32) :: st) M o) : am_R G d q g pc ls (am_i x :: st) M o :=
  am_lift (fun h => am_vs_i (am_vs_t h)) (fun p e s m args below meth c H locs lsA Q cx hl hs hP hD k => lv_i2c cx.1 cx.2.1 hd rfl k) kk
theorem am_dup {v : am_V} (hd : decode q.2.1 pc = .ok (.dup, 1)) (hc : (am_cv G v).category = 1) (kk : am_R G d q g (pc + 1) ls (v :: v :: st) M o) : am_R G d q g pc ls (v :: st) M o :=
  am_lift (fun h => am_vs_c (am_vs_h h) h) (fun p e s m args below meth c H locs lsA Q cx hl hs hP hD k => lv_dup cx.1 cx.2.1 hd hc k) kk
theorem am_pop {v : am_V} (hd : decode q.2.1 pc = .ok (.pop, 1)) (hc : (am_cv G v).category = 1) (kk : am_R G d q g (pc + 1) ls st M o) : am_R G d q g pc ls (v :: st) M o :=
  am_lift (fun h => am_vs_t h) (fun p e s m args below meth c H locs lsA Q cx hl hs hP hD k => lv_pop cx.1 cx.2.1 hd hc k) kk
theorem am_dup2 {v w : am_V} (hd : decode q.2.1 pc = .ok (.dup2, 1)) (hc : (am_cv G v).category = 1) (hw : (am_cv G w).category = 1) (kk : am_R G d q g (pc + 1) ls (v :: w :: v :: w :: st) M o) : am_R G d q g pc ls (v :: w :: st) M o :=
  am_lift (fun h => am_vs_c (am_vs_h h) (am_vs_c (am_vs_h (am_vs_t h)) h)) (fun p e s m args below meth c H locs lsA Q cx hl hs hP hD k => lv_dup2_11 cx.1 cx.2.1 hd hc hw k) kk
theorem am_goto {off : Int} {tgt : Nat} (hd : decode q.2.1 pc = .ok (.goto off, 3)) (ht : (pc : Int) + off = (tgt : Int)) (kk : am_R G d q g tgt ls st M o) : am_R G d q g pc ls st M o :=
  am_lift (fun h => h) (fun p e s m args below meth c H locs lsA Q cx hl hs hP hD k => lv_goto cx.1 cx.2.1 hd ht k) kk
theorem am_pure {β : Type} {b : β} {K : β → Option α} (kk : am_R G d q g pc ls st M (K b)) : am_R G d q g pc ls st M (Option.bind (some b) K) := kk
theorem am_name {e : Int32} {K : Int32 → Option α} (kk : ∀ v, am_R G d q g pc ls (am_i v :: st) M (K v)) : am_R G d q g pc ls (am_i e :: st) M (Option.bind (some e) K) := kk e
theorem am_namel {e : Int64} {K : Int64 → Option α} (kk : ∀ v, am_R G d q g pc ls (am_l v :: st) M (K v)) : am_R G d q g pc ls (am_l e :: st) M (Option.bind (some e) K) := kk e
theorem am_as {β γ : Type} {b : Option β} {k : β → Option γ} {K : γ → Option α} (kk : am_R G d q g pc ls st M (Option.bind b (fun x => Option.bind (k x) K))) : am_R G d q g pc ls st M (Option.bind (Option.bind b k) K) := by
  rw [Option.bind_assoc]
  exact kk
theorem am_join {β : Type} {b : Option β} {K : β → Option α} (pc' : Nat) (ls' : β → List (Option am_V)) (st' : β → List am_V) (M' : β → am_M) (hm : ∀ x, am_R G d q g pc' (ls' x) (st' x) (M' x) (K x)) (hb : (∀ x, am_R G d q g pc' (ls' x) (st' x) (M' x) (K x)) → am_R G d q g pc ls st M (Option.bind b K)) : am_R G d q g pc ls st M (Option.bind b K) := hb hm
theorem am_ite {c : Prop} [Decidable c] {o1 o2 : Option α} (kt : c → am_R G d q g pc ls st M o1) (kf : ¬ c → am_R G d q g pc ls st M o2) : am_R G d q g pc ls st M (if c then o1 else o2) := by
  by_cases h : c
  · rw [if_pos h]; exact kt h
  · rw [if_neg h]; exact kf h
theorem am_iteB {β : Type} {K : β → Option α} {c : Prop} [Decidable c] {o1 o2 : Option β} (kt : c → am_R G d q g pc ls st M (Option.bind o1 K)) (kf : ¬ c → am_R G d q g pc ls st M (Option.bind o2 K)) : am_R G d q g pc ls st M (Option.bind (if c then o1 else o2) K) := by
  by_cases h : c
  · rw [if_pos h]; exact kt h
  · rw [if_neg h]; exact kf h
theorem am_grd {c : Prop} [Decidable c] (kf : ¬ c → am_R G d q g pc ls st M o) : am_R G d q g pc ls st M (if c then none else o) := am_ite (fun _ => am_none) kf
theorem am_grdB {β : Type} {K : β → Option α} {c : Prop} [Decidable c] {o2 : Option β} (kf : ¬ c → am_R G d q g pc ls st M (Option.bind o2 K)) : am_R G d q g pc ls st M (Option.bind (if c then none else o2) K) := am_iteB (fun _ => am_none) kf
theorem am_if_eq {x : Int32} {off : Int} {tgt : Nat} {o1 o2 : Option α} (hd : decode q.2.1 pc = .ok (.ifCond .eq off, 3)) (ht : (pc : Int) + off = (tgt : Int)) (k1 : am_R G d q g tgt ls st M o1) (k2 : am_R G d q g (pc + 3) ls st M o2) : am_R G d q g pc ls (am_i x :: st) M (if x = 0 then o1 else o2) := by
  intro a ha p e s m args below meth c H locs lsA cx hP hD hS hl hs
  refine lv_if_eq cx.1 cx.2.1 hd ht (fun h => ?_) (fun h => ?_)
  · rw [if_pos h] at ha
    exact k1 a ha p e s m args below meth c H locs lsA cx hP hD hS hl (am_vs_t hs)
  · rw [if_neg h] at ha
    exact k2 a ha p e s m args below meth c H locs lsA cx hP hD hS hl (am_vs_t hs)
theorem am_if_eqB {β : Type} {K : β → Option α} {x : Int32} {off : Int} {tgt : Nat} {o1 o2 : Option β} (hd : decode q.2.1 pc = .ok (.ifCond .eq off, 3)) (ht : (pc : Int) + off = (tgt : Int)) (k1 : am_R G d q g tgt ls st M (Option.bind o1 K)) (k2 : am_R G d q g (pc + 3) ls st M (Option.bind o2 K)) : am_R G d q g pc ls (am_i x :: st) M (Option.bind (if x = 0 then o1 else o2) K) := by
  intro a ha p e s m args below meth c H locs lsA cx hP hD hS hl hs
  refine lv_if_eq cx.1 cx.2.1 hd ht (fun h => ?_) (fun h => ?_)
  · rw [if_pos h] at ha
    exact k1 a ha p e s m args below meth c H locs lsA cx hP hD hS hl (am_vs_t hs)
  · rw [if_neg h] at ha
    exact k2 a ha p e s m args below meth c H locs lsA cx hP hD hS hl (am_vs_t hs)
theorem am_icmp_eq {x y : Int32} {off : Int} {tgt : Nat} {o1 o2 : Option α} (hd : decode q.2.1 pc = .ok (.if_icmp .eq off, 3)) (ht : (pc : Int) + off = (tgt : Int)) (k1 : am_R G d q g tgt ls st M o1) (k2 : am_R G d q g (pc + 3) ls st M o2) : am_R G d q g pc ls (am_i y :: am_i x :: st) M (if x = y then o1 else o2) := by
  intro a ha p e s m args below meth c H locs lsA cx hP hD hS hl hs
  refine lv_icmp_eq cx.1 cx.2.1 hd ht (fun h => ?_) (fun h => ?_)
  · rw [if_pos h] at ha
    exact k1 a ha p e s m args below meth c H locs lsA cx hP hD hS hl (am_vs_t (am_vs_t hs))
  · rw [if_neg h] at ha
    exact k2 a ha p e s m args below meth c H locs lsA cx hP hD hS hl (am_vs_t (am_vs_t hs))
theorem am_icmp_eqB {β : Type} {K : β → Option α} {x y : Int32} {off : Int} {tgt : Nat} {o1 o2 : Option β} (hd : decode q.2.1 pc = .ok (.if_icmp .eq off, 3)) (ht : (pc : Int) + off = (tgt : Int)) (k1 : am_R G d q g tgt ls st M (Option.bind o1 K)) (k2 : am_R G d q g (pc + 3) ls st M (Option.bind o2 K)) : am_R G d q g pc ls (am_i y :: am_i x :: st) M (Option.bind (if x = y then o1 else o2) K) := by
  intro a ha p e s m args below meth c H locs lsA cx hP hD hS hl hs
  refine lv_icmp_eq cx.1 cx.2.1 hd ht (fun h => ?_) (fun h => ?_)
  · rw [if_pos h] at ha
    exact k1 a ha p e s m args below meth c H locs lsA cx hP hD hS hl (am_vs_t (am_vs_t hs))
  · rw [if_neg h] at ha
    exact k2 a ha p e s m args below meth c H locs lsA cx hP hD hS hl (am_vs_t (am_vs_t hs))
theorem am_if_ne {x : Int32} {off : Int} {tgt : Nat} {o1 o2 : Option α} (hd : decode q.2.1 pc = .ok (.ifCond .ne off, 3)) (ht : (pc : Int) + off = (tgt : Int)) (k1 : am_R G d q g (pc + 3) ls st M o1) (k2 : am_R G d q g tgt ls st M o2) : am_R G d q g pc ls (am_i x :: st) M (if x = 0 then o1 else o2) := by
  intro a ha p e s m args below meth c H locs lsA cx hP hD hS hl hs
  refine lv_if_ne cx.1 cx.2.1 hd ht (fun h => ?_) (fun h => ?_)
  · rw [if_neg h] at ha
    exact k2 a ha p e s m args below meth c H locs lsA cx hP hD hS hl (am_vs_t hs)
  · rw [if_pos h] at ha
    exact k1 a ha p e s m args below meth c H locs lsA cx hP hD hS hl (am_vs_t hs)
theorem am_if_neB {β : Type} {K : β → Option α} {x : Int32} {off : Int} {tgt : Nat} {o1 o2 : Option β} (hd : decode q.2.1 pc = .ok (.ifCond .ne off, 3)) (ht : (pc : Int) + off = (tgt : Int)) (k1 : am_R G d q g (pc + 3) ls st M (Option.bind o1 K)) (k2 : am_R G d q g tgt ls st M (Option.bind o2 K)) : am_R G d q g pc ls (am_i x :: st) M (Option.bind (if x = 0 then o1 else o2) K) := by
  intro a ha p e s m args below meth c H locs lsA cx hP hD hS hl hs
  refine lv_if_ne cx.1 cx.2.1 hd ht (fun h => ?_) (fun h => ?_)
  · rw [if_neg h] at ha
    exact k2 a ha p e s m args below meth c H locs lsA cx hP hD hS hl (am_vs_t hs)
  · rw [if_pos h] at ha
    exact k1 a ha p e s m args below meth c H locs lsA cx hP hD hS hl (am_vs_t hs)
theorem am_icmp_ne {x y : Int32} {off : Int} {tgt : Nat} {o1 o2 : Option α} (hd : decode q.2.1 pc = .ok (.if_icmp .ne off, 3)) (ht : (pc : Int) + off = (tgt : Int)) (k1 : am_R G d q g (pc + 3) ls st M o1) (k2 : am_R G d q g tgt ls st M o2) : am_R G d q g pc ls (am_i y :: am_i x :: st) M (if x = y then o1 else o2) := by
  intro a ha p e s m args below meth c H locs lsA cx hP hD hS hl hs
  refine lv_icmp_ne cx.1 cx.2.1 hd ht (fun h => ?_) (fun h => ?_)
  · rw [if_neg h] at ha
    exact k2 a ha p e s m args below meth c H locs lsA cx hP hD hS hl (am_vs_t (am_vs_t hs))
  · rw [if_pos h] at ha
    exact k1 a ha p e s m args below meth c H locs lsA cx hP hD hS hl (am_vs_t (am_vs_t hs))
theorem am_icmp_neB {β : Type} {K : β → Option α} {x y : Int32} {off : Int} {tgt : Nat} {o1 o2 : Option β} (hd : decode q.2.1 pc = .ok (.if_icmp .ne off, 3)) (ht : (pc : Int) + off = (tgt : Int)) (k1 : am_R G d q g (pc + 3) ls st M (Option.bind o1 K)) (k2 : am_R G d q g tgt ls st M (Option.bind o2 K)) : am_R G d q g pc ls (am_i y :: am_i x :: st) M (Option.bind (if x = y then o1 else o2) K) := by
  intro a ha p e s m args below meth c H locs lsA cx hP hD hS hl hs
  refine lv_icmp_ne cx.1 cx.2.1 hd ht (fun h => ?_) (fun h => ?_)
  · rw [if_neg h] at ha
    exact k2 a ha p e s m args below meth c H locs lsA cx hP hD hS hl (am_vs_t (am_vs_t hs))
  · rw [if_pos h] at ha
    exact k1 a ha p e s m args below meth c H locs lsA cx hP hD hS hl (am_vs_t (am_vs_t hs))
theorem am_if_lt {x : Int32} {off : Int} {tgt : Nat} {o1 o2 : Option α} (hd : decode q.2.1 pc = .ok (.ifCond .lt off, 3)) (ht : (pc : Int) + off = (tgt : Int)) (k1 : am_R G d q g tgt ls st M o1) (k2 : am_R G d q g (pc + 3) ls st M o2) : am_R G d q g pc ls (am_i x :: st) M (if x < 0 then o1 else o2) := by
  intro a ha p e s m args below meth c H locs lsA cx hP hD hS hl hs
  refine lv_if_lt cx.1 cx.2.1 hd ht (fun h => ?_) (fun h => ?_)
  · rw [if_pos h] at ha
    exact k1 a ha p e s m args below meth c H locs lsA cx hP hD hS hl (am_vs_t hs)
  · rw [if_neg h] at ha
    exact k2 a ha p e s m args below meth c H locs lsA cx hP hD hS hl (am_vs_t hs)
theorem am_if_ltB {β : Type} {K : β → Option α} {x : Int32} {off : Int} {tgt : Nat} {o1 o2 : Option β} (hd : decode q.2.1 pc = .ok (.ifCond .lt off, 3)) (ht : (pc : Int) + off = (tgt : Int)) (k1 : am_R G d q g tgt ls st M (Option.bind o1 K)) (k2 : am_R G d q g (pc + 3) ls st M (Option.bind o2 K)) : am_R G d q g pc ls (am_i x :: st) M (Option.bind (if x < 0 then o1 else o2) K) := by
  intro a ha p e s m args below meth c H locs lsA cx hP hD hS hl hs
  refine lv_if_lt cx.1 cx.2.1 hd ht (fun h => ?_) (fun h => ?_)
  · rw [if_pos h] at ha
    exact k1 a ha p e s m args below meth c H locs lsA cx hP hD hS hl (am_vs_t hs)
  · rw [if_neg h] at ha
    exact k2 a ha p e s m args below meth c H locs lsA cx hP hD hS hl (am_vs_t hs)
theorem am_icmp_lt {x y : Int32} {off : Int} {tgt : Nat} {o1 o2 : Option α} (hd : decode q.2.1 pc = .ok (.if_icmp .lt off, 3)) (ht : (pc : Int) + off = (tgt : Int)) (k1 : am_R G d q g tgt ls st M o1) (k2 : am_R G d q g (pc + 3) ls st M o2) : am_R G d q g pc ls (am_i y :: am_i x :: st) M (if x < y then o1 else o2) := by
  intro a ha p e s m args below meth c H locs lsA cx hP hD hS hl hs
  refine lv_icmp_lt cx.1 cx.2.1 hd ht (fun h => ?_) (fun h => ?_)
  · rw [if_pos h] at ha
    exact k1 a ha p e s m args below meth c H locs lsA cx hP hD hS hl (am_vs_t (am_vs_t hs))
  · rw [if_neg h] at ha
    exact k2 a ha p e s m args below meth c H locs lsA cx hP hD hS hl (am_vs_t (am_vs_t hs))
theorem am_icmp_ltB {β : Type} {K : β → Option α} {x y : Int32} {off : Int} {tgt : Nat} {o1 o2 : Option β} (hd : decode q.2.1 pc = .ok (.if_icmp .lt off, 3)) (ht : (pc : Int) + off = (tgt : Int)) (k1 : am_R G d q g tgt ls st M (Option.bind o1 K)) (k2 : am_R G d q g (pc + 3) ls st M (Option.bind o2 K)) : am_R G d q g pc ls (am_i y :: am_i x :: st) M (Option.bind (if x < y then o1 else o2) K) := by
  intro a ha p e s m args below meth c H locs lsA cx hP hD hS hl hs
  refine lv_icmp_lt cx.1 cx.2.1 hd ht (fun h => ?_) (fun h => ?_)
  · rw [if_pos h] at ha
    exact k1 a ha p e s m args below meth c H locs lsA cx hP hD hS hl (am_vs_t (am_vs_t hs))
  · rw [if_neg h] at ha
    exact k2 a ha p e s m args below meth c H locs lsA cx hP hD hS hl (am_vs_t (am_vs_t hs))
theorem am_if_ge {x : Int32} {off : Int} {tgt : Nat} {o1 o2 : Option α} (hd : decode q.2.1 pc = .ok (.ifCond .ge off, 3)) (ht : (pc : Int) + off = (tgt : Int)) (k1 : am_R G d q g tgt ls st M o1) (k2 : am_R G d q g (pc + 3) ls st M o2) : am_R G d q g pc ls (am_i x :: st) M (if 0 ≤ x then o1 else o2) := by
  intro a ha p e s m args below meth c H locs lsA cx hP hD hS hl hs
  refine lv_if_ge cx.1 cx.2.1 hd ht (fun h => ?_) (fun h => ?_)
  · rw [if_pos h] at ha
    exact k1 a ha p e s m args below meth c H locs lsA cx hP hD hS hl (am_vs_t hs)
  · rw [if_neg h] at ha
    exact k2 a ha p e s m args below meth c H locs lsA cx hP hD hS hl (am_vs_t hs)
theorem am_if_geB {β : Type} {K : β → Option α} {x : Int32} {off : Int} {tgt : Nat} {o1 o2 : Option β} (hd : decode q.2.1 pc = .ok (.ifCond .ge off, 3)) (ht : (pc : Int) + off = (tgt : Int)) (k1 : am_R G d q g tgt ls st M (Option.bind o1 K)) (k2 : am_R G d q g (pc + 3) ls st M (Option.bind o2 K)) : am_R G d q g pc ls (am_i x :: st) M (Option.bind (if 0 ≤ x then o1 else o2) K) := by
  intro a ha p e s m args below meth c H locs lsA cx hP hD hS hl hs
  refine lv_if_ge cx.1 cx.2.1 hd ht (fun h => ?_) (fun h => ?_)
  · rw [if_pos h] at ha
    exact k1 a ha p e s m args below meth c H locs lsA cx hP hD hS hl (am_vs_t hs)
  · rw [if_neg h] at ha
    exact k2 a ha p e s m args below meth c H locs lsA cx hP hD hS hl (am_vs_t hs)
theorem am_icmp_ge {x y : Int32} {off : Int} {tgt : Nat} {o1 o2 : Option α} (hd : decode q.2.1 pc = .ok (.if_icmp .ge off, 3)) (ht : (pc : Int) + off = (tgt : Int)) (k1 : am_R G d q g tgt ls st M o1) (k2 : am_R G d q g (pc + 3) ls st M o2) : am_R G d q g pc ls (am_i y :: am_i x :: st) M (if y ≤ x then o1 else o2) := by
  intro a ha p e s m args below meth c H locs lsA cx hP hD hS hl hs
  refine lv_icmp_ge cx.1 cx.2.1 hd ht (fun h => ?_) (fun h => ?_)
  · rw [if_pos h] at ha
    exact k1 a ha p e s m args below meth c H locs lsA cx hP hD hS hl (am_vs_t (am_vs_t hs))
  · rw [if_neg h] at ha
    exact k2 a ha p e s m args below meth c H locs lsA cx hP hD hS hl (am_vs_t (am_vs_t hs))
theorem am_icmp_geB {β : Type} {K : β → Option α} {x y : Int32} {off : Int} {tgt : Nat} {o1 o2 : Option β} (hd : decode q.2.1 pc = .ok (.if_icmp .ge off, 3)) (ht : (pc : Int) + off = (tgt : Int)) (k1 : am_R G d q g tgt ls st M (Option.bind o1 K)) (k2 : am_R G d q g (pc + 3) ls st M (Option.bind o2 K)) : am_R G d q g pc ls (am_i y :: am_i x :: st) M (Option.bind (if y ≤ x then o1 else o2) K) := by
  intro a ha p e s m args below meth c H locs lsA cx hP hD hS hl hs
  refine lv_icmp_ge cx.1 cx.2.1 hd ht (fun h => ?_) (fun h => ?_)
  · rw [if_pos h] at ha
    exact k1 a ha p e s m args below meth c H locs lsA cx hP hD hS hl (am_vs_t (am_vs_t hs))
  · rw [if_neg h] at ha
    exact k2 a ha p e s m args below meth c H locs lsA cx hP hD hS hl (am_vs_t (am_vs_t hs))
theorem am_if_gt {x : Int32} {off : Int} {tgt : Nat} {o1 o2 : Option α} (hd : decode q.2.1 pc = .ok (.ifCond .gt off, 3)) (ht : (pc : Int) + off = (tgt : Int)) (k1 : am_R G d q g tgt ls st M o1) (k2 : am_R G d q g (pc + 3) ls st M o2) : am_R G d q g pc ls (am_i x :: st) M (if 0 < x then o1 else o2) := by
  intro a ha p e s m args below meth c H locs lsA cx hP hD hS hl hs
  refine lv_if_gt cx.1 cx.2.1 hd ht (fun h => ?_) (fun h => ?_)
  · rw [if_pos h] at ha
    exact k1 a ha p e s m args below meth c H locs lsA cx hP hD hS hl (am_vs_t hs)
  · rw [if_neg h] at ha
    exact k2 a ha p e s m args below meth c H locs lsA cx hP hD hS hl (am_vs_t hs)
theorem am_if_gtB {β : Type} {K : β → Option α} {x : Int32} {off : Int} {tgt : Nat} {o1 o2 : Option β} (hd : decode q.2.1 pc = .ok (.ifCond .gt off, 3)) (ht : (pc : Int) + off = (tgt : Int)) (k1 : am_R G d q g tgt ls st M (Option.bind o1 K)) (k2 : am_R G d q g (pc + 3) ls st M (Option.bind o2 K)) : am_R G d q g pc ls (am_i x :: st) M (Option.bind (if 0 < x then o1 else o2) K) := by
  intro a ha p e s m args below meth c H locs lsA cx hP hD hS hl hs
  refine lv_if_gt cx.1 cx.2.1 hd ht (fun h => ?_) (fun h => ?_)
  · rw [if_pos h] at ha
    exact k1 a ha p e s m args below meth c H locs lsA cx hP hD hS hl (am_vs_t hs)
  · rw [if_neg h] at ha
    exact k2 a ha p e s m args below meth c H locs lsA cx hP hD hS hl (am_vs_t hs)
theorem am_icmp_gt {x y : Int32} {off : Int} {tgt : Nat} {o1 o2 : Option α} (hd : decode q.2.1 pc = .ok (.if_icmp .gt off, 3)) (ht : (pc : Int) + off = (tgt : Int)) (k1 : am_R G d q g tgt ls st M o1) (k2 : am_R G d q g (pc + 3) ls st M o2) : am_R G d q g pc ls (am_i y :: am_i x :: st) M (if y < x then o1 else o2) := by
  intro a ha p e s m args below meth c H locs lsA cx hP hD hS hl hs
  refine lv_icmp_gt cx.1 cx.2.1 hd ht (fun h => ?_) (fun h => ?_)
  · rw [if_pos h] at ha
    exact k1 a ha p e s m args below meth c H locs lsA cx hP hD hS hl (am_vs_t (am_vs_t hs))
  · rw [if_neg h] at ha
    exact k2 a ha p e s m args below meth c H locs lsA cx hP hD hS hl (am_vs_t (am_vs_t hs))
theorem am_icmp_gtB {β : Type} {K : β → Option α} {x y : Int32} {off : Int} {tgt : Nat} {o1 o2 : Option β} (hd : decode q.2.1 pc = .ok (.if_icmp .gt off, 3)) (ht : (pc : Int) + off = (tgt : Int)) (k1 : am_R G d q g tgt ls st M (Option.bind o1 K)) (k2 : am_R G d q g (pc + 3) ls st M (Option.bind o2 K)) : am_R G d q g pc ls (am_i y :: am_i x :: st) M (Option.bind (if y < x then o1 else o2) K) := by
  intro a ha p e s m args below meth c H locs lsA cx hP hD hS hl hs
  refine lv_icmp_gt cx.1 cx.2.1 hd ht (fun h => ?_) (fun h => ?_)
  · rw [if_pos h] at ha
    exact k1 a ha p e s m args below meth c H locs lsA cx hP hD hS hl (am_vs_t (am_vs_t hs))
  · rw [if_neg h] at ha
    exact k2 a ha p e s m args below meth c H locs lsA cx hP hD hS hl (am_vs_t (am_vs_t hs))
theorem am_if_le {x : Int32} {off : Int} {tgt : Nat} {o1 o2 : Option α} (hd : decode q.2.1 pc = .ok (.ifCond .le off, 3)) (ht : (pc : Int) + off = (tgt : Int)) (k1 : am_R G d q g tgt ls st M o1) (k2 : am_R G d q g (pc + 3) ls st M o2) : am_R G d q g pc ls (am_i x :: st) M (if x ≤ 0 then o1 else o2) := by
  intro a ha p e s m args below meth c H locs lsA cx hP hD hS hl hs
  refine lv_if_le cx.1 cx.2.1 hd ht (fun h => ?_) (fun h => ?_)
  · rw [if_pos h] at ha
    exact k1 a ha p e s m args below meth c H locs lsA cx hP hD hS hl (am_vs_t hs)
  · rw [if_neg h] at ha
    exact k2 a ha p e s m args below meth c H locs lsA cx hP hD hS hl (am_vs_t hs)
theorem am_if_leB {β : Type} {K : β → Option α} {x : Int32} {off : Int} {tgt : Nat} {o1 o2 : Option β} (hd : decode q.2.1 pc = .ok (.ifCond .le off, 3)) (ht : (pc : Int) + off = (tgt : Int)) (k1 : am_R G d q g tgt ls st M (Option.bind o1 K)) (k2 : am_R G d q g (pc + 3) ls st M (Option.bind o2 K)) : am_R G d q g pc ls (am_i x :: st) M (Option.bind (if x ≤ 0 then o1 else o2) K) := by
  intro a ha p e s m args below meth c H locs lsA cx hP hD hS hl hs
  refine lv_if_le cx.1 cx.2.1 hd ht (fun h => ?_) (fun h => ?_)
  · rw [if_pos h] at ha
    exact k1 a ha p e s m args below meth c H locs lsA cx hP hD hS hl (am_vs_t hs)
  · rw [if_neg h] at ha
    exact k2 a ha p e s m args below meth c H locs lsA cx hP hD hS hl (am_vs_t hs)
theorem am_icmp_le {x y : Int32} {off : Int} {tgt : Nat} {o1 o2 : Option α} (hd : decode q.2.1 pc = .ok (.if_icmp .le off, 3)) (ht : (pc : Int) + off = (tgt : Int)) (k1 : am_R G d q g tgt ls st M o1) (k2 : am_R G d q g (pc + 3) ls st M o2) : am_R G d q g pc ls (am_i y :: am_i x :: st) M (if x ≤ y then o1 else o2) := by
  intro a ha p e s m args below meth c H locs lsA cx hP hD hS hl hs
  refine lv_icmp_le cx.1 cx.2.1 hd ht (fun h => ?_) (fun h => ?_)
  · rw [if_pos h] at ha
    exact k1 a ha p e s m args below meth c H locs lsA cx hP hD hS hl (am_vs_t (am_vs_t hs))
  · rw [if_neg h] at ha
    exact k2 a ha p e s m args below meth c H locs lsA cx hP hD hS hl (am_vs_t (am_vs_t hs))
theorem am_icmp_leB {β : Type} {K : β → Option α} {x y : Int32} {off : Int} {tgt : Nat} {o1 o2 : Option β} (hd : decode q.2.1 pc = .ok (.if_icmp .le off, 3)) (ht : (pc : Int) + off = (tgt : Int)) (k1 : am_R G d q g tgt ls st M (Option.bind o1 K)) (k2 : am_R G d q g (pc + 3) ls st M (Option.bind o2 K)) : am_R G d q g pc ls (am_i y :: am_i x :: st) M (Option.bind (if x ≤ y then o1 else o2) K) := by
  intro a ha p e s m args below meth c H locs lsA cx hP hD hS hl hs
  refine lv_icmp_le cx.1 cx.2.1 hd ht (fun h => ?_) (fun h => ?_)
  · rw [if_pos h] at ha
    exact k1 a ha p e s m args below meth c H locs lsA cx hP hD hS hl (am_vs_t (am_vs_t hs))
  · rw [if_neg h] at ha
    exact k2 a ha p e s m args below meth c H locs lsA cx hP hD hS hl (am_vs_t (am_vs_t hs))
theorem am_swI {dflt lo hi : Int} {offs : Array Int} {len : Nat} {x : Int32} {off : Int} {tgt : Nat} (v : Int32) (hv : x = v) (hd : decode q.2.1 pc = .ok (.tableswitch dflt lo hi offs, len)) (h1 : ¬ v.toInt < lo) (h2 : ¬ hi < v.toInt) (ho : offs[(v.toInt - lo).toNat]? = some off) (ht : (pc : Int) + off = (tgt : Int)) (kk : am_R G d q g tgt ls st M o) : am_R G d q g pc ls (am_i x :: st) M o := by
  subst hv
  exact am_lift (fun h => am_vs_t h) (fun p e s m args below meth c H locs lsA Q cx hl hs hP hD k => lv_tableIn cx.1 cx.2.1 hd h1 h2 ho ht k) kk
theorem am_swO {dflt lo hi : Int} {offs : Array Int} {len : Nat} {x : Int32} {tgt : Nat} (hd : decode q.2.1 pc = .ok (.tableswitch dflt lo hi offs, len)) (h : x.toInt < lo ∨ hi < x.toInt) (ht : (pc : Int) + dflt = (tgt : Int)) (kk : am_R G d q g tgt ls st M o) : am_R G d q g pc ls (am_i x :: st) M o :=
  am_lift (fun h => am_vs_t h) (fun p e s m args below meth c H locs lsA Q cx hl hs hP hD k => lv_tableOut cx.1 cx.2.1 hd h ht k) kk
/-! loops: a body F over what comes behind it -/
def am_it {σ β : Type} (F : (σ → Option β) → σ → Option β) : Nat → σ → Option β
  | 0, _ => none
  | n + 1, s => F (am_it F n) s
theorem am_loop {σ β : Type} {F : (σ → Option β) → σ → Option β} {K : β → Option α} {ls' : σ → List (Option am_V)} {st' : σ → List am_V} {M' : σ → am_M}
    (hs : ∀ rec : σ → Option β, (∀ s, am_R G d q g pc (ls' s) (st' s) (M' s) (Option.bind (rec s) K)) → ∀ s, am_R G d q g pc (ls' s) (st' s) (M' s) (Option.bind (F rec s) K)) : ∀ (n : Nat) (s : σ), am_R G d q g pc (ls' s) (st' s) (M' s) (Option.bind (am_it F n s) K) := by
  intro n
  induction n with
  | zero => exact fun s => am_none
  | succ n ih => exact fun s => hs (am_it F n) ih s
/-! ends -/
theorem am_iret {a : α} {v : Int32} (hd : decode q.2.1 pc = .ok (.ireturn, 1)) (hr : q.2.2.2 = some .int) (hg : g a = (some (am_i v), M)) : am_R G d q g pc ls [am_i v] M (some a) := by
  intro b hb p e s m args below meth c H locs lsA cx hP hD hS hl hs
  cases hb
  exact W.iret (v := v) cx.1 cx.2.1 (by rw [cx.2.2.1, hr]) (fun t ht hW => ⟨by rw [hg]; rfl, by rw [hg]; exact ⟨by rw [ht]; exact hP, hD, am_Kn_warm hW cx.2.2.2.2.2.2.2⟩, hS.F ht⟩) hS.2.2 hd cx.2.2.2.1
theorem am_lret {a : α} {v : Int64} (hd : decode q.2.1 pc = .ok (.lreturn, 1)) (hr : q.2.2.2 = some .long) (hg : g a = (some (am_l v), M)) : am_R G d q g pc ls [am_l v] M (some a) := by
  intro b hb p e s m args below meth c H locs lsA cx hP hD hS hl hs
  cases hb
  exact W.lret (v := v) cx.1 cx.2.1 (by rw [cx.2.2.1, hr]) (fun t ht hW => ⟨by rw [hg]; rfl, by rw [hg]; exact ⟨by rw [ht]; exact hP, hD, am_Kn_warm hW cx.2.2.2.2.2.2.2⟩, hS.F ht⟩) hS.2.2 hd cx.2.2.2.1
theorem am_vret {a : α} (hd : decode q.2.1 pc = .ok (.return_, 1)) (hr : q.2.2.2 = none) (hg : g a = (none, M)) : am_R G d q g pc ls [] M (some a) := by
  intro b hb p e s m args below meth c H locs lsA cx hP hD hS hl hs
  cases hb
  exact W.vret cx.1 cx.2.1 (by rw [cx.2.2.1, hr]) (fun t ht hW => ⟨by rw [hg]; rfl, by rw [hg]; exact ⟨by rw [ht]; exact hP, hD, am_Kn_warm hW cx.2.2.2.2.2.2.2⟩, hS.F ht⟩) hS.2.2 hd cx.2.2.2.1
theorem am_zret {a : α} {v : Int32} (hv : v = 0 ∨ v = 1) (hd : decode q.2.1 pc = .ok (.ireturn, 1)) (hr : q.2.2.2 = some .boolean) (hg : g a = (some (am_i v), M)) : am_R G d q g pc ls [am_i v] M (some a) := by
  intro b hb p e s m args below meth c H locs lsA cx hP hD hS hl hs
  cases hb
  exact W.zret (v := v) (ty := .boolean) cx.1 cx.2.1 (by rw [cx.2.2.1, hr]) (by rcases hv with rfl | rfl <;> rfl) (fun t ht hW => ⟨by rw [hg]; rfl, by rw [hg]; exact ⟨by rw [ht]; exact hP, hD, am_Kn_warm hW cx.2.2.2.2.2.2.2⟩, hS.F ht⟩) hS.2.2 hd cx.2.2.2.1
end AMR2
