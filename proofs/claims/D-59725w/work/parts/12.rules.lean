/-! RULES OF THE LAYER V, an instruction each -/
section RUL
variable {G : WG} {Y : MY} {d mc ms : Nat} {Φ : Rs → Hp → Prop} {pc : Nat} {lo : List (Option AV)} {st : List AV} {h : Hp} {k n : Nat}
theorem vv_iconst {v : Int32} {z : Int} (pc' : Nat) (hd : decode (yC Y) pc = .ok (.iconst z, 1)) (e : pc + 1 = pc') (hv : Int32.ofInt z = v) (kk : VV G Y d mc ms Φ pc' lo (aI v :: st) h k n) : VV G Y d mc ms Φ pc lo st h k n := by
  subst e
  intro p e s m args below meth c H locs cells slots ls A hP hS hk hn hl
  exact lv_iconst A.1 A.2.1 hd hv (kk p e s m args below meth c H locs cells slots ls A hP hS hk hn hl)
theorem vv_bipush {v : Int32} {z : Int} (pc' : Nat) (hd : decode (yC Y) pc = .ok (.bipush z, 2)) (e : pc + 2 = pc') (hv : (Int8.ofInt z).toInt32 = v) (kk : VV G Y d mc ms Φ pc' lo (aI v :: st) h k n) : VV G Y d mc ms Φ pc lo st h k n := by
  subst e
  intro p e s m args below meth c H locs cells slots ls A hP hS hk hn hl
  exact lv_bipush A.1 A.2.1 hd hv (kk p e s m args below meth c H locs cells slots ls A hP hS hk hn hl)
theorem vv_sipush {v : Int32} {z : Int} (pc' : Nat) (hd : decode (yC Y) pc = .ok (.sipush z, 3)) (e : pc + 3 = pc') (hv : (Int16.ofInt z).toInt32 = v) (kk : VV G Y d mc ms Φ pc' lo (aI v :: st) h k n) : VV G Y d mc ms Φ pc lo st h k n := by
  subst e
  intro p e s m args below meth c H locs cells slots ls A hP hS hk hn hl
  exact lv_sipush A.1 A.2.1 hd hv (kk p e s m args below meth c H locs cells slots ls A hP hS hk hn hl)
theorem vv_lconst {v : Int64} {z : Fin 2} (pc' : Nat) (hd : decode (yC Y) pc = .ok (.lconst z, 1)) (e : pc + 1 = pc') (hv : Int64.ofNat (z : Nat) = v) (kk : VV G Y d mc ms Φ pc' lo (aL v :: st) h k n) : VV G Y d mc ms Φ pc lo st h k n := by
  subst e
  intro p e s m args below meth c H locs cells slots ls A hP hS hk hn hl
  exact lv_lconst A.1 A.2.1 hd hv (kk p e s m args below meth c H locs cells slots ls A hP hS hk hn hl)
theorem vv_dconst0 (pc' : Nat) (hd : decode (yC Y) pc = .ok (.dconst 0, 1)) (e : pc + 1 = pc') (kk : VV G Y d mc ms Φ pc' lo (aD FP.dconst0 :: st) h k n) : VV G Y d mc ms Φ pc lo st h k n := by
  subst e
  intro p e s m args below meth c H locs cells slots ls A hP hS hk hn hl
  exact lv_dconst0 A.1 A.2.1 hd (kk p e s m args below meth c H locs cells slots ls A hP hS hk hn hl)
theorem vv_null (pc' : Nat) (hd : decode (yC Y) pc = .ok (.aconst_null, 1)) (e : pc + 1 = pc') (kk : VV G Y d mc ms Φ pc' lo (aR none :: st) h k n) : VV G Y d mc ms Φ pc lo st h k n := by
  subst e
  intro p e s m args below meth c H locs cells slots ls A hP hS hk hn hl
  exact lv_null A.1 A.2.1 hd (kk p e s m args below meth c H locs cells slots ls A hP hS hk hn hl)
theorem vv_ldc {v : Int32} {i : Nat} (pc' : Nat) (hd : decode (yC Y) pc = .ok (.ldc i, 2)) (e : pc + 2 = pc') (hc : Cond.constant (yN Y).cls i v ∈ lw_all) (kk : VV G Y d mc ms Φ pc' lo (aI v :: st) h k n) : VV G Y d mc ms Φ pc lo st h k n := by
  subst e
  intro p e s m args below meth c H locs cells slots ls A hP hS hk hn hl
  exact lv_ldc A.1 A.2.1 A.2.2.2.2.2.1 (A.2.2.2.2.2.2.1 _ hc) hd (kk p e s m args below meth c H locs cells slots ls A hP hS hk hn hl)
theorem vv_ldc2 {v : Int64} {i : Nat} (pc' : Nat) (hd : decode (yC Y) pc = .ok (.ldc2_w i, 3)) (e : pc + 3 = pc') (hc : Cond.constantLong (yN Y).cls i v ∈ lw_all) (kk : VV G Y d mc ms Φ pc' lo (aL v :: st) h k n) : VV G Y d mc ms Φ pc lo st h k n := by
  subst e
  intro p e s m args below meth c H locs cells slots ls A hP hS hk hn hl
  exact lv_ldc2 A.1 A.2.1 A.2.2.2.2.2.1 (A.2.2.2.2.2.2.1 _ hc) hd (kk p e s m args below meth c H locs cells slots ls A hP hS hk hn hl)
theorem vv_iload_n {x : Int32} {j : Fin 4} (pc' : Nat) (hd : decode (yC Y) pc = .ok (.iload_n j, 1)) (e : pc + 1 = pc') (hv : lo[(j : Nat)]? = some (some (aI x))) (kk : VV G Y d mc ms Φ pc' lo (aI x :: st) h k n) : VV G Y d mc ms Φ pc lo st h k n := by
  subst e
  intro p e s m args below meth c H locs cells slots ls A hP hS hk hn hl
  exact lv_iload_n A.1 A.2.1 hd rfl (lo_at hl hv) (kk p e s m args below meth c H locs cells slots ls A hP hS hk hn hl)
theorem vv_iload {x : Int32} {j : Nat} (pc' : Nat) (hd : decode (yC Y) pc = .ok (.iload j, 2)) (e : pc + 2 = pc') (hv : lo[j]? = some (some (aI x))) (kk : VV G Y d mc ms Φ pc' lo (aI x :: st) h k n) : VV G Y d mc ms Φ pc lo st h k n := by
  subst e
  intro p e s m args below meth c H locs cells slots ls A hP hS hk hn hl
  exact lv_iload A.1 A.2.1 hd (lo_at hl hv) (kk p e s m args below meth c H locs cells slots ls A hP hS hk hn hl)
theorem vv_lload_n {x : Int64} {j : Fin 4} (pc' : Nat) (hd : decode (yC Y) pc = .ok (.lload_n j, 1)) (e : pc + 1 = pc') (hv : lo[(j : Nat)]? = some (some (aL x))) (kk : VV G Y d mc ms Φ pc' lo (aL x :: st) h k n) : VV G Y d mc ms Φ pc lo st h k n := by
  subst e
  intro p e s m args below meth c H locs cells slots ls A hP hS hk hn hl
  exact lv_lload_n A.1 A.2.1 hd rfl (lo_at hl hv) (kk p e s m args below meth c H locs cells slots ls A hP hS hk hn hl)
theorem vv_lload {x : Int64} {j : Nat} (pc' : Nat) (hd : decode (yC Y) pc = .ok (.lload j, 2)) (e : pc + 2 = pc') (hv : lo[j]? = some (some (aL x))) (kk : VV G Y d mc ms Φ pc' lo (aL x :: st) h k n) : VV G Y d mc ms Φ pc lo st h k n := by
  subst e
  intro p e s m args below meth c H locs cells slots ls A hP hS hk hn hl
  exact lv_lload A.1 A.2.1 hd (lo_at hl hv) (kk p e s m args below meth c H locs cells slots ls A hP hS hk hn hl)
theorem vv_dload_n {x : UInt64} {j : Fin 4} (pc' : Nat) (hd : decode (yC Y) pc = .ok (.dload_n j, 1)) (e : pc + 1 = pc') (hv : lo[(j : Nat)]? = some (some (aD x))) (kk : VV G Y d mc ms Φ pc' lo (aD x :: st) h k n) : VV G Y d mc ms Φ pc lo st h k n := by
  subst e
  intro p e s m args below meth c H locs cells slots ls A hP hS hk hn hl
  exact lv_dload_n A.1 A.2.1 hd rfl (lo_at hl hv) (kk p e s m args below meth c H locs cells slots ls A hP hS hk hn hl)
theorem vv_dload {x : UInt64} {j : Nat} (pc' : Nat) (hd : decode (yC Y) pc = .ok (.dload j, 2)) (e : pc + 2 = pc') (hv : lo[j]? = some (some (aD x))) (kk : VV G Y d mc ms Φ pc' lo (aD x :: st) h k n) : VV G Y d mc ms Φ pc lo st h k n := by
  subst e
  intro p e s m args below meth c H locs cells slots ls A hP hS hk hn hl
  exact lv_dload A.1 A.2.1 hd (lo_at hl hv) (kk p e s m args below meth c H locs cells slots ls A hP hS hk hn hl)
theorem vv_aload_n {r : Option Nat} {j : Fin 4} (pc' : Nat) (hd : decode (yC Y) pc = .ok (.aload_n j, 1)) (e : pc + 1 = pc') (hv : lo[(j : Nat)]? = some (some (aR r))) (kk : VV G Y d mc ms Φ pc' lo (aR r :: st) h k n) : VV G Y d mc ms Φ pc lo st h k n := by
  subst e
  intro p e s m args below meth c H locs cells slots ls A hP hS hk hn hl
  cases r with
  | none => exact lv_aload_nN A.1 A.2.1 hd rfl (lo_at hl hv) (kk p e s m args below meth c H locs cells slots ls A hP hS hk hn hl)
  | some a => exact lv_aload_n A.1 A.2.1 hd rfl (lo_at hl hv) (kk p e s m args below meth c H locs cells slots ls A hP hS hk hn hl)
theorem vv_aload {r : Option Nat} {j : Nat} (pc' : Nat) (hd : decode (yC Y) pc = .ok (.aload j, 2)) (e : pc + 2 = pc') (hv : lo[j]? = some (some (aR r))) (kk : VV G Y d mc ms Φ pc' lo (aR r :: st) h k n) : VV G Y d mc ms Φ pc lo st h k n := by
  subst e
  intro p e s m args below meth c H locs cells slots ls A hP hS hk hn hl
  cases r with
  | none => exact lv_aloadN A.1 A.2.1 hd (lo_at hl hv) (kk p e s m args below meth c H locs cells slots ls A hP hS hk hn hl)
  | some a => exact lv_aload A.1 A.2.1 hd (lo_at hl hv) (kk p e s m args below meth c H locs cells slots ls A hP hS hk hn hl)
theorem vv_istore_n {x : Int32} {j : Fin 4} {lo' : List (Option AV)} (pc' : Nat) (hd : decode (yC Y) pc = .ok (.istore_n j, 1)) (e : pc + 1 = pc') (hi : (j : Nat) < yL Y) (el : lo_put lo (j : Nat) (aI x) = lo') (kk : VV G Y d mc ms Φ pc' lo' st h k n) : VV G Y d mc ms Φ pc lo (aI x :: st) h k n := by
  subst e
  subst el
  intro p e s m args below meth c H locs cells slots ls A hP hS hk hn hl
  exact lv_istore_n A.1 A.2.1 hd rfl (lo_has.mp hl) hi rfl (fun ls hl => kk p e s m args below meth c H locs cells slots ls A hP hS hk hn (lo_st1 rfl hl))
theorem vv_istore {x : Int32} {j : Nat} {lo' : List (Option AV)} (pc' : Nat) (hd : decode (yC Y) pc = .ok (.istore j, 2)) (e : pc + 2 = pc') (hi : j < yL Y) (el : lo_put lo j (aI x) = lo') (kk : VV G Y d mc ms Φ pc' lo' st h k n) : VV G Y d mc ms Φ pc lo (aI x :: st) h k n := by
  subst e
  subst el
  intro p e s m args below meth c H locs cells slots ls A hP hS hk hn hl
  exact lv_istore A.1 A.2.1 hd (lo_has.mp hl) hi rfl (fun ls hl => kk p e s m args below meth c H locs cells slots ls A hP hS hk hn (lo_st1 rfl hl))
theorem vv_lstore_n {x : Int64} {j : Fin 4} {lo' : List (Option AV)} (pc' : Nat) (hd : decode (yC Y) pc = .ok (.lstore_n j, 1)) (e : pc + 1 = pc') (hi : (j : Nat) + 1 < yL Y) (el : lo_put lo (j : Nat) (aL x) = lo') (kk : VV G Y d mc ms Φ pc' lo' st h k n) : VV G Y d mc ms Φ pc lo (aL x :: st) h k n := by
  subst e
  subst el
  intro p e s m args below meth c H locs cells slots ls A hP hS hk hn hl
  exact lv_lstore_n A.1 A.2.1 hd rfl (lo_has.mp hl) hi rfl (fun ls hl => kk p e s m args below meth c H locs cells slots ls A hP hS hk hn (lo_st2 rfl hl))
theorem vv_lstore {x : Int64} {j : Nat} {lo' : List (Option AV)} (pc' : Nat) (hd : decode (yC Y) pc = .ok (.lstore j, 2)) (e : pc + 2 = pc') (hi : j + 1 < yL Y) (el : lo_put lo j (aL x) = lo') (kk : VV G Y d mc ms Φ pc' lo' st h k n) : VV G Y d mc ms Φ pc lo (aL x :: st) h k n := by
  subst e
  subst el
  intro p e s m args below meth c H locs cells slots ls A hP hS hk hn hl
  exact lv_lstore A.1 A.2.1 hd (lo_has.mp hl) hi rfl (fun ls hl => kk p e s m args below meth c H locs cells slots ls A hP hS hk hn (lo_st2 rfl hl))
theorem vv_dstore_n {x : UInt64} {j : Fin 4} {lo' : List (Option AV)} (pc' : Nat) (hd : decode (yC Y) pc = .ok (.dstore_n j, 1)) (e : pc + 1 = pc') (hi : (j : Nat) + 1 < yL Y) (el : lo_put lo (j : Nat) (aD x) = lo') (kk : VV G Y d mc ms Φ pc' lo' st h k n) : VV G Y d mc ms Φ pc lo (aD x :: st) h k n := by
  subst e
  subst el
  intro p e s m args below meth c H locs cells slots ls A hP hS hk hn hl
  exact lv_dstore_n A.1 A.2.1 hd rfl (lo_has.mp hl) hi rfl (fun ls hl => kk p e s m args below meth c H locs cells slots ls A hP hS hk hn (lo_st2 rfl hl))
theorem vv_dstore {x : UInt64} {j : Nat} {lo' : List (Option AV)} (pc' : Nat) (hd : decode (yC Y) pc = .ok (.dstore j, 2)) (e : pc + 2 = pc') (hi : j + 1 < yL Y) (el : lo_put lo j (aD x) = lo') (kk : VV G Y d mc ms Φ pc' lo' st h k n) : VV G Y d mc ms Φ pc lo (aD x :: st) h k n := by
  subst e
  subst el
  intro p e s m args below meth c H locs cells slots ls A hP hS hk hn hl
  exact lv_dstore A.1 A.2.1 hd (lo_has.mp hl) hi rfl (fun ls hl => kk p e s m args below meth c H locs cells slots ls A hP hS hk hn (lo_st2 rfl hl))
theorem vv_astore_n {r : Option Nat} {j : Fin 4} {lo' : List (Option AV)} (pc' : Nat) (hd : decode (yC Y) pc = .ok (.astore_n j, 1)) (e : pc + 1 = pc') (hi : (j : Nat) < yL Y) (el : lo_put lo (j : Nat) (aR r) = lo') (kk : VV G Y d mc ms Φ pc' lo' st h k n) : VV G Y d mc ms Φ pc lo (aR r :: st) h k n := by
  subst e
  subst el
  intro p e s m args below meth c H locs cells slots ls A hP hS hk hn hl
  cases r with
  | none => exact lv_astore_nN A.1 A.2.1 hd rfl (lo_has.mp hl) hi rfl (fun ls hl => kk p e s m args below meth c H locs cells slots ls A hP hS hk hn (lo_st1 rfl hl))
  | some a => exact lv_astore_n A.1 A.2.1 hd rfl (lo_has.mp hl) hi rfl (fun ls hl => kk p e s m args below meth c H locs cells slots ls A hP hS hk hn (lo_st1 rfl hl))
theorem vv_astore {r : Option Nat} {j : Nat} {lo' : List (Option AV)} (pc' : Nat) (hd : decode (yC Y) pc = .ok (.astore j, 2)) (e : pc + 2 = pc') (hi : j < yL Y) (el : lo_put lo j (aR r) = lo') (kk : VV G Y d mc ms Φ pc' lo' st h k n) : VV G Y d mc ms Φ pc lo (aR r :: st) h k n := by
  subst e
  subst el
  intro p e s m args below meth c H locs cells slots ls A hP hS hk hn hl
  cases r with
  | none => exact lv_astoreN A.1 A.2.1 hd (lo_has.mp hl) hi rfl (fun ls hl => kk p e s m args below meth c H locs cells slots ls A hP hS hk hn (lo_st1 rfl hl))
  | some a => exact lv_astore A.1 A.2.1 hd (lo_has.mp hl) hi rfl (fun ls hl => kk p e s m args below meth c H locs cells slots ls A hP hS hk hn (lo_st1 rfl hl))
theorem vv_iinc {x v : Int32} {j : Nat} {z : Int} {lo' : List (Option AV)} (pc' : Nat) (hd : decode (yC Y) pc = .ok (.iinc j z, 3)) (e : pc + 3 = pc') (hi : j < yL Y) (hv : lo[j]? = some (some (aI x))) (hx : x + Int32.ofInt z = v) (el : lo_put lo j (aI v) = lo') (kk : VV G Y d mc ms Φ pc' lo' st h k n) : VV G Y d mc ms Φ pc lo st h k n := by
  subst e
  subst el
  intro p e s m args below meth c H locs cells slots ls A hP hS hk hn hl
  have hl2 : lv_has ls (yL Y) ((j, .int x) :: lo_l lo) := by
    refine ⟨hl.1, hl.2.1, fun q hq => ?_⟩
    rcases List.mem_cons.mp hq with rfl | hq
    · exact hl.2.2 j (aI x) hv
    · exact (lo_has.mp hl).2.2 q hq
  refine lv_iinc A.1 A.2.1 hd hl2 (k := 0) rfl hx hi rfl (fun ls hl => kk p e s m args below meth c H locs cells slots ls A hP hS hk hn (lo_st1 (v := aI v) rfl ⟨hl.1, hl.2.1, fun q hq => hl.2.2 q ?_⟩))
  rcases List.mem_cons.mp hq with rfl | hq
  · exact List.mem_cons_self
  · obtain ⟨h1, h2⟩ := List.mem_filter.mp hq
    exact List.mem_cons_of_mem _ (List.mem_filter.mpr ⟨List.mem_cons_of_mem _ h1, h2⟩)
theorem vv_iadd {x y : Int32} (pc' : Nat) (hd : decode (yC Y) pc = .ok (.iadd, 1)) (e : pc + 1 = pc') (kk : VV G Y d mc ms Φ pc' lo (aI (x + y) :: st) h k n) : VV G Y d mc ms Φ pc lo (aI y :: aI x :: st) h k n := by
  subst e
  intro p e s m args below meth c H locs cells slots ls A hP hS hk hn hl
  exact lv_iadd A.1 A.2.1 hd (kk p e s m args below meth c H locs cells slots ls A hP hS hk hn hl)
theorem vv_isub {x y : Int32} (pc' : Nat) (hd : decode (yC Y) pc = .ok (.isub, 1)) (e : pc + 1 = pc') (kk : VV G Y d mc ms Φ pc' lo (aI (x - y) :: st) h k n) : VV G Y d mc ms Φ pc lo (aI y :: aI x :: st) h k n := by
  subst e
  intro p e s m args below meth c H locs cells slots ls A hP hS hk hn hl
  exact lv_isub A.1 A.2.1 hd (kk p e s m args below meth c H locs cells slots ls A hP hS hk hn hl)
theorem vv_imul {x y : Int32} (pc' : Nat) (hd : decode (yC Y) pc = .ok (.imul, 1)) (e : pc + 1 = pc') (kk : VV G Y d mc ms Φ pc' lo (aI (x * y) :: st) h k n) : VV G Y d mc ms Φ pc lo (aI y :: aI x :: st) h k n := by
  subst e
  intro p e s m args below meth c H locs cells slots ls A hP hS hk hn hl
  exact lv_imul A.1 A.2.1 hd (kk p e s m args below meth c H locs cells slots ls A hP hS hk hn hl)
theorem vv_iand {x y : Int32} (pc' : Nat) (hd : decode (yC Y) pc = .ok (.iand, 1)) (e : pc + 1 = pc') (kk : VV G Y d mc ms Φ pc' lo (aI (x &&& y) :: st) h k n) : VV G Y d mc ms Φ pc lo (aI y :: aI x :: st) h k n := by
  subst e
  intro p e s m args below meth c H locs cells slots ls A hP hS hk hn hl
  exact lv_iand A.1 A.2.1 hd (kk p e s m args below meth c H locs cells slots ls A hP hS hk hn hl)
theorem vv_idiv {x y : Int32} (pc' : Nat) (hd : decode (yC Y) pc = .ok (.idiv, 1)) (e : pc + 1 = pc') (h0 : ¬ y = 0) (kk : VV G Y d mc ms Φ pc' lo (aI (x / y) :: st) h k n) : VV G Y d mc ms Φ pc lo (aI y :: aI x :: st) h k n := by
  subst e
  intro p e s m args below meth c H locs cells slots ls A hP hS hk hn hl
  exact lv_idiv A.1 A.2.1 hd h0 (kk p e s m args below meth c H locs cells slots ls A hP hS hk hn hl)
theorem vv_ishl {x y : Int32} (pc' : Nat) (hd : decode (yC Y) pc = .ok (.ishl, 1)) (e : pc + 1 = pc') (kk : VV G Y d mc ms Φ pc' lo (aI (x <<< (y &&& 31)) :: st) h k n) : VV G Y d mc ms Φ pc lo (aI y :: aI x :: st) h k n := by
  subst e
  intro p e s m args below meth c H locs cells slots ls A hP hS hk hn hl
  exact lv_ishl A.1 A.2.1 hd (kk p e s m args below meth c H locs cells slots ls A hP hS hk hn hl)
theorem vv_ishr {x y : Int32} (pc' : Nat) (hd : decode (yC Y) pc = .ok (.ishr, 1)) (e : pc + 1 = pc') (kk : VV G Y d mc ms Φ pc' lo (aI (x >>> (y &&& 31)) :: st) h k n) : VV G Y d mc ms Φ pc lo (aI y :: aI x :: st) h k n := by
  subst e
  intro p e s m args below meth c H locs cells slots ls A hP hS hk hn hl
  exact lv_ishr A.1 A.2.1 hd (kk p e s m args below meth c H locs cells slots ls A hP hS hk hn hl)
theorem vv_iushr {x y : Int32} (pc' : Nat) (hd : decode (yC Y) pc = .ok (.iushr, 1)) (e : pc + 1 = pc') (kk : VV G Y d mc ms Φ pc' lo (aI ((x.toUInt32 >>> (y.toUInt32 &&& Int32.toUInt32 31)).toInt32) :: st) h k n) : VV G Y d mc ms Φ pc lo (aI y :: aI x :: st) h k n := by
  subst e
  intro p e s m args below meth c H locs cells slots ls A hP hS hk hn hl
  exact lv_iushr A.1 A.2.1 hd rfl (kk p e s m args below meth c H locs cells slots ls A hP hS hk hn hl)
theorem vv_ineg {x : Int32} (pc' : Nat) (hd : decode (yC Y) pc = .ok (.ineg, 1)) (e : pc + 1 = pc') (kk : VV G Y d mc ms Φ pc' lo (aI (-x) :: st) h k n) : VV G Y d mc ms Φ pc lo (aI x :: st) h k n := by
  subst e
  intro p e s m args below meth c H locs cells slots ls A hP hS hk hn hl
  exact lv_ineg A.1 A.2.1 hd (kk p e s m args below meth c H locs cells slots ls A hP hS hk hn hl)
theorem vv_ladd {x y : Int64} (pc' : Nat) (hd : decode (yC Y) pc = .ok (.ladd, 1)) (e : pc + 1 = pc') (kk : VV G Y d mc ms Φ pc' lo (aL (x + y) :: st) h k n) : VV G Y d mc ms Φ pc lo (aL y :: aL x :: st) h k n := by
  subst e
  intro p e s m args below meth c H locs cells slots ls A hP hS hk hn hl
  exact lv_ladd A.1 A.2.1 hd (kk p e s m args below meth c H locs cells slots ls A hP hS hk hn hl)
theorem vv_lmul {x y : Int64} (pc' : Nat) (hd : decode (yC Y) pc = .ok (.lmul, 1)) (e : pc + 1 = pc') (kk : VV G Y d mc ms Φ pc' lo (aL (x * y) :: st) h k n) : VV G Y d mc ms Φ pc lo (aL y :: aL x :: st) h k n := by
  subst e
  intro p e s m args below meth c H locs cells slots ls A hP hS hk hn hl
  exact lv_lmul A.1 A.2.1 hd (kk p e s m args below meth c H locs cells slots ls A hP hS hk hn hl)
theorem vv_i2l {x : Int32} (pc' : Nat) (hd : decode (yC Y) pc = .ok (.i2l, 1)) (e : pc + 1 = pc') (kk : VV G Y d mc ms Φ pc' lo (aL x.toInt64 :: st) h k n) : VV G Y d mc ms Φ pc lo (aI x :: st) h k n := by
  subst e
  intro p e s m args below meth c H locs cells slots ls A hP hS hk hn hl
  exact lv_i2l A.1 A.2.1 hd rfl (kk p e s m args below meth c H locs cells slots ls A hP hS hk hn hl)
theorem vv_i2c {x : Int32} (pc' : Nat) (hd : decode (yC Y) pc = .ok (.i2c, 1)) (e : pc + 1 = pc') (kk : VV G Y d mc ms Φ pc' lo (aI ((x.toUInt32 % 65536).toInt32) :: st) h k n) : VV G Y d mc ms Φ pc lo (aI x :: st) h k n := by
  subst e
  intro p e s m args below meth c H locs cells slots ls A hP hS hk hn hl
  exact lv_i2c A.1 A.2.1 hd rfl (kk p e s m args below meth c H locs cells slots ls A hP hS hk hn hl)
theorem vv_i2b {x : Int32} (pc' : Nat) (hd : decode (yC Y) pc = .ok (.i2b, 1)) (e : pc + 1 = pc') (kk : VV G Y d mc ms Φ pc' lo (aI (x.toInt8.toInt32) :: st) h k n) : VV G Y d mc ms Φ pc lo (aI x :: st) h k n := by
  subst e
  intro p e s m args below meth c H locs cells slots ls A hP hS hk hn hl
  exact lv_i2b A.1 A.2.1 hd rfl (kk p e s m args below meth c H locs cells slots ls A hP hS hk hn hl)
theorem vv_i2d {x : Int32} (pc' : Nat) (hd : decode (yC Y) pc = .ok (.i2d, 1)) (e : pc + 1 = pc') (kk : VV G Y d mc ms Φ pc' lo (aD (FP.i2d x) :: st) h k n) : VV G Y d mc ms Φ pc lo (aI x :: st) h k n := by
  subst e
  intro p e s m args below meth c H locs cells slots ls A hP hS hk hn hl
  exact lv_i2d A.1 A.2.1 hd (kk p e s m args below meth c H locs cells slots ls A hP hS hk hn hl)
theorem vv_ddiv {x y : UInt64} (pc' : Nat) (hd : decode (yC Y) pc = .ok (.ddiv, 1)) (e : pc + 1 = pc') (h0 : vf_n64 (FP.ddiv x y)) (kk : VV G Y d mc ms Φ pc' lo (aD (FP.ddiv x y) :: st) h k n) : VV G Y d mc ms Φ pc lo (aD y :: aD x :: st) h k n := by
  subst e
  intro p e s m args below meth c H locs cells slots ls A hP hS hk hn hl
  exact lv_ddiv A.1 A.2.1 hd h0 (kk p e s m args below meth c H locs cells slots ls A hP hS hk hn hl)
theorem vv_dcmp {x y : UInt64} {op : CmpOp} (pc' : Nat) (hd : decode (yC Y) pc = .ok (.dcmp op, 1)) (e : pc + 1 = pc') (kk : VV G Y d mc ms Φ pc' lo (aI (Op.cmpValue (FP.dcmp x y) op) :: st) h k n) : VV G Y d mc ms Φ pc lo (aD y :: aD x :: st) h k n := by
  subst e
  intro p e s m args below meth c H locs cells slots ls A hP hS hk hn hl
  exact lv_dcmp A.1 A.2.1 hd (kk p e s m args below meth c H locs cells slots ls A hP hS hk hn hl)
theorem vv_lcmp {x y : Int64} (pc' : Nat) (hd : decode (yC Y) pc = .ok (.lcmp, 1)) (e : pc + 1 = pc') (kk : VV G Y d mc ms Φ pc' lo (aI (lg_cmp x y) :: st) h k n) : VV G Y d mc ms Φ pc lo (aL y :: aL x :: st) h k n := by
  subst e
  intro p e s m args below meth c H locs cells slots ls A hP hS hk hn hl
  exact W.lcmp A.1 A.2.1 hd (kk p e s m args below meth c H locs cells slots ls A hP hS hk hn hl)
theorem vv_dup {a : AV} (pc' : Nat) (hd : decode (yC Y) pc = .ok (.dup, 1)) (e : pc + 1 = pc') (ha : av_c a = 1) (kk : VV G Y d mc ms Φ pc' lo (a :: a :: st) h k n) : VV G Y d mc ms Φ pc lo (a :: st) h k n := by
  subst e
  intro p e s m args below meth c H locs cells slots ls A hP hS hk hn hl
  exact lv_dup A.1 A.2.1 hd (by rw [av_vc]; exact ha) (kk p e s m args below meth c H locs cells slots ls A hP hS hk hn hl)
theorem vv_pop {a : AV} (pc' : Nat) (hd : decode (yC Y) pc = .ok (.pop, 1)) (e : pc + 1 = pc') (ha : av_c a = 1) (kk : VV G Y d mc ms Φ pc' lo st h k n) : VV G Y d mc ms Φ pc lo (a :: st) h k n := by
  subst e
  intro p e s m args below meth c H locs cells slots ls A hP hS hk hn hl
  exact lv_pop A.1 A.2.1 hd (by rw [av_vc]; exact ha) (kk p e s m args below meth c H locs cells slots ls A hP hS hk hn hl)
theorem vv_dup_x1 {a b : AV} (pc' : Nat) (hd : decode (yC Y) pc = .ok (.dup_x1, 1)) (e : pc + 1 = pc') (ha : av_c a = 1) (hb : av_c b = 1) (kk : VV G Y d mc ms Φ pc' lo (a :: b :: a :: st) h k n) : VV G Y d mc ms Φ pc lo (a :: b :: st) h k n := by
  subst e
  intro p e s m args below meth c H locs cells slots ls A hP hS hk hn hl
  exact lv_dup_x1 A.1 A.2.1 hd (by rw [av_vc]; exact ha) (by rw [av_vc]; exact hb) (kk p e s m args below meth c H locs cells slots ls A hP hS hk hn hl)
theorem vv_dup2 {a b : AV} (pc' : Nat) (hd : decode (yC Y) pc = .ok (.dup2, 1)) (e : pc + 1 = pc') (ha : av_c a = 1) (hb : av_c b = 1) (kk : VV G Y d mc ms Φ pc' lo (a :: b :: a :: b :: st) h k n) : VV G Y d mc ms Φ pc lo (a :: b :: st) h k n := by
  subst e
  intro p e s m args below meth c H locs cells slots ls A hP hS hk hn hl
  exact lv_dup2_11 A.1 A.2.1 hd (by rw [av_vc]; exact ha) (by rw [av_vc]; exact hb) (kk p e s m args below meth c H locs cells slots ls A hP hS hk hn hl)
theorem vv_if_eq {x : Int32} {o : Int} (tgt pc' : Nat) (hd : decode (yC Y) pc = .ok (.ifCond .eq o, 3)) (ht : (pc : Int) + o = (tgt : Int)) (e : pc + 3 = pc') (kt : x = 0 → VV G Y d mc ms Φ tgt lo st h k n) (kf : ¬ x = 0 → VV G Y d mc ms Φ pc' lo st h k n) : VV G Y d mc ms Φ pc lo (aI x :: st) h k n := by
  subst e
  intro p e s m args below meth c H locs cells slots ls A hP hS hk hn hl
  exact lv_if_eq A.1 A.2.1 hd ht (fun cq => kt cq p e s m args below meth c H locs cells slots ls A hP hS hk hn hl) (fun cq => kf cq p e s m args below meth c H locs cells slots ls A hP hS hk hn hl)
theorem vv_if_ne {x : Int32} {o : Int} (tgt pc' : Nat) (hd : decode (yC Y) pc = .ok (.ifCond .ne o, 3)) (ht : (pc : Int) + o = (tgt : Int)) (e : pc + 3 = pc') (kt : ¬ x = 0 → VV G Y d mc ms Φ tgt lo st h k n) (kf : x = 0 → VV G Y d mc ms Φ pc' lo st h k n) : VV G Y d mc ms Φ pc lo (aI x :: st) h k n := by
  subst e
  intro p e s m args below meth c H locs cells slots ls A hP hS hk hn hl
  exact lv_if_ne A.1 A.2.1 hd ht (fun cq => kt cq p e s m args below meth c H locs cells slots ls A hP hS hk hn hl) (fun cq => kf cq p e s m args below meth c H locs cells slots ls A hP hS hk hn hl)
theorem vv_if_lt {x : Int32} {o : Int} (tgt pc' : Nat) (hd : decode (yC Y) pc = .ok (.ifCond .lt o, 3)) (ht : (pc : Int) + o = (tgt : Int)) (e : pc + 3 = pc') (kt : x < 0 → VV G Y d mc ms Φ tgt lo st h k n) (kf : ¬ x < 0 → VV G Y d mc ms Φ pc' lo st h k n) : VV G Y d mc ms Φ pc lo (aI x :: st) h k n := by
  subst e
  intro p e s m args below meth c H locs cells slots ls A hP hS hk hn hl
  exact lv_if_lt A.1 A.2.1 hd ht (fun cq => kt cq p e s m args below meth c H locs cells slots ls A hP hS hk hn hl) (fun cq => kf cq p e s m args below meth c H locs cells slots ls A hP hS hk hn hl)
theorem vv_if_ge {x : Int32} {o : Int} (tgt pc' : Nat) (hd : decode (yC Y) pc = .ok (.ifCond .ge o, 3)) (ht : (pc : Int) + o = (tgt : Int)) (e : pc + 3 = pc') (kt : 0 ≤ x → VV G Y d mc ms Φ tgt lo st h k n) (kf : ¬ 0 ≤ x → VV G Y d mc ms Φ pc' lo st h k n) : VV G Y d mc ms Φ pc lo (aI x :: st) h k n := by
  subst e
  intro p e s m args below meth c H locs cells slots ls A hP hS hk hn hl
  exact lv_if_ge A.1 A.2.1 hd ht (fun cq => kt cq p e s m args below meth c H locs cells slots ls A hP hS hk hn hl) (fun cq => kf cq p e s m args below meth c H locs cells slots ls A hP hS hk hn hl)
theorem vv_if_gt {x : Int32} {o : Int} (tgt pc' : Nat) (hd : decode (yC Y) pc = .ok (.ifCond .gt o, 3)) (ht : (pc : Int) + o = (tgt : Int)) (e : pc + 3 = pc') (kt : 0 < x → VV G Y d mc ms Φ tgt lo st h k n) (kf : ¬ 0 < x → VV G Y d mc ms Φ pc' lo st h k n) : VV G Y d mc ms Φ pc lo (aI x :: st) h k n := by
  subst e
  intro p e s m args below meth c H locs cells slots ls A hP hS hk hn hl
  exact lv_if_gt A.1 A.2.1 hd ht (fun cq => kt cq p e s m args below meth c H locs cells slots ls A hP hS hk hn hl) (fun cq => kf cq p e s m args below meth c H locs cells slots ls A hP hS hk hn hl)
theorem vv_if_le {x : Int32} {o : Int} (tgt pc' : Nat) (hd : decode (yC Y) pc = .ok (.ifCond .le o, 3)) (ht : (pc : Int) + o = (tgt : Int)) (e : pc + 3 = pc') (kt : x ≤ 0 → VV G Y d mc ms Φ tgt lo st h k n) (kf : ¬ x ≤ 0 → VV G Y d mc ms Φ pc' lo st h k n) : VV G Y d mc ms Φ pc lo (aI x :: st) h k n := by
  subst e
  intro p e s m args below meth c H locs cells slots ls A hP hS hk hn hl
  exact lv_if_le A.1 A.2.1 hd ht (fun cq => kt cq p e s m args below meth c H locs cells slots ls A hP hS hk hn hl) (fun cq => kf cq p e s m args below meth c H locs cells slots ls A hP hS hk hn hl)
theorem vv_icmp_eq {x y : Int32} {o : Int} (tgt pc' : Nat) (hd : decode (yC Y) pc = .ok (.if_icmp .eq o, 3)) (ht : (pc : Int) + o = (tgt : Int)) (e : pc + 3 = pc') (kt : x = y → VV G Y d mc ms Φ tgt lo st h k n) (kf : ¬ x = y → VV G Y d mc ms Φ pc' lo st h k n) : VV G Y d mc ms Φ pc lo (aI y :: aI x :: st) h k n := by
  subst e
  intro p e s m args below meth c H locs cells slots ls A hP hS hk hn hl
  exact lv_icmp_eq A.1 A.2.1 hd ht (fun cq => kt cq p e s m args below meth c H locs cells slots ls A hP hS hk hn hl) (fun cq => kf cq p e s m args below meth c H locs cells slots ls A hP hS hk hn hl)
theorem vv_icmp_ne {x y : Int32} {o : Int} (tgt pc' : Nat) (hd : decode (yC Y) pc = .ok (.if_icmp .ne o, 3)) (ht : (pc : Int) + o = (tgt : Int)) (e : pc + 3 = pc') (kt : ¬ x = y → VV G Y d mc ms Φ tgt lo st h k n) (kf : x = y → VV G Y d mc ms Φ pc' lo st h k n) : VV G Y d mc ms Φ pc lo (aI y :: aI x :: st) h k n := by
  subst e
  intro p e s m args below meth c H locs cells slots ls A hP hS hk hn hl
  exact lv_icmp_ne A.1 A.2.1 hd ht (fun cq => kt cq p e s m args below meth c H locs cells slots ls A hP hS hk hn hl) (fun cq => kf cq p e s m args below meth c H locs cells slots ls A hP hS hk hn hl)
theorem vv_icmp_lt {x y : Int32} {o : Int} (tgt pc' : Nat) (hd : decode (yC Y) pc = .ok (.if_icmp .lt o, 3)) (ht : (pc : Int) + o = (tgt : Int)) (e : pc + 3 = pc') (kt : x < y → VV G Y d mc ms Φ tgt lo st h k n) (kf : ¬ x < y → VV G Y d mc ms Φ pc' lo st h k n) : VV G Y d mc ms Φ pc lo (aI y :: aI x :: st) h k n := by
  subst e
  intro p e s m args below meth c H locs cells slots ls A hP hS hk hn hl
  exact lv_icmp_lt A.1 A.2.1 hd ht (fun cq => kt cq p e s m args below meth c H locs cells slots ls A hP hS hk hn hl) (fun cq => kf cq p e s m args below meth c H locs cells slots ls A hP hS hk hn hl)
theorem vv_icmp_ge {x y : Int32} {o : Int} (tgt pc' : Nat) (hd : decode (yC Y) pc = .ok (.if_icmp .ge o, 3)) (ht : (pc : Int) + o = (tgt : Int)) (e : pc + 3 = pc') (kt : y ≤ x → VV G Y d mc ms Φ tgt lo st h k n) (kf : ¬ y ≤ x → VV G Y d mc ms Φ pc' lo st h k n) : VV G Y d mc ms Φ pc lo (aI y :: aI x :: st) h k n := by
  subst e
  intro p e s m args below meth c H locs cells slots ls A hP hS hk hn hl
  exact lv_icmp_ge A.1 A.2.1 hd ht (fun cq => kt cq p e s m args below meth c H locs cells slots ls A hP hS hk hn hl) (fun cq => kf cq p e s m args below meth c H locs cells slots ls A hP hS hk hn hl)
theorem vv_icmp_gt {x y : Int32} {o : Int} (tgt pc' : Nat) (hd : decode (yC Y) pc = .ok (.if_icmp .gt o, 3)) (ht : (pc : Int) + o = (tgt : Int)) (e : pc + 3 = pc') (kt : y < x → VV G Y d mc ms Φ tgt lo st h k n) (kf : ¬ y < x → VV G Y d mc ms Φ pc' lo st h k n) : VV G Y d mc ms Φ pc lo (aI y :: aI x :: st) h k n := by
  subst e
  intro p e s m args below meth c H locs cells slots ls A hP hS hk hn hl
  exact lv_icmp_gt A.1 A.2.1 hd ht (fun cq => kt cq p e s m args below meth c H locs cells slots ls A hP hS hk hn hl) (fun cq => kf cq p e s m args below meth c H locs cells slots ls A hP hS hk hn hl)
theorem vv_icmp_le {x y : Int32} {o : Int} (tgt pc' : Nat) (hd : decode (yC Y) pc = .ok (.if_icmp .le o, 3)) (ht : (pc : Int) + o = (tgt : Int)) (e : pc + 3 = pc') (kt : x ≤ y → VV G Y d mc ms Φ tgt lo st h k n) (kf : ¬ x ≤ y → VV G Y d mc ms Φ pc' lo st h k n) : VV G Y d mc ms Φ pc lo (aI y :: aI x :: st) h k n := by
  subst e
  intro p e s m args below meth c H locs cells slots ls A hP hS hk hn hl
  exact lv_icmp_le A.1 A.2.1 hd ht (fun cq => kt cq p e s m args below meth c H locs cells slots ls A hP hS hk hn hl) (fun cq => kf cq p e s m args below meth c H locs cells slots ls A hP hS hk hn hl)
theorem vv_acmp_eq {x y : Option Nat} {o : Int} (tgt pc' : Nat) (hd : decode (yC Y) pc = .ok (.if_acmp .eq o, 3)) (ht : (pc : Int) + o = (tgt : Int)) (e : pc + 3 = pc') (kt : x = y → VV G Y d mc ms Φ tgt lo st h k n) (kf : ¬ x = y → VV G Y d mc ms Φ pc' lo st h k n) : VV G Y d mc ms Φ pc lo (aR y :: aR x :: st) h k n := by
  subst e
  intro p e s m args below meth c H locs cells slots ls A hP hS hk hn hl
  exact lv_acmp_eq A.1 A.2.1 hd ht (fun cq => kt cq p e s m args below meth c H locs cells slots ls A hP hS hk hn hl) (fun cq => kf cq p e s m args below meth c H locs cells slots ls A hP hS hk hn hl)
theorem vv_acmp_ne {x y : Option Nat} {o : Int} (tgt pc' : Nat) (hd : decode (yC Y) pc = .ok (.if_acmp .ne o, 3)) (ht : (pc : Int) + o = (tgt : Int)) (e : pc + 3 = pc') (kt : ¬ x = y → VV G Y d mc ms Φ tgt lo st h k n) (kf : x = y → VV G Y d mc ms Φ pc' lo st h k n) : VV G Y d mc ms Φ pc lo (aR y :: aR x :: st) h k n := by
  subst e
  intro p e s m args below meth c H locs cells slots ls A hP hS hk hn hl
  exact lv_acmp_ne A.1 A.2.1 hd ht (fun cq => kt cq p e s m args below meth c H locs cells slots ls A hP hS hk hn hl) (fun cq => kf cq p e s m args below meth c H locs cells slots ls A hP hS hk hn hl)
theorem vv_ifnull {r : Option Nat} {o : Int} (tgt pc' : Nat) (hd : decode (yC Y) pc = .ok (.ifnull o, 3)) (ht : (pc : Int) + o = (tgt : Int)) (e : pc + 3 = pc') (kt : r = none → VV G Y d mc ms Φ tgt lo st h k n) (kf : ∀ a, r = some a → VV G Y d mc ms Φ pc' lo st h k n) : VV G Y d mc ms Φ pc lo (aR r :: st) h k n := by
  subst e
  intro p e s m args below meth c H locs cells slots ls A hP hS hk hn hl
  cases r with
  | none => exact lv_ifnullN A.1 A.2.1 hd ht (kt rfl p e s m args below meth c H locs cells slots ls A hP hS hk hn hl)
  | some a => exact lv_ifnull A.1 A.2.1 hd (kf a rfl p e s m args below meth c H locs cells slots ls A hP hS hk hn hl)
theorem vv_ifnonnull {r : Option Nat} {o : Int} (tgt pc' : Nat) (hd : decode (yC Y) pc = .ok (.ifnonnull o, 3)) (ht : (pc : Int) + o = (tgt : Int)) (e : pc + 3 = pc') (kt : ∀ a, r = some a → VV G Y d mc ms Φ tgt lo st h k n) (kf : r = none → VV G Y d mc ms Φ pc' lo st h k n) : VV G Y d mc ms Φ pc lo (aR r :: st) h k n := by
  subst e
  intro p e s m args below meth c H locs cells slots ls A hP hS hk hn hl
  cases r with
  | none => exact lv_ifnonnullN A.1 A.2.1 hd (kf rfl p e s m args below meth c H locs cells slots ls A hP hS hk hn hl)
  | some a => exact lv_ifnonnull A.1 A.2.1 hd ht (kt a rfl p e s m args below meth c H locs cells slots ls A hP hS hk hn hl)
theorem vv_goto {o : Int} (tgt : Nat) (hd : decode (yC Y) pc = .ok (.goto o, 3)) (ht : (pc : Int) + o = (tgt : Int)) (kk : VV G Y d mc ms Φ tgt lo st h k n) : VV G Y d mc ms Φ pc lo st h k n := by
  intro p e s m args below meth c H locs cells slots ls A hP hS hk hn hl
  exact lv_goto A.1 A.2.1 hd ht (kk p e s m args below meth c H locs cells slots ls A hP hS hk hn hl)
theorem vv_tableIn {dflt lo0 hi0 : Int} {offs : Array Int} {len : Nat} {x : Int32} {off : Int} (tgt : Nat) (hd : decode (yC Y) pc = .ok (.tableswitch dflt lo0 hi0 offs, len)) (h1 : ¬ x.toInt < lo0) (h2 : ¬ hi0 < x.toInt) (ho : offs[(x.toInt - lo0).toNat]? = some off) (ht : (pc : Int) + off = (tgt : Int)) (kk : VV G Y d mc ms Φ tgt lo st h k n) : VV G Y d mc ms Φ pc lo (aI x :: st) h k n := by
  intro p e s m args below meth c H locs cells slots ls A hP hS hk hn hl
  exact lv_tableIn A.1 A.2.1 hd h1 h2 ho ht (kk p e s m args below meth c H locs cells slots ls A hP hS hk hn hl)
theorem vv_tableOut {dflt lo0 hi0 : Int} {offs : Array Int} {len : Nat} {x : Int32} (tgt : Nat) (hd : decode (yC Y) pc = .ok (.tableswitch dflt lo0 hi0 offs, len)) (h1 : x.toInt < lo0 ∨ hi0 < x.toInt) (ht : (pc : Int) + dflt = (tgt : Int)) (kk : VV G Y d mc ms Φ tgt lo st h k n) : VV G Y d mc ms Φ pc lo (aI x :: st) h k n := by
  intro p e s m args below meth c H locs cells slots ls A hP hS hk hn hl
  exact lv_tableOut A.1 A.2.1 hd h1 ht (kk p e s m args below meth c H locs cells slots ls A hP hS hk hn hl)
section RET
variable {x : Int32} {xl : Int64} {xd : UInt64} {r : Option Nat} {ty : FieldType}
theorem vv_iret (hd : decode (yC Y) pc = .ok (.ireturn, 1)) (hr : yR Y = some ty) (hw : narrow ty (.int x) = .int x) (hΦ : Φ (.inl (some (aI x))) h) : VV G Y d mc ms Φ pc lo [aI x] h k n := by
  intro p e s m args below meth c H locs cells slots ls A hP hS hk hn hl
  refine W.widen (k := mc) (n := ms) (by omega) (by omega) ?_
  exact vx_ret (W.zret A.1 A.2.1 (A.2.2.1.trans hr) hw (fun t ht hW => ⟨(some (aI x)), h, rfl, hΦ, by rw [ht]; exact hP, hS.F ht⟩) hS.2.2 hd A.2.2.2.1)
theorem vv_lret (hd : decode (yC Y) pc = .ok (.lreturn, 1)) (hr : yR Y = some .long) (hΦ : Φ (.inl (some (aL xl))) h) : VV G Y d mc ms Φ pc lo [aL xl] h k n := by
  intro p e s m args below meth c H locs cells slots ls A hP hS hk hn hl
  refine W.widen (k := mc) (n := ms) (by omega) (by omega) ?_
  exact vx_ret (W.lret A.1 A.2.1 (A.2.2.1.trans hr) (fun t ht hW => ⟨(some (aL xl)), h, rfl, hΦ, by rw [ht]; exact hP, hS.F ht⟩) hS.2.2 hd A.2.2.2.1)
theorem vv_dret (hd : decode (yC Y) pc = .ok (.dreturn, 1)) (hr : yR Y = some .double) (hΦ : Φ (.inl (some (aD xd))) h) : VV G Y d mc ms Φ pc lo [aD xd] h k n := by
  intro p e s m args below meth c H locs cells slots ls A hP hS hk hn hl
  refine W.widen (k := mc) (n := ms) (by omega) (by omega) ?_
  exact vx_ret (W.dret A.1 A.2.1 (A.2.2.1.trans hr) (fun t ht hW => ⟨(some (aD xd)), h, rfl, hΦ, by rw [ht]; exact hP, hS.F ht⟩) hS.2.2 hd A.2.2.2.1)
theorem vv_vret (hd : decode (yC Y) pc = .ok (.return_, 1)) (hr : yR Y = none) (hΦ : Φ (.inl none) h) : VV G Y d mc ms Φ pc lo [] h k n := by
  intro p e s m args below meth c H locs cells slots ls A hP hS hk hn hl
  refine W.widen (k := mc) (n := ms) (by omega) (by omega) ?_
  exact vx_ret (W.vret A.1 A.2.1 (A.2.2.1.trans hr) (fun t ht hW => ⟨none, h, rfl, hΦ, by rw [ht]; exact hP, hS.F ht⟩) hS.2.2 hd A.2.2.2.1)
theorem vv_aret (hd : decode (yC Y) pc = .ok (.areturn, 1)) (hr : yR Y = some ty) (hw : (∃ n, ty = .object n) ∨ ∃ t, ty = .array t) (hΦ : Φ (.inl (some (aR r))) h) : VV G Y d mc ms Φ pc lo [aR r] h k n := by
  intro p e s m args below meth c H locs cells slots ls A hP hS hk hn hl
  refine W.widen (k := mc) (n := ms) (by omega) (by omega) ?_
  exact vx_ret (W.aret A.1 A.2.1 (A.2.2.1.trans hr) hw (by cases r; exact Or.inl rfl; exact Or.inr ⟨_, rfl⟩) (fun t ht hW => ⟨(some (aR r)), h, rfl, hΦ, by rw [ht]; exact hP, hS.F ht⟩) hS.2.2 hd A.2.2.2.1)
end RET
end RUL
