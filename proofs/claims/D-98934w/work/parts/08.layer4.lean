/-! THE LAYER, 4: rows without the heap (printed by wip/D-98934w/gen/layer4.py) -/
theorem cz_lat {ls : Array Slot} {nL : Nat} {L : List (Nat × cz_v)} (hl : lv_has ls nL (cz_lm L)) {k i : Nat} {v : cz_v} (hk : L[k]? = some (i, v)) : ls[i]? = some (.val (cz_val v)) := lv_at hl k (by rw [List.getElem?_map, hk]; rfl)
def cz_flt (i : Nat) (q : Nat × cz_v) : Bool := !(q.1 == i) && !(q.1 + 1 == i && cz_cat q.2 == 2)
def cz_flt2 (i : Nat) (q : Nat × cz_v) : Bool := !(q.1 == i) && (!(q.1 == i + 1) && !(q.1 + 1 == i && cz_cat q.2 == 2))
theorem cz_store {i : Nat} {v : cz_v} {L L' : List (Nat × cz_v)} (h : (i, v) :: L.filter (cz_flt i) = L') : (i, cz_val v) :: (cz_lm L).filter (fun q => !(q.1 == i) && !(q.1 + 1 == i && q.2.category == 2)) = cz_lm L' := by
  subst h
  rw [List.filter_map]
  show _ = (i, cz_val v) :: cz_lm (L.filter (cz_flt i))
  congr 2
  apply List.filter_congr
  intro q _
  simp [cz_flt, cz_cat_val]
theorem cz_sub {ls : Array Slot} {nL : Nat} {L L' : List (Nat × cz_v)} (hl : lv_has ls nL (cz_lm L)) (ks : List Nat) (h : ks.filterMap (fun k => L[k]?) = L') : lv_has ls nL (cz_lm L') := by
  refine lv_sub hl ks ?_
  subst h
  unfold lv_pick
  induction ks with
  | nil => rfl
  | cons k ks ih =>
    rw [List.filterMap_cons, List.filterMap_cons, List.getElem?_map]
    cases L[k]? with
    | none => exact ih
    | some q =>
      show (q.1, cz_val q.2) :: _ = cz_lm (q :: _)
      rw [ih]
      rfl
section CZR
variable {K : cz_K} {D : cz_D} {d : Nat} {h0 : cz_H} {oh : cz_O × cz_H} {nL : Nat} {cc : ByteArray} {own nm : String} {ret : Option FieldType} {tb : List ExceptionTableEntry} {z z1 z2 : cz_Z} {h : cz_H} {pc : Nat} {L L' : List (Nat × cz_v)} {st : List cz_v}
theorem ct_none : cz_T K D d h0 oh nL none h pc L st := fun hz => by cases hz
theorem ct_sub (ks : List Nat) (hL : ks.filterMap (fun k => L[k]?) = L') (k : cz_T K D d h0 oh nL z h pc L' st) : cz_T K D d h0 oh nL z h pc L st := fun hz H locs ls hI hl => k hz H locs ls hI (cz_sub hl ks hL)
theorem ct_is {z' : cz_Z} (e : z = z') (k : cz_T K D d h0 oh nL z' h pc L st) : cz_T K D d h0 oh nL z h pc L st := e ▸ k
theorem ct_iconst {n : Int} {v : Int32} (S : cz_S K D h0 cc nL own ret nm tb) (dg : decode cc pc = .ok (.iconst n, 1)) (hv : Int32.ofInt n = v) (k : cz_T K D d h0 oh nL z h (pc + 1) L (cz_i v :: st)) : cz_T K D d h0 oh nL z h pc L (st) := fun hz H locs ls hI hl => lv_iconst S.1 S.2.1 dg hv (k hz H locs ls hI hl)
theorem ct_bipush {n : Int} {v : Int32} (S : cz_S K D h0 cc nL own ret nm tb) (dg : decode cc pc = .ok (.bipush n, 2)) (hv : (Int8.ofInt n).toInt32 = v) (k : cz_T K D d h0 oh nL z h (pc + 2) L (cz_i v :: st)) : cz_T K D d h0 oh nL z h pc L (st) := fun hz H locs ls hI hl => lv_bipush S.1 S.2.1 dg hv (k hz H locs ls hI hl)
theorem ct_sipush {n : Int} {v : Int32} (S : cz_S K D h0 cc nL own ret nm tb) (dg : decode cc pc = .ok (.sipush n, 3)) (hv : (Int16.ofInt n).toInt32 = v) (k : cz_T K D d h0 oh nL z h (pc + 3) L (cz_i v :: st)) : cz_T K D d h0 oh nL z h pc L (st) := fun hz H locs ls hI hl => lv_sipush S.1 S.2.1 dg hv (k hz H locs ls hI hl)
theorem ct_lconst {n : Fin 2} {v : Int64} (S : cz_S K D h0 cc nL own ret nm tb) (dg : decode cc pc = .ok (.lconst n, 1)) (hv : Int64.ofNat (n : Nat) = v) (k : cz_T K D d h0 oh nL z h (pc + 1) L (cz_j v :: st)) : cz_T K D d h0 oh nL z h pc L (st) := fun hz H locs ls hI hl => lv_lconst S.1 S.2.1 dg hv (k hz H locs ls hI hl)
theorem ct_null (S : cz_S K D h0 cc nL own ret nm tb) (dg : decode cc pc = .ok (.aconst_null, 1)) (k : cz_T K D d h0 oh nL z h (pc + 1) L (cz_r none :: st)) : cz_T K D d h0 oh nL z h pc L (st) := fun hz H locs ls hI hl => lv_null S.1 S.2.1 dg (k hz H locs ls hI hl)
theorem ct_ldc {idx : Nat} {v : Int32} (S : cz_S K D h0 cc nL own ret nm tb) (hc : Cond.constant own idx v ∈ lw_all) (dg : decode cc pc = .ok (.ldc idx, 2)) (k : cz_T K D d h0 oh nL z h (pc + 2) L (cz_i v :: st)) : cz_T K D d h0 oh nL z h pc L st := fun hz H locs ls hI hl => lv_ldc S.1 S.2.1 S.2.2.2.1 (S.2.2.2.2.1 _ hc) dg (k hz H locs ls hI hl)
theorem ct_ldc2 {idx : Nat} {v : Int64} (S : cz_S K D h0 cc nL own ret nm tb) (hc : Cond.constantLong own idx v ∈ lw_all) (dg : decode cc pc = .ok (.ldc2_w idx, 3)) (k : cz_T K D d h0 oh nL z h (pc + 3) L (cz_j v :: st)) : cz_T K D d h0 oh nL z h pc L st := fun hz H locs ls hI hl => lv_ldc2 S.1 S.2.1 S.2.2.2.1 (S.2.2.2.2.1 _ hc) dg (k hz H locs ls hI hl)
theorem ct_ldcw {idx : Nat} {v : Int32} (S : cz_S K D h0 cc nL own ret nm tb) (hc : Cond.constant own idx v ∈ lw_all) (dg : decode cc pc = .ok (.ldc_w idx, 3)) (k : cz_T K D d h0 oh nL z h (pc + 3) L (cz_i v :: st)) : cz_T K D d h0 oh nL z h pc L st := fun hz H locs ls hI hl => lv_ldcw S.1 S.2.1 S.2.2.2.1 (S.2.2.2.2.1 _ hc) dg (k hz H locs ls hI hl)
theorem ct_iload_n {f : Fin 4} {k i : Nat} {x : Int32} (S : cz_S K D h0 cc nL own ret nm tb) (dg : decode cc pc = .ok (.iload_n f, 1)) (hi : (f : Nat) = i) (hk : L[k]? = some (i, cz_i x)) (kk : cz_T K D d h0 oh nL z h (pc + 1) L (cz_i x :: st)) : cz_T K D d h0 oh nL z h pc L st := fun hz H locs ls hI hl => lv_iload_n S.1 S.2.1 dg hi (cz_lat hl hk) (kk hz H locs ls hI hl)
theorem ct_iload {k i : Nat} {x : Int32} (S : cz_S K D h0 cc nL own ret nm tb) (dg : decode cc pc = .ok (.iload i, 2)) (hk : L[k]? = some (i, cz_i x)) (kk : cz_T K D d h0 oh nL z h (pc + 2) L (cz_i x :: st)) : cz_T K D d h0 oh nL z h pc L st := fun hz H locs ls hI hl => lv_iload S.1 S.2.1 dg (cz_lat hl hk) (kk hz H locs ls hI hl)
theorem ct_lload_n {f : Fin 4} {k i : Nat} {x : Int64} (S : cz_S K D h0 cc nL own ret nm tb) (dg : decode cc pc = .ok (.lload_n f, 1)) (hi : (f : Nat) = i) (hk : L[k]? = some (i, cz_j x)) (kk : cz_T K D d h0 oh nL z h (pc + 1) L (cz_j x :: st)) : cz_T K D d h0 oh nL z h pc L st := fun hz H locs ls hI hl => lv_lload_n S.1 S.2.1 dg hi (cz_lat hl hk) (kk hz H locs ls hI hl)
theorem ct_lload {k i : Nat} {x : Int64} (S : cz_S K D h0 cc nL own ret nm tb) (dg : decode cc pc = .ok (.lload i, 2)) (hk : L[k]? = some (i, cz_j x)) (kk : cz_T K D d h0 oh nL z h (pc + 2) L (cz_j x :: st)) : cz_T K D d h0 oh nL z h pc L st := fun hz H locs ls hI hl => lv_lload S.1 S.2.1 dg (cz_lat hl hk) (kk hz H locs ls hI hl)
theorem ct_aload_n {f : Fin 4} {k i : Nat} {x : Option Nat} (S : cz_S K D h0 cc nL own ret nm tb) (dg : decode cc pc = .ok (.aload_n f, 1)) (hi : (f : Nat) = i) (hk : L[k]? = some (i, cz_r x)) (kk : cz_T K D d h0 oh nL z h (pc + 1) L (cz_r x :: st)) : cz_T K D d h0 oh nL z h pc L st := by
  intro hz H locs ls hI hl
  have hq := cz_lat hl hk
  have kk := kk hz H locs ls hI hl
  cases x with
  | none => exact lv_aload_nN S.1 S.2.1 dg hi hq kk
  | some a => exact lv_aload_n S.1 S.2.1 dg hi hq kk
theorem ct_aload {k i : Nat} {x : Option Nat} (S : cz_S K D h0 cc nL own ret nm tb) (dg : decode cc pc = .ok (.aload i, 2)) (hk : L[k]? = some (i, cz_r x)) (kk : cz_T K D d h0 oh nL z h (pc + 2) L (cz_r x :: st)) : cz_T K D d h0 oh nL z h pc L st := by
  intro hz H locs ls hI hl
  have hq := cz_lat hl hk
  have kk := kk hz H locs ls hI hl
  cases x with
  | none => exact lv_aloadN S.1 S.2.1 dg hq kk
  | some a => exact lv_aload S.1 S.2.1 dg hq kk
theorem ct_istore_n {f : Fin 4} {i : Nat} {x : Int32} (S : cz_S K D h0 cc nL own ret nm tb) (dg : decode cc pc = .ok (.istore_n f, 1)) (hi : (f : Nat) = i) (hn : i < nL) (hL : (i, cz_i x) :: L.filter (cz_flt i) = L') (kk : cz_T K D d h0 oh nL z h (pc + 1) L' st) : cz_T K D d h0 oh nL z h pc L (cz_i x :: st) := fun hz H locs ls hI hl => lv_istore_n S.1 S.2.1 dg hi hl hn (cz_store hL) (fun ls2 hl2 => kk hz H locs ls2 hI hl2)
theorem ct_istore {i : Nat} {x : Int32} (S : cz_S K D h0 cc nL own ret nm tb) (dg : decode cc pc = .ok (.istore i, 2)) (hn : i < nL) (hL : (i, cz_i x) :: L.filter (cz_flt i) = L') (kk : cz_T K D d h0 oh nL z h (pc + 2) L' st) : cz_T K D d h0 oh nL z h pc L (cz_i x :: st) := fun hz H locs ls hI hl => lv_istore S.1 S.2.1 dg hl hn (cz_store hL) (fun ls2 hl2 => kk hz H locs ls2 hI hl2)
theorem ct_astore_n {f : Fin 4} {i : Nat} {x : Option Nat} (S : cz_S K D h0 cc nL own ret nm tb) (dg : decode cc pc = .ok (.astore_n f, 1)) (hi : (f : Nat) = i) (hn : i < nL) (hL : (i, cz_r x) :: L.filter (cz_flt i) = L') (kk : cz_T K D d h0 oh nL z h (pc + 1) L' st) : cz_T K D d h0 oh nL z h pc L (cz_r x :: st) := by
  intro hz H locs ls hI hl
  have hs := cz_store hL
  cases x with
  | none => exact lv_astore_nN S.1 S.2.1 dg hi hl hn hs (fun ls2 hl2 => kk hz H locs ls2 hI hl2)
  | some a => exact lv_astore_n S.1 S.2.1 dg hi hl hn hs (fun ls2 hl2 => kk hz H locs ls2 hI hl2)
theorem ct_astore {i : Nat} {x : Option Nat} (S : cz_S K D h0 cc nL own ret nm tb) (dg : decode cc pc = .ok (.astore i, 2)) (hn : i < nL) (hL : (i, cz_r x) :: L.filter (cz_flt i) = L') (kk : cz_T K D d h0 oh nL z h (pc + 2) L' st) : cz_T K D d h0 oh nL z h pc L (cz_r x :: st) := by
  intro hz H locs ls hI hl
  have hs := cz_store hL
  cases x with
  | none => exact lv_astoreN S.1 S.2.1 dg hl hn hs (fun ls2 hl2 => kk hz H locs ls2 hI hl2)
  | some a => exact lv_astore S.1 S.2.1 dg hl hn hs (fun ls2 hl2 => kk hz H locs ls2 hI hl2)
theorem ct_iinc {i j : Nat} {n : Int} {x v : Int32} (S : cz_S K D h0 cc nL own ret nm tb) (dg : decode cc pc = .ok (.iinc i n, 3)) (hk : L[j]? = some (i, cz_i x)) (hv : x + Int32.ofInt n = v) (hn : i < nL) (hL : (i, cz_i v) :: L.filter (cz_flt i) = L') (kk : cz_T K D d h0 oh nL z h (pc + 3) L' st) : cz_T K D d h0 oh nL z h pc L st := fun hz H locs ls hI hl => lv_iinc (k := j) S.1 S.2.1 dg hl (by rw [List.getElem?_map, hk]; rfl) hv hn (cz_store hL) (fun ls2 hl2 => kk hz H locs ls2 hI hl2)
theorem ct_iadd {x y : Int32} (S : cz_S K D h0 cc nL own ret nm tb) (dg : decode cc pc = .ok (.iadd, 1)) (k : cz_T K D d h0 oh nL z h (pc + 1) L (cz_i (x + y) :: st)) : cz_T K D d h0 oh nL z h pc L (cz_i y :: cz_i x :: st) := fun hz H locs ls hI hl => lv_iadd S.1 S.2.1 dg (k hz H locs ls hI hl)
theorem ct_isub {x y : Int32} (S : cz_S K D h0 cc nL own ret nm tb) (dg : decode cc pc = .ok (.isub, 1)) (k : cz_T K D d h0 oh nL z h (pc + 1) L (cz_i (x - y) :: st)) : cz_T K D d h0 oh nL z h pc L (cz_i y :: cz_i x :: st) := fun hz H locs ls hI hl => lv_isub S.1 S.2.1 dg (k hz H locs ls hI hl)
theorem ct_imul {x y : Int32} (S : cz_S K D h0 cc nL own ret nm tb) (dg : decode cc pc = .ok (.imul, 1)) (k : cz_T K D d h0 oh nL z h (pc + 1) L (cz_i (x * y) :: st)) : cz_T K D d h0 oh nL z h pc L (cz_i y :: cz_i x :: st) := fun hz H locs ls hI hl => lv_imul S.1 S.2.1 dg (k hz H locs ls hI hl)
theorem ct_iand {x y : Int32} (S : cz_S K D h0 cc nL own ret nm tb) (dg : decode cc pc = .ok (.iand, 1)) (k : cz_T K D d h0 oh nL z h (pc + 1) L (cz_i (x &&& y) :: st)) : cz_T K D d h0 oh nL z h pc L (cz_i y :: cz_i x :: st) := fun hz H locs ls hI hl => lv_iand S.1 S.2.1 dg (k hz H locs ls hI hl)
theorem ct_ior {x y : Int32} (S : cz_S K D h0 cc nL own ret nm tb) (dg : decode cc pc = .ok (.ior, 1)) (k : cz_T K D d h0 oh nL z h (pc + 1) L (cz_i (x ||| y) :: st)) : cz_T K D d h0 oh nL z h pc L (cz_i y :: cz_i x :: st) := fun hz H locs ls hI hl => lv_ior S.1 S.2.1 dg (k hz H locs ls hI hl)
theorem ct_ixor {x y : Int32} (S : cz_S K D h0 cc nL own ret nm tb) (dg : decode cc pc = .ok (.ixor, 1)) (k : cz_T K D d h0 oh nL z h (pc + 1) L (cz_i (x ^^^ y) :: st)) : cz_T K D d h0 oh nL z h pc L (cz_i y :: cz_i x :: st) := fun hz H locs ls hI hl => lv_ixor S.1 S.2.1 dg (k hz H locs ls hI hl)
theorem ct_ishl {x y : Int32} (S : cz_S K D h0 cc nL own ret nm tb) (dg : decode cc pc = .ok (.ishl, 1)) (k : cz_T K D d h0 oh nL z h (pc + 1) L (cz_i (x <<< (y &&& 31)) :: st)) : cz_T K D d h0 oh nL z h pc L (cz_i y :: cz_i x :: st) := fun hz H locs ls hI hl => lv_ishl S.1 S.2.1 dg (k hz H locs ls hI hl)
theorem ct_ishr {x y : Int32} (S : cz_S K D h0 cc nL own ret nm tb) (dg : decode cc pc = .ok (.ishr, 1)) (k : cz_T K D d h0 oh nL z h (pc + 1) L (cz_i (x >>> (y &&& 31)) :: st)) : cz_T K D d h0 oh nL z h pc L (cz_i y :: cz_i x :: st) := fun hz H locs ls hI hl => lv_ishr S.1 S.2.1 dg (k hz H locs ls hI hl)
theorem ct_lor {x y : Int64} (S : cz_S K D h0 cc nL own ret nm tb) (dg : decode cc pc = .ok (.lor, 1)) (k : cz_T K D d h0 oh nL z h (pc + 1) L (cz_j (x ||| y) :: st)) : cz_T K D d h0 oh nL z h pc L (cz_j y :: cz_j x :: st) := fun hz H locs ls hI hl => lv_lor S.1 S.2.1 dg (k hz H locs ls hI hl)
theorem ct_iushr {x y : Int32} (S : cz_S K D h0 cc nL own ret nm tb) (dg : decode cc pc = .ok (.iushr, 1)) (k : cz_T K D d h0 oh nL z h (pc + 1) L (cz_i ((x.toUInt32 >>> (y.toUInt32 &&& Int32.toUInt32 31)).toInt32) :: st)) : cz_T K D d h0 oh nL z h pc L (cz_i y :: cz_i x :: st) := fun hz H locs ls hI hl => lv_iushr S.1 S.2.1 dg rfl (k hz H locs ls hI hl)
theorem ct_lshl {x : Int64} {y : Int32} (S : cz_S K D h0 cc nL own ret nm tb) (dg : decode cc pc = .ok (.lshl, 1)) (k : cz_T K D d h0 oh nL z h (pc + 1) L (cz_j (x <<< (y.toInt64 &&& 63)) :: st)) : cz_T K D d h0 oh nL z h pc L (cz_i y :: cz_j x :: st) := fun hz H locs ls hI hl => lv_lshl S.1 S.2.1 dg rfl (k hz H locs ls hI hl)
theorem ct_i2l {x : Int32} (S : cz_S K D h0 cc nL own ret nm tb) (dg : decode cc pc = .ok (.i2l, 1)) (k : cz_T K D d h0 oh nL z h (pc + 1) L (cz_j x.toInt64 :: st)) : cz_T K D d h0 oh nL z h pc L (cz_i x :: st) := fun hz H locs ls hI hl => lv_i2l S.1 S.2.1 dg rfl (k hz H locs ls hI hl)
theorem ct_i2b {x : Int32} (S : cz_S K D h0 cc nL own ret nm tb) (dg : decode cc pc = .ok (.i2b, 1)) (k : cz_T K D d h0 oh nL z h (pc + 1) L (cz_i x.toInt8.toInt32 :: st)) : cz_T K D d h0 oh nL z h pc L (cz_i x :: st) := fun hz H locs ls hI hl => lv_i2b S.1 S.2.1 dg rfl (k hz H locs ls hI hl)
theorem ct_i2c {x : Int32} (S : cz_S K D h0 cc nL own ret nm tb) (dg : decode cc pc = .ok (.i2c, 1)) (k : cz_T K D d h0 oh nL z h (pc + 1) L (cz_i (x.toUInt32 % 65536).toInt32 :: st)) : cz_T K D d h0 oh nL z h pc L (cz_i x :: st) := fun hz H locs ls hI hl => lv_i2c S.1 S.2.1 dg rfl (k hz H locs ls hI hl)
theorem ct_lcmp {x y : Int64} (S : cz_S K D h0 cc nL own ret nm tb) (dg : decode cc pc = .ok (.lcmp, 1)) (k : cz_T K D d h0 oh nL z h (pc + 1) L (cz_i (lg_cmp x y) :: st)) : cz_T K D d h0 oh nL z h pc L (cz_j y :: cz_j x :: st) := fun hz H locs ls hI hl => W.lcmp S.1 S.2.1 dg (k hz H locs ls hI hl)
theorem ct_irem {x y : Int32} (S : cz_S K D h0 cc nL own ret nm tb) (dg : decode cc pc = .ok (.irem, 1)) (k : cz_T K D d h0 oh nL z h (pc + 1) L (cz_i (x - x / y * y) :: st)) : cz_T K D d h0 oh nL (if y = 0 then none else z) h pc L (cz_i y :: cz_i x :: st) := by
  intro hz H locs ls hI hl
  by_cases hy : y = 0
  · rw [if_pos hy] at hz; cases hz
  · rw [if_neg hy] at hz
    exact lv_irem S.1 S.2.1 dg hy (k hz H locs ls hI hl)
theorem ct_dup {a : cz_v} (S : cz_S K D h0 cc nL own ret nm tb) (dg : decode cc pc = .ok (.dup, 1)) (ha : cz_cat a = 1) (k : cz_T K D d h0 oh nL z h (pc + 1) L (a :: a :: st)) : cz_T K D d h0 oh nL z h pc L (a :: st) := fun hz H locs ls hI hl => lv_dup S.1 S.2.1 dg (by rw [cz_cat_val]; exact ha) (k hz H locs ls hI hl)
theorem ct_pop {a : cz_v} (S : cz_S K D h0 cc nL own ret nm tb) (dg : decode cc pc = .ok (.pop, 1)) (ha : cz_cat a = 1) (k : cz_T K D d h0 oh nL z h (pc + 1) L (st)) : cz_T K D d h0 oh nL z h pc L (a :: st) := fun hz H locs ls hI hl => lv_pop S.1 S.2.1 dg (by rw [cz_cat_val]; exact ha) (k hz H locs ls hI hl)
theorem ct_dup_x1 {a b : cz_v} (S : cz_S K D h0 cc nL own ret nm tb) (dg : decode cc pc = .ok (.dup_x1, 1)) (ha : cz_cat a = 1) (hb : cz_cat b = 1) (k : cz_T K D d h0 oh nL z h (pc + 1) L (a :: b :: a :: st)) : cz_T K D d h0 oh nL z h pc L (a :: b :: st) := fun hz H locs ls hI hl => lv_dup_x1 S.1 S.2.1 dg (by rw [cz_cat_val]; exact ha) (by rw [cz_cat_val]; exact hb) (k hz H locs ls hI hl)
theorem ct_dup2 {a b : cz_v} (S : cz_S K D h0 cc nL own ret nm tb) (dg : decode cc pc = .ok (.dup2, 1)) (ha : cz_cat a = 1) (hb : cz_cat b = 1) (k : cz_T K D d h0 oh nL z h (pc + 1) L (a :: b :: a :: b :: st)) : cz_T K D d h0 oh nL z h pc L (a :: b :: st) := fun hz H locs ls hI hl => lv_dup2_11 S.1 S.2.1 dg (by rw [cz_cat_val]; exact ha) (by rw [cz_cat_val]; exact hb) (k hz H locs ls hI hl)
theorem ct_topi {x : Int32} {f : Int32 → cz_Z} (k : ∀ y : Int32, cz_T K D d h0 oh nL (f y) h pc L (cz_i y :: st)) : cz_T K D d h0 oh nL (f x) h pc L (cz_i x :: st) := k x
theorem ct_icmp_ne {x y : Int32} {off : Int} {tgt : Nat} (S : cz_S K D h0 cc nL own ret nm tb) (dg : decode cc pc = .ok (.if_icmp .ne off, 3)) (ht : (pc : Int) + off = (tgt : Int)) (kt : cz_T K D d h0 oh nL z1 h tgt L st) (kf : cz_T K D d h0 oh nL z2 h (pc + 3) L st) : cz_T K D d h0 oh nL (if x = y then z2 else z1) h pc L (cz_i y :: cz_i x :: st) := fun hz H locs ls hI hl => lv_icmp_ne S.1 S.2.1 dg ht (fun c => kt (by rw [if_neg c] at hz; exact hz) H locs ls hI hl) (fun c => kf (by rw [if_pos c] at hz; exact hz) H locs ls hI hl)
theorem ct_if_ne {x : Int32} {off : Int} {tgt : Nat} (S : cz_S K D h0 cc nL own ret nm tb) (dg : decode cc pc = .ok (.ifCond .ne off, 3)) (ht : (pc : Int) + off = (tgt : Int)) (kt : cz_T K D d h0 oh nL z1 h tgt L st) (kf : cz_T K D d h0 oh nL z2 h (pc + 3) L st) : cz_T K D d h0 oh nL (if x = 0 then z2 else z1) h pc L (cz_i x :: st) := fun hz H locs ls hI hl => lv_if_ne S.1 S.2.1 dg ht (fun c => kt (by rw [if_neg c] at hz; exact hz) H locs ls hI hl) (fun c => kf (by rw [if_pos c] at hz; exact hz) H locs ls hI hl)
theorem ct_acmp_ne {x y : Option Nat} {off : Int} {tgt : Nat} (S : cz_S K D h0 cc nL own ret nm tb) (dg : decode cc pc = .ok (.if_acmp .ne off, 3)) (ht : (pc : Int) + off = (tgt : Int)) (kt : cz_T K D d h0 oh nL z1 h tgt L st) (kf : cz_T K D d h0 oh nL z2 h (pc + 3) L st) : cz_T K D d h0 oh nL (if x = y then z2 else z1) h pc L (cz_r y :: cz_r x :: st) := fun hz H locs ls hI hl => lv_acmp_ne S.1 S.2.1 dg ht (fun c => kt (by rw [if_neg c] at hz; exact hz) H locs ls hI hl) (fun c => kf (by rw [if_pos c] at hz; exact hz) H locs ls hI hl)
theorem ct_icmp_eq {x y : Int32} {off : Int} {tgt : Nat} (S : cz_S K D h0 cc nL own ret nm tb) (dg : decode cc pc = .ok (.if_icmp .eq off, 3)) (ht : (pc : Int) + off = (tgt : Int)) (kt : cz_T K D d h0 oh nL z1 h tgt L st) (kf : cz_T K D d h0 oh nL z2 h (pc + 3) L st) : cz_T K D d h0 oh nL (if x = y then z1 else z2) h pc L (cz_i y :: cz_i x :: st) := fun hz H locs ls hI hl => lv_icmp_eq S.1 S.2.1 dg ht (fun c => kt (by rw [if_pos c] at hz; exact hz) H locs ls hI hl) (fun c => kf (by rw [if_neg c] at hz; exact hz) H locs ls hI hl)
theorem ct_icmp_lt {x y : Int32} {off : Int} {tgt : Nat} (S : cz_S K D h0 cc nL own ret nm tb) (dg : decode cc pc = .ok (.if_icmp .lt off, 3)) (ht : (pc : Int) + off = (tgt : Int)) (kt : cz_T K D d h0 oh nL z1 h tgt L st) (kf : cz_T K D d h0 oh nL z2 h (pc + 3) L st) : cz_T K D d h0 oh nL (if x < y then z1 else z2) h pc L (cz_i y :: cz_i x :: st) := fun hz H locs ls hI hl => lv_icmp_lt S.1 S.2.1 dg ht (fun c => kt (by rw [if_pos c] at hz; exact hz) H locs ls hI hl) (fun c => kf (by rw [if_neg c] at hz; exact hz) H locs ls hI hl)
theorem ct_icmp_ge {x y : Int32} {off : Int} {tgt : Nat} (S : cz_S K D h0 cc nL own ret nm tb) (dg : decode cc pc = .ok (.if_icmp .ge off, 3)) (ht : (pc : Int) + off = (tgt : Int)) (kt : cz_T K D d h0 oh nL z1 h tgt L st) (kf : cz_T K D d h0 oh nL z2 h (pc + 3) L st) : cz_T K D d h0 oh nL (if y ≤ x then z1 else z2) h pc L (cz_i y :: cz_i x :: st) := fun hz H locs ls hI hl => lv_icmp_ge S.1 S.2.1 dg ht (fun c => kt (by rw [if_pos c] at hz; exact hz) H locs ls hI hl) (fun c => kf (by rw [if_neg c] at hz; exact hz) H locs ls hI hl)
theorem ct_icmp_gt {x y : Int32} {off : Int} {tgt : Nat} (S : cz_S K D h0 cc nL own ret nm tb) (dg : decode cc pc = .ok (.if_icmp .gt off, 3)) (ht : (pc : Int) + off = (tgt : Int)) (kt : cz_T K D d h0 oh nL z1 h tgt L st) (kf : cz_T K D d h0 oh nL z2 h (pc + 3) L st) : cz_T K D d h0 oh nL (if y < x then z1 else z2) h pc L (cz_i y :: cz_i x :: st) := fun hz H locs ls hI hl => lv_icmp_gt S.1 S.2.1 dg ht (fun c => kt (by rw [if_pos c] at hz; exact hz) H locs ls hI hl) (fun c => kf (by rw [if_neg c] at hz; exact hz) H locs ls hI hl)
theorem ct_icmp_le {x y : Int32} {off : Int} {tgt : Nat} (S : cz_S K D h0 cc nL own ret nm tb) (dg : decode cc pc = .ok (.if_icmp .le off, 3)) (ht : (pc : Int) + off = (tgt : Int)) (kt : cz_T K D d h0 oh nL z1 h tgt L st) (kf : cz_T K D d h0 oh nL z2 h (pc + 3) L st) : cz_T K D d h0 oh nL (if x ≤ y then z1 else z2) h pc L (cz_i y :: cz_i x :: st) := fun hz H locs ls hI hl => lv_icmp_le S.1 S.2.1 dg ht (fun c => kt (by rw [if_pos c] at hz; exact hz) H locs ls hI hl) (fun c => kf (by rw [if_neg c] at hz; exact hz) H locs ls hI hl)
theorem ct_if_eq {x : Int32} {off : Int} {tgt : Nat} (S : cz_S K D h0 cc nL own ret nm tb) (dg : decode cc pc = .ok (.ifCond .eq off, 3)) (ht : (pc : Int) + off = (tgt : Int)) (kt : cz_T K D d h0 oh nL z1 h tgt L st) (kf : cz_T K D d h0 oh nL z2 h (pc + 3) L st) : cz_T K D d h0 oh nL (if x = 0 then z1 else z2) h pc L (cz_i x :: st) := fun hz H locs ls hI hl => lv_if_eq S.1 S.2.1 dg ht (fun c => kt (by rw [if_pos c] at hz; exact hz) H locs ls hI hl) (fun c => kf (by rw [if_neg c] at hz; exact hz) H locs ls hI hl)
theorem ct_if_lt {x : Int32} {off : Int} {tgt : Nat} (S : cz_S K D h0 cc nL own ret nm tb) (dg : decode cc pc = .ok (.ifCond .lt off, 3)) (ht : (pc : Int) + off = (tgt : Int)) (kt : cz_T K D d h0 oh nL z1 h tgt L st) (kf : cz_T K D d h0 oh nL z2 h (pc + 3) L st) : cz_T K D d h0 oh nL (if x < 0 then z1 else z2) h pc L (cz_i x :: st) := fun hz H locs ls hI hl => lv_if_lt S.1 S.2.1 dg ht (fun c => kt (by rw [if_pos c] at hz; exact hz) H locs ls hI hl) (fun c => kf (by rw [if_neg c] at hz; exact hz) H locs ls hI hl)
theorem ct_if_ge {x : Int32} {off : Int} {tgt : Nat} (S : cz_S K D h0 cc nL own ret nm tb) (dg : decode cc pc = .ok (.ifCond .ge off, 3)) (ht : (pc : Int) + off = (tgt : Int)) (kt : cz_T K D d h0 oh nL z1 h tgt L st) (kf : cz_T K D d h0 oh nL z2 h (pc + 3) L st) : cz_T K D d h0 oh nL (if 0 ≤ x then z1 else z2) h pc L (cz_i x :: st) := fun hz H locs ls hI hl => lv_if_ge S.1 S.2.1 dg ht (fun c => kt (by rw [if_pos c] at hz; exact hz) H locs ls hI hl) (fun c => kf (by rw [if_neg c] at hz; exact hz) H locs ls hI hl)
theorem ct_if_gt {x : Int32} {off : Int} {tgt : Nat} (S : cz_S K D h0 cc nL own ret nm tb) (dg : decode cc pc = .ok (.ifCond .gt off, 3)) (ht : (pc : Int) + off = (tgt : Int)) (kt : cz_T K D d h0 oh nL z1 h tgt L st) (kf : cz_T K D d h0 oh nL z2 h (pc + 3) L st) : cz_T K D d h0 oh nL (if 0 < x then z1 else z2) h pc L (cz_i x :: st) := fun hz H locs ls hI hl => lv_if_gt S.1 S.2.1 dg ht (fun c => kt (by rw [if_pos c] at hz; exact hz) H locs ls hI hl) (fun c => kf (by rw [if_neg c] at hz; exact hz) H locs ls hI hl)
theorem ct_if_le {x : Int32} {off : Int} {tgt : Nat} (S : cz_S K D h0 cc nL own ret nm tb) (dg : decode cc pc = .ok (.ifCond .le off, 3)) (ht : (pc : Int) + off = (tgt : Int)) (kt : cz_T K D d h0 oh nL z1 h tgt L st) (kf : cz_T K D d h0 oh nL z2 h (pc + 3) L st) : cz_T K D d h0 oh nL (if x ≤ 0 then z1 else z2) h pc L (cz_i x :: st) := fun hz H locs ls hI hl => lv_if_le S.1 S.2.1 dg ht (fun c => kt (by rw [if_pos c] at hz; exact hz) H locs ls hI hl) (fun c => kf (by rw [if_neg c] at hz; exact hz) H locs ls hI hl)
theorem ct_acmp_eq {x y : Option Nat} {off : Int} {tgt : Nat} (S : cz_S K D h0 cc nL own ret nm tb) (dg : decode cc pc = .ok (.if_acmp .eq off, 3)) (ht : (pc : Int) + off = (tgt : Int)) (kt : cz_T K D d h0 oh nL z1 h tgt L st) (kf : cz_T K D d h0 oh nL z2 h (pc + 3) L st) : cz_T K D d h0 oh nL (if x = y then z1 else z2) h pc L (cz_r y :: cz_r x :: st) := fun hz H locs ls hI hl => lv_acmp_eq S.1 S.2.1 dg ht (fun c => kt (by rw [if_pos c] at hz; exact hz) H locs ls hI hl) (fun c => kf (by rw [if_neg c] at hz; exact hz) H locs ls hI hl)
theorem ct_ifnull {x : Option Nat} {off : Int} {tgt : Nat} (S : cz_S K D h0 cc nL own ret nm tb) (dg : decode cc pc = .ok (.ifnull off, 3)) (ht : (pc : Int) + off = (tgt : Int)) (kt : cz_T K D d h0 oh nL z1 h tgt L st) (kf : cz_T K D d h0 oh nL z2 h (pc + 3) L st) : cz_T K D d h0 oh nL (if x = none then z1 else z2) h pc L (cz_r x :: st) := by
  intro hz H locs ls hI hl
  cases x with
  | none =>
    rw [if_pos rfl] at hz
    exact lv_ifnullN S.1 S.2.1 dg ht (kt hz H locs ls hI hl)
  | some a =>
    rw [if_neg (fun q => by cases q)] at hz
    exact lv_ifnull S.1 S.2.1 dg (kf hz H locs ls hI hl)
theorem ct_ifnonnull {x : Option Nat} {off : Int} {tgt : Nat} (S : cz_S K D h0 cc nL own ret nm tb) (dg : decode cc pc = .ok (.ifnonnull off, 3)) (ht : (pc : Int) + off = (tgt : Int)) (kt : cz_T K D d h0 oh nL z1 h tgt L st) (kf : cz_T K D d h0 oh nL z2 h (pc + 3) L st) : cz_T K D d h0 oh nL (if x = none then z2 else z1) h pc L (cz_r x :: st) := by
  intro hz H locs ls hI hl
  cases x with
  | none =>
    rw [if_pos rfl] at hz
    exact lv_ifnonnullN S.1 S.2.1 dg (kf hz H locs ls hI hl)
  | some a =>
    rw [if_neg (fun q => by cases q)] at hz
    exact lv_ifnonnull S.1 S.2.1 dg ht (kt hz H locs ls hI hl)
theorem ct_goto {off : Int} {tgt : Nat} (S : cz_S K D h0 cc nL own ret nm tb) (dg : decode cc pc = .ok (.goto off, 3)) (ht : (pc : Int) + off = (tgt : Int)) (k : cz_T K D d h0 oh nL z h tgt L st) : cz_T K D d h0 oh nL z h pc L st := fun hz H locs ls hI hl => lv_goto S.1 S.2.1 dg ht (k hz H locs ls hI hl)
theorem ct_tableOut {dflt lo hi : Int} {offs : Array Int} {len : Nat} {x : Int32} {tgt : Nat} (S : cz_S K D h0 cc nL own ret nm tb) (dg : decode cc pc = .ok (.tableswitch dflt lo hi offs, len)) (hx : x.toInt < lo ∨ hi < x.toInt) (ht : (pc : Int) + dflt = (tgt : Int)) (k : cz_T K D d h0 oh nL z h tgt L st) : cz_T K D d h0 oh nL z h pc L (cz_i x :: st) := fun hz H locs ls hI hl => lv_tableOut S.1 S.2.1 dg hx ht (k hz H locs ls hI hl)
theorem ct_tableIn {dflt lo hi : Int} {offs : Array Int} {len : Nat} {x : Int32} {off : Int} {tgt : Nat} (S : cz_S K D h0 cc nL own ret nm tb) (dg : decode cc pc = .ok (.tableswitch dflt lo hi offs, len)) (h1 : ¬ x.toInt < lo) (h2 : ¬ hi < x.toInt) (ho : offs[(x.toInt - lo).toNat]? = some off) (ht : (pc : Int) + off = (tgt : Int)) (k : cz_T K D d h0 oh nL z h tgt L st) : cz_T K D d h0 oh nL z h pc L (cz_i x :: st) := fun hz H locs ls hI hl => lv_tableIn S.1 S.2.1 dg h1 h2 ho ht (k hz H locs ls hI hl)
/-- a switch, a case at a time: here x is k -/
theorem ct_case {x k : Int32} (kt : cz_T K D d h0 oh nL z1 h pc L (cz_i k :: st)) (kf : ¬ x = k → cz_T K D d h0 oh nL z2 h pc L (cz_i x :: st)) : cz_T K D d h0 oh nL (if x = k then z1 else z2) h pc L (cz_i x :: st) := by
  intro hz
  by_cases hx : x = k
  · rw [if_pos hx] at hz
    rw [hx]
    exact kt hz
  · rw [if_neg hx] at hz
    exact kf hx hz
/-- what W.iret and its like give is what is owed -/
theorem cz_end {H : Heap} {locs : List Loc} {g : JFrame} {v : Option cz_v} (S : cz_S K D h0 cc nL own ret nm tb) (hoh : oh = (.inl v, h)) (hI : cz_I K D h0 h H locs)
    (k : cz_W K (cz_rm d h0) H locs (H.size - K.2.2.2.1.heap.size) (cz_sl K.2.2.2.1.heap.size H) (MQ K.2.2.2.2.2.2.1 (fun _ _ oc t => oc = .returned (v.map cz_val) ∧ t.heap = H) K.2.2.2.2.2.1 K.2.2.2.1 (H.size - K.2.2.2.1.heap.size) (cz_sl K.2.2.2.1.heap.size H) (fun q => D.2.2.1 ≤ q)) g) :
    cz_W K (cz_rm d h0) H locs (H.size - K.2.2.2.1.heap.size) (cz_sl K.2.2.2.1.heap.size H) (cz_MQ K D h0 oh) g := by
  refine cz_weak (fun t ht => ?_) k
  obtain ⟨oc, a1, a2, ⟨a3, a4⟩, LL, ⟨-, a5, a6⟩, a7⟩ := ht
  subst hoh
  obtain ⟨hR, hX, hu, -⟩ := hI
  have hR0 := S.2.2.2.2.2.2.2.2.2.2
  refine ⟨oc, a1, a2, ⟨by rw [a4]; exact hR, by rw [a4]; exact hX, by rw [a4]; exact hu, a3⟩, a5, LL, a6.mono ?_ ?_, a7⟩
  · rw [hR0.1, hR.2.1, hR0.2.1]
    have := hR.2.2.1
    omega
  · rw [hR0.1]
    have h4 := hR.2.2.2.1
    have e : h0.2.2.1 + cz_sl K.2.2.2.1.heap.size H ≤ h.2.2.1 := hu
    omega
theorem ct_iret {x : Int32} (S : cz_S K D h0 cc nL own ret nm tb) (hr : ret = some .int) (dg : decode cc pc = .ok (.ireturn, 1)) : cz_T K D d h0 oh nL (some (.inl (some (cz_i x)), h)) h pc L [cz_i x] := fun hz H locs ls hI hl => cz_end (v := some (cz_i x)) S (Option.some.inj hz).symm hI (W.iret S.1 S.2.1 (by rw [← hr]; exact S.2.2.2.2.2.2.2.1) (fun t ht _ => ⟨rfl, ht⟩) hI.2.2.2 dg S.2.2.2.2.2.2.1)
theorem ct_zret {x : Int32} {ty : FieldType} (S : cz_S K D h0 cc nL own ret nm tb) (hr : ret = some ty) (hc : vp_nar ty x = x → narrow ty (.int x) = .int x) (dg : decode cc pc = .ok (.ireturn, 1)) : cz_T K D d h0 oh nL (if vp_nar ty x = x then some (.inl (some (cz_i x)), h) else none) h pc L [cz_i x] := by
  intro hz H locs ls hI hl
  by_cases hx : vp_nar ty x = x
  · rw [if_pos hx] at hz
    exact cz_end (v := some (cz_i x)) S (Option.some.inj hz).symm hI (W.zret S.1 S.2.1 (by rw [← hr]; exact S.2.2.2.2.2.2.2.1) (hc hx) (fun t ht _ => ⟨rfl, ht⟩) hI.2.2.2 dg S.2.2.2.2.2.2.1)
  · rw [if_neg hx] at hz
    cases hz
theorem ct_vret (S : cz_S K D h0 cc nL own ret nm tb) (hr : ret = none) (dg : decode cc pc = .ok (.return_, 1)) : cz_T K D d h0 oh nL (some (.inl none, h)) h pc L [] := fun hz H locs ls hI hl => cz_end (v := none) S (Option.some.inj hz).symm hI (W.vret S.1 S.2.1 (by rw [← hr]; exact S.2.2.2.2.2.2.2.1) (fun t ht _ => ⟨rfl, ht⟩) hI.2.2.2 dg S.2.2.2.2.2.2.1)
theorem ct_aret {x : Option Nat} {rt : FieldType} (S : cz_S K D h0 cc nL own ret nm tb) (hr : ret = some rt) (hrt : (∃ n, rt = .object n) ∨ ∃ t, rt = .array t) (dg : decode cc pc = .ok (.areturn, 1)) : cz_T K D d h0 oh nL (some (.inl (some (cz_r x)), h)) h pc L [cz_r x] := fun hz H locs ls hI hl => cz_end (v := some (cz_r x)) S (Option.some.inj hz).symm hI (W.aret S.1 S.2.1 (by rw [← hr]; exact S.2.2.2.2.2.2.2.1) hrt (by cases x with | none => exact Or.inl rfl | some a => exact Or.inr ⟨a, rfl⟩) (fun t ht _ => ⟨rfl, ht⟩) hI.2.2.2 dg S.2.2.2.2.2.2.1)
end CZR
