/-! THE LAYER, 10: names for values, checks, small rows for the printed walks -/
def cz_leti (e : Int32) (f : Int32 → cz_Z) : cz_Z := f e
def cz_ckz (x : Int32) (z : cz_Z) : cz_Z := if x = 0 ∨ x = 1 then z else none
def cz_ckb (x : Int32) (z : cz_Z) : cz_Z := if x.toInt8.toInt32 = x then z else none
/-- a place where branches meet -/
def cz_jn {α : Type} (f : α) (k : α → cz_Z) : cz_Z := k f
section CZM
variable {K : cz_K} {D : cz_D} {d : Nat} {h0 : cz_H} {oh : cz_O × cz_H} {nL : Nat} {cc : ByteArray} {own nm : String} {ret : Option FieldType} {tb : List ExceptionTableEntry} {z z1 z2 : cz_Z} {h : cz_H} {pc : Nat} {L L' : List (Nat × cz_v)} {st stk : List cz_v}
theorem ct_leti {x : Int32} {f : Int32 → cz_Z} (k : ∀ y : Int32, cz_T K D d h0 oh nL (f y) h pc L (cz_i y :: st)) : cz_T K D d h0 oh nL (cz_leti x f) h pc L (cz_i x :: st) := k x
theorem ct_iincL {i j : Nat} {n : Int} {x c : Int32} {f : Int32 → cz_Z} {L2 : Int32 → List (Nat × cz_v)} (S : cz_S K D h0 cc nL own ret nm tb) (dg : decode cc pc = .ok (.iinc i n, 3)) (hk : L[j]? = some (i, cz_i x)) (hc : Int32.ofInt n = c) (hn : i < nL) (hL : ∀ v, (i, cz_i v) :: L.filter (cz_flt i) = L2 v) (kk : ∀ v : Int32, cz_T K D d h0 oh nL (f v) h (pc + 3) (L2 v) st) : cz_T K D d h0 oh nL (cz_leti (x + c) f) h pc L st := ct_iinc S dg hk (by rw [hc]) hn (hL _) (kk (x + c))
theorem ct_ckz {x : Int32} (k : (x = 0 ∨ x = 1) → cz_T K D d h0 oh nL z h pc L st) : cz_T K D d h0 oh nL (cz_ckz x z) h pc L st := by
  intro hz
  unfold cz_ckz at hz
  split at hz
  · rename_i hx
    exact k hx hz
  · cases hz
theorem ct_ckb {x : Int32} (k : x.toInt8.toInt32 = x → cz_T K D d h0 oh nL z h pc L st) : cz_T K D d h0 oh nL (cz_ckb x z) h pc L st := by
  intro hz
  unfold cz_ckb at hz
  split at hz
  · rename_i hx
    exact k hx hz
  · cases hz
theorem ct_zr {x : Int32} {ty : FieldType} (S : cz_S K D h0 cc nL own ret nm tb) (hr : ret = some ty) (hc : narrow ty (.int x) = .int x) (dg : decode cc pc = .ok (.ireturn, 1)) : cz_T K D d h0 oh nL (some (.inl (some (cz_i x)), h)) h pc L [cz_i x] := fun hz H locs ls hI hl => cz_end (v := some (cz_i x)) S (Option.some.inj hz).symm hI (W.zret S.1 S.2.1 (by rw [← hr]; exact S.2.2.2.2.2.2.2.1) hc (fun t ht _ => ⟨rfl, ht⟩) hI.2.2.2 dg S.2.2.2.2.2.2.1)
theorem cz_nz {x : Int32} (h : x = 0 ∨ x = 1) : narrow .boolean (.int x) = .int x := by rcases h with rfl | rfl <;> rfl
theorem cz_nb {x : Int32} (h : x.toInt8.toInt32 = x) : narrow .byte (.int x) = .int x := by show Value.int x.toInt8.toInt32 = _; rw [h]
theorem ct_jn {α : Type} {f : α} {kk : α → cz_Z} (k : cz_T K D d h0 oh nL (kk f) h pc L st) : cz_T K D d h0 oh nL (cz_jn f kk) h pc L st := k
end CZM
section CZN
variable {K : cz_K} {D : cz_D} {d : Nat} {h0 : cz_H} {oh : cz_O × cz_H} {nL : Nat} {z z1 z2 : cz_Z} {h : cz_H} {pc : Nat} {L L' : List (Nat × cz_v)} {st stk : List cz_v}
theorem ct_jnP {α : Type} {f : α} {kk : α → cz_Z} (P : α → Prop) (hP : P f) (k : ∀ j : α, P j → cz_T K D d h0 oh nL (kk j) h pc L st) : cz_T K D d h0 oh nL (cz_jn f kk) h pc L st := k f hP
theorem ct_ite {c : Prop} [Decidable c] (k1 : c → cz_T K D d h0 oh nL z1 h pc L st) (k2 : ¬ c → cz_T K D d h0 oh nL z2 h pc L st) : cz_T K D d h0 oh nL (if c then z1 else z2) h pc L st := by
  intro hz
  split at hz
  · rename_i e
    exact k1 e hz
  · rename_i e
    exact k2 e hz
end CZN
