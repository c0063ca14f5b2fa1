/-! THE LAYER, 13: a call whose method is chosen by the object's class -/
theorem cz_byI {h : cz_H} {r : Option Nat} {k : Nat → cz_Z} {oh : cz_O × cz_H} (hz : cz_by h r k = some oh) : ∃ (b ci : Nat) (V : Nat → cz_v), r = some b ∧ h.2.2.2 b = some (.inl (ci, V)) ∧ k ci = some oh := by
  unfold cz_by at hz
  split at hz
  · cases hz
  · rename_i a
    split at hz
    · rename_i o hc
      exact ⟨a, o.1, o.2, rfl, hc, hz⟩
    · cases hz
def cz_DC (x y : MethodName) (ci : Nat) (bytes : ByteArray) (n2 : Nat) (rt : Option FieldType) : Prop :=
  (∃ q : vw_C, cz_cl[ci]? = some q ∧ Cond.selects q.1 x y ∈ lw_all) ∧ Cond.code y bytes n2 rt ∈ lw_all ∧ Cond.instanceMethod y ∈ lw_all ∧ Cond.initialized y.cls ∈ lw_all ∧ n2 ≤ 37
/-- the contract of a call of x on r -/
def cz_DM (l : Launch) (D : cz_D) (x : MethodName) (d : Nat) (r : Option Nat) (av : List cz_v) (h : cz_H) (oh : cz_O × cz_H) : Prop :=
  ∃ (b ci : Nat) (V : Nat → cz_v) (y : MethodName) (bytes : ByteArray) (n2 : Nat) (rt : Option FieldType), r = some b ∧ h.2.2.2 b = some (.inl (ci, V)) ∧ cz_DC x y ci bytes n2 rt ∧ cz_M l D y (ws_ y bytes n2 rt) d (cz_r r :: av) h oh
theorem cg_disp {K : cz_K} {D : cz_D} {d : Nat} {h0 : cz_H} {nL : Nat} {cc : ByteArray} {own nm : String} {ret : Option FieldType} {tb : List ExceptionTableEntry} {h : cz_H} {pc : Nat} {L : List (Nat × cz_v)} {st stk : List cz_v} {x : MethodName} {owner : String} {idx d2 : Nat} {av : List cz_v} {fz : cz_Z} {r : Option Nat} (S : cz_S K D h0 cc nL own ret nm tb) (hM : ∀ oh', fz = some oh' → cz_DM K.2.1 D x d2 r av h oh') (hlk : Cond.methodLink own idx x ∈ lw_all) (hsame : Cond.sameMethod x.cls owner x.name x.desc ∈ lw_all) (hdec : Cond.declares ⟨owner, x.name, x.desc⟩ ∈ lw_tbl) (howner : owner ≠ "java/lang/invoke/MethodHandle" ∧ owner ≠ "java/lang/invoke/VarHandle") (hy : cz_nh x av.length) (hd : d2 + 1 ≤ d) (hst : (st.map cz_cat).sum ≤ 16) (hstk : stk = av.reverse ++ cz_r r :: st) (dg : decode cc pc = .ok (.invokevirtual idx, 3)) : cz_G K D d h0 nL fz h pc L stk st := by
  intro oh' e
  obtain ⟨b, ci, V, y, bytes, n2, rt, hr, hc, ⟨hsel, hcode, hinst, hini, hn⟩, hM'⟩ := hM oh' e
  exact cg_up (fz := some oh') (cs := [ci]) (y := y) S hr hc (List.mem_singleton.mpr rfl) (fun _ e9 => by cases e9; exact hM') hcode hlk hsame (Or.inl hdec) howner hinst hini hy (fun c hc9 => by rw [List.mem_singleton.mp hc9]; exact hsel) hn hd hst hstk dg oh' rfl
