/-! THE LAYER, 9: calls in the rows' form; exceptions (printed by wip/D-98934w/gen/layer9.py) -/
section CZL
variable {K : cz_K} {D : cz_D} {d : Nat} {h0 : cz_H} {oh : cz_O × cz_H} {nL : Nat} {cc : ByteArray} {own nm : String} {ret : Option FieldType} {tb : List ExceptionTableEntry} {z z1 z2 : cz_Z} {h : cz_H} {pc : Nat} {L L' : List (Nat × cz_v)} {st stk : List cz_v}
/-- at pc, with the stack stk, stands a call that fz computes; st lies below its arguments -/
def cz_G (K : cz_K) (D : cz_D) (d : Nat) (h0 : cz_H) (nL : Nat) (fz : cz_Z) (h : cz_H) (pc : Nat) (L : List (Nat × cz_v)) (stk st : List cz_v) : Prop :=
  ∀ oh' : cz_O × cz_H, fz = some oh' → ∀ (H : Heap) (locs : List Loc) (ls : Array Slot), cz_I K D h0 h H locs → lv_has ls nL (cz_lm L) → cz_Goes K D d h0 h oh' H locs (F0 K.2.2.2.2.1 pc ls (stk.map cz_val)) (st.map cz_val)
theorem ct_cI {fz : cz_Z} {kk : Int32 → cz_H → cz_Z} (G : cz_G K D d h0 nL fz h pc L stk st) (k : ∀ (x : Int32) (h1 : cz_H), cz_T K D d h0 oh nL (kk x h1) h1 (pc + 3) L (cz_i x :: st)) : cz_T K D d h0 oh nL (cz_cI fz kk) h pc L stk := by
  intro hz H locs ls hI hl
  unfold cz_cI at hz
  split at hz
  · rename_i x h1
    exact cz_goes_ret (v := some (cz_i x)) (G _ rfl H locs ls hI hl) hI hl (k x h1 hz)
  · cases hz
theorem ct_cR {fz : cz_Z} {kk : Option Nat → cz_H → cz_Z} (G : cz_G K D d h0 nL fz h pc L stk st) (k : ∀ (x : Option Nat) (h1 : cz_H), cz_T K D d h0 oh nL (kk x h1) h1 (pc + 3) L (cz_r x :: st)) : cz_T K D d h0 oh nL (cz_cR fz kk) h pc L stk := by
  intro hz H locs ls hI hl
  unfold cz_cR at hz
  split at hz
  · rename_i x h1
    exact cz_goes_ret (v := some (cz_r x)) (G _ rfl H locs ls hI hl) hI hl (k x h1 hz)
  · cases hz
theorem ct_cV {fz : cz_Z} {kk : cz_H → cz_Z} (G : cz_G K D d h0 nL fz h pc L stk st) (k : ∀ h1 : cz_H, cz_T K D d h0 oh nL (kk h1) h1 (pc + 3) L st) : cz_T K D d h0 oh nL (cz_cV fz kk) h pc L stk := by
  intro hz H locs ls hI hl
  unfold cz_cV at hz
  split at hz
  · rename_i h1
    exact cz_goes_ret (v := none) (G _ rfl H locs ls hI hl) hI hl (k h1 hz)
  · cases hz
theorem ct_xI {fz : cz_Z} {kk : Int32 → cz_H → cz_Z} {kkx : Nat → cz_H → cz_Z} (G : cz_G K D d h0 nL fz h pc L stk st) (kx : ∀ (q : Nat) (h1 : cz_H), cz_TX K D d h0 oh nL (kkx q h1) h1 pc L q) (k : ∀ (x : Int32) (h1 : cz_H), cz_T K D d h0 oh nL (kk x h1) h1 (pc + 3) L (cz_i x :: st)) : cz_T K D d h0 oh nL (cz_xI fz kkx kk) h pc L stk := by
  intro hz H locs ls hI hl
  unfold cz_xI at hz
  split at hz
  · rename_i x h1
    exact cz_goes_ret (v := some (cz_i x)) (G _ rfl H locs ls hI hl) hI hl (k x h1 hz)
  · rename_i q h1
    exact cz_goes_thr (G _ rfl H locs ls hI hl) hI hl (kx q h1 hz)
  · cases hz
theorem ct_xR {fz : cz_Z} {kk : Option Nat → cz_H → cz_Z} {kkx : Nat → cz_H → cz_Z} (G : cz_G K D d h0 nL fz h pc L stk st) (kx : ∀ (q : Nat) (h1 : cz_H), cz_TX K D d h0 oh nL (kkx q h1) h1 pc L q) (k : ∀ (x : Option Nat) (h1 : cz_H), cz_T K D d h0 oh nL (kk x h1) h1 (pc + 3) L (cz_r x :: st)) : cz_T K D d h0 oh nL (cz_xR fz kkx kk) h pc L stk := by
  intro hz H locs ls hI hl
  unfold cz_xR at hz
  split at hz
  · rename_i x h1
    exact cz_goes_ret (v := some (cz_r x)) (G _ rfl H locs ls hI hl) hI hl (k x h1 hz)
  · rename_i q h1
    exact cz_goes_thr (G _ rfl H locs ls hI hl) hI hl (kx q h1 hz)
  · cases hz
theorem ct_xV {fz : cz_Z} {kk : cz_H → cz_Z} {kkx : Nat → cz_H → cz_Z} (G : cz_G K D d h0 nL fz h pc L stk st) (kx : ∀ (q : Nat) (h1 : cz_H), cz_TX K D d h0 oh nL (kkx q h1) h1 pc L q) (k : ∀ h1 : cz_H, cz_T K D d h0 oh nL (kk h1) h1 (pc + 3) L st) : cz_T K D d h0 oh nL (cz_xV fz kkx kk) h pc L stk := by
  intro hz H locs ls hI hl
  unfold cz_xV at hz
  split at hz
  · rename_i h1
    exact cz_goes_ret (v := none) (G _ rfl H locs ls hI hl) hI hl (k h1 hz)
  · rename_i q h1
    exact cz_goes_thr (G _ rfl H locs ls hI hl) hI hl (kx q h1 hz)
  · cases hz
/-- a method's facts, for its callers -/
def cz_md (y : MethodName) (n2 : Nat) (ws : List Cond) (n : Nat) : Prop := cz_ws y n2 ws ∧ Cond.initialized y.cls ∈ lw_all ∧ cz_nh y n ∧ n2 ≤ 37
/-- the receiver -/
theorem ct_rc {r : Option Nat} {cs : List Nat} (k : ∀ (b ci : Nat) (V : Nat → cz_v), r = some b → h.2.2.2 b = some (.inl (ci, V)) → ci ∈ cs → cz_T K D d h0 oh nL z h pc L stk) : cz_T K D d h0 oh nL (cz_rc h r cs z) h pc L stk := by
  intro hz
  unfold cz_rc at hz
  split at hz
  · cases hz
  · rename_i a
    split at hz
    · rename_i o hc
      split at hz
      · rename_i hin
        exact k a o.1 o.2 rfl hc hin hz
      · cases hz
    · cases hz
theorem ct_nn {r : Option Nat} (k : ∀ b : Nat, r = some b → cz_T K D d h0 oh nL z h pc L stk) : cz_T K D d h0 oh nL (cz_nn' r z) h pc L stk := by
  intro hz
  unfold cz_nn' at hz
  split at hz
  · cases hz
  · rename_i a
    exact k a rfl hz
theorem cg_static {y : MethodName} {idx n2 d2 : Nat} {ws : List Cond} {av : List cz_v} {fz : cz_Z} (S : cz_S K D h0 cc nL own ret nm tb) (hM : ∀ oh', fz = some oh' → cz_M K.2.1 D y ws d2 av h oh') (hm : cz_md y n2 ws av.length) (hlk : Cond.methodLink own idx y ∈ lw_all ∨ ∃ host, Cond.methodLinkNest own idx y host ∈ lw_tbl) (hstat : Cond.static y ∈ lw_all) (hd : d2 + 1 ≤ d) (hst : (st.map cz_cat).sum ≤ 16) (hstk : stk = av.reverse ++ st) (dg : decode cc pc = .ok (.invokestatic idx, 3)) : cz_G K D d h0 nL fz h pc L stk st := by
  subst hstk
  exact fun oh' e H locs ls hI hl => cg_S S (hM oh' e) hm.1 hlk hstat hm.2.1 hm.2.2.1 hd hm.2.2.2 hst hl hI dg
theorem cg_virtual {y : MethodName} {idx n2 d2 b ci : Nat} {V : Nat → cz_v} {cs : List Nat} {ws : List Cond} {av : List cz_v} {fz : cz_Z} {r : Option Nat} (S : cz_S K D h0 cc nL own ret nm tb) (hr : r = some b) (hc : h.2.2.2 b = some (.inl (ci, V))) (hci : ci ∈ cs) (hM : ∀ oh', fz = some oh' → cz_M K.2.1 D y ws d2 (cz_r r :: av) h oh') (hm : cz_md y n2 ws av.length) (hlk : Cond.methodLink own idx y ∈ lw_all) (hinst : Cond.instanceMethod y ∈ lw_all) (hsel : ∀ c ∈ cs, ∃ q : vw_C, cz_cl[c]? = some q ∧ Cond.selects q.1 y y ∈ lw_all) (hd : d2 + 1 ≤ d) (hst : (st.map cz_cat).sum ≤ 16) (hstk : stk = av.reverse ++ cz_r r :: st) (dg : decode cc pc = .ok (.invokevirtual idx, 3)) : cz_G K D d h0 nL fz h pc L stk st := by
  subst hr
  subst hstk
  obtain ⟨q, hcl, hs⟩ := hsel _ hci
  exact fun oh' e H locs ls hI hl => cg_V S (hM oh' e) hm.1 hlk hinst hs hm.2.1 hm.2.2.1 hd hm.2.2.2 hst hl hI (cz_objcell S hI.1 hc hcl) dg
theorem cg_up {x y : MethodName} {owner : String} {bytes : ByteArray} {rt : Option FieldType} {idx n2 d2 b ci : Nat} {V : Nat → cz_v} {cs : List Nat} {av : List cz_v} {fz : cz_Z} {r : Option Nat} (S : cz_S K D h0 cc nL own ret nm tb) (hr : r = some b) (hc : h.2.2.2 b = some (.inl (ci, V))) (hci : ci ∈ cs) (hM : ∀ oh', fz = some oh' → cz_M K.2.1 D y (ws_ y bytes n2 rt) d2 (cz_r r :: av) h oh') (hcode : Cond.code y bytes n2 rt ∈ lw_all) (hlk : Cond.methodLink own idx x ∈ lw_all) (hsame : Cond.sameMethod x.cls owner x.name x.desc ∈ lw_all) (hdec : Cond.declares ⟨owner, x.name, x.desc⟩ ∈ lw_tbl ∨ Cond.instanceMethod ⟨owner, x.name, x.desc⟩ ∈ lw_all ∧ ∃ (b2 : ByteArray) (n3 : Nat) (r2 : Option FieldType), Cond.code ⟨owner, x.name, x.desc⟩ b2 n3 r2 ∈ lw_all) (howner : owner ≠ "java/lang/invoke/MethodHandle" ∧ owner ≠ "java/lang/invoke/VarHandle") (hinst : Cond.instanceMethod y ∈ lw_all) (hini : Cond.initialized y.cls ∈ lw_all) (hy : cz_nh x av.length) (hsel : ∀ c ∈ cs, ∃ q : vw_C, cz_cl[c]? = some q ∧ Cond.selects q.1 x y ∈ lw_all) (hn : n2 ≤ 37) (hd : d2 + 1 ≤ d) (hst : (st.map cz_cat).sum ≤ 16) (hstk : stk = av.reverse ++ cz_r r :: st) (dg : decode cc pc = .ok (.invokevirtual idx, 3)) : cz_G K D d h0 nL fz h pc L stk st := by
  subst hr
  subst hstk
  obtain ⟨q, hcl, hs⟩ := hsel _ hci
  exact fun oh' e H locs ls hI hl => cg_U S (hM oh' e) hcode hlk hsame hdec howner hs hinst hini hy hd hn hst hl hI (cz_objcell S hI.1 hc hcl) dg
theorem cg_init {y : MethodName} {bytes : ByteArray} {idx n2 d2 b : Nat} {av : List cz_v} {fz : cz_Z} {r : Option Nat} (S : cz_S K D h0 cc nL own ret nm tb) (hr : r = some b) (hM : ∀ oh', fz = some oh' → cz_M K.2.1 D y (ws_ y bytes n2 none) d2 (cz_r r :: av) h oh') (hcode : Cond.code y bytes n2 none ∈ lw_all) (hlk : Cond.methodLink own idx y ∈ lw_all ∨ ∃ host, Cond.methodLinkNest own idx y host ∈ lw_tbl) (hy1 : y.name = "<init>") (hinst : Cond.instanceMethod y ∈ lw_all) (hini : Cond.initialized y.cls ∈ lw_all) (hy : cz_nh y av.length) (hn : n2 ≤ 37) (hd : d2 + 1 ≤ d) (hst : (st.map cz_cat).sum ≤ 16) (hstk : stk = av.reverse ++ cz_r r :: st) (dg : decode cc pc = .ok (.invokespecial idx, 3)) : cz_G K D d h0 nL fz h pc L stk st := by
  subst hr
  subst hstk
  exact fun oh' e H locs ls hI hl => cg_I S (hM oh' e) hcode hlk hy1 hinst hini hy hd hn hst hl hI dg
theorem cg_super {y : MethodName} {bytes : ByteArray} {rt : Option FieldType} {idx n2 d2 b ci : Nat} {V : Nat → cz_v} {av : List cz_v} {fz : cz_Z} {r : Option Nat} (S : cz_S K D h0 cc nL own ret nm tb) (hr : r = some b) (hc : h.2.2.2 b = some (.inl (ci, V))) (hM : ∀ oh', fz = some oh' → cz_M K.2.1 D y (ws_ y bytes n2 rt) d2 (cz_r r :: av) h oh') (hcode : Cond.code y bytes n2 rt ∈ lw_all) (hlk : Cond.methodLink own idx y ∈ lw_all) (hsame : Cond.sameMethod y.cls y.cls y.name y.desc ∈ lw_all) (hsup : Cond.superclass own y.cls ∈ lw_all) (hno : y.name ≠ "<init>") (hinst : Cond.instanceMethod y ∈ lw_all) (hini : Cond.initialized y.cls ∈ lw_all) (hy : cz_nh y av.length) (hn : n2 ≤ 37) (hd : d2 + 1 ≤ d) (hst : (st.map cz_cat).sum ≤ 16) (hstk : stk = av.reverse ++ cz_r r :: st) (dg : decode cc pc = .ok (.invokespecial idx, 3)) : cz_G K D d h0 nL fz h pc L stk st := by
  subst hr
  subst hstk
  intro oh' e H locs ls hI hl
  obtain ⟨r2, cell, g1, g2, g3, g4, g5, g6, g7⟩ := hI.1.2.2.2.2.2 b _ hc
  obtain ⟨kC, hkC, -⟩ := (S.2.2.2.2.2.1.1.1 ci _ g1).2.2
  exact cg_SU S (hM oh' e) hcode hlk hsame hsup hno hinst hini hy hd hn hst hl hI ⟨cell, g2, g4, kC, by rw [g3]; exact hkC⟩ dg
/-- athrow -/
def cz_ath (r : Option Nat) (k : Nat → cz_Z) : cz_Z := match r with | none => none | some q => k q
theorem ct_athrow {r : Option Nat} {kk : Nat → cz_Z} (S : cz_S K D h0 cc nL own ret nm tb) (dg : decode cc pc = .ok (.athrow, 1)) (k : ∀ q : Nat, cz_TX K D d h0 oh nL (kk q) h pc L q) : cz_T K D d h0 oh nL (cz_ath r kk) h pc L (cz_r r :: st) := by
  intro hz H locs ls hI hl
  unfold cz_ath at hz
  split at hz
  · cases hz
  · rename_i q
    exact vx_athrow S.1 S.2.1 dg (k q hz H locs ls (st.map cz_val) hI hl)
/-- not caught here -/
theorem ct_out {q : Nat} (S : cz_S K D h0 cc nL own ret nm tb) (hout : ∀ x ∈ tb, covers x pc = false) : cz_TX K D d h0 oh nL (cz_thr q h) h pc L q := by
  intro hz H locs ls rest hI hl TT hT X
  have hoh : oh = (.inr q, h) := (Option.some.inj hz).symm
  subst hoh
  obtain ⟨st1, hrun, hend, hW, hsm⟩ := X.leaveThrown q (g := F0 K.2.2.2.2.1 pc ls rest) rfl rfl rfl (fun x hx => hout x (by rw [← S.2.2.2.2.2.2.2.2.2.1]; exact hx)) S.2.2.2.2.2.2.1
  obtain ⟨hR, hX, hu, hlocs⟩ := hI
  have hR0 := S.2.2.2.2.2.2.2.2.2.2
  have hH : (TT.setFrames (.throwing q :: K.2.2.2.2.2.2.1)).heap = H := hT
  refine ⟨_, st1, .threw q, hrun, hend, ⟨by rw [hH]; exact hR, by rw [hH]; exact hX, by rw [hH]; exact hu, rfl⟩, hW, locs, hsm.mono ?_ ?_, hlocs⟩
  · rw [hR0.1, hR.2.1, hR0.2.1]
    have := hR.2.2.1
    omega
  · rw [hR0.1]
    have h4 := hR.2.2.2.1
    have e : h0.2.2.1 + cz_sl K.2.2.2.1.heap.size H ≤ h.2.2.1 := hu
    omega
/-- caught by the method's only handler -/
theorem ct_catch {q hp : Nat} {cs : List Nat} {nmc : String} {x : ExceptionTableEntry} (S : cz_S K D h0 cc nL own ret nm tb) (htb : tb = [x]) (hcov : covers x pc = true) (h0c : x.catchType ≠ 0) (hhp : x.handlerPc = hp) (hlk : Cond.classLink own x.catchType nmc ∈ lw_all) (hcs : ∀ c ∈ cs, ∃ r : vw_C, cz_cl[c]? = some r ∧ Cond.castable r.1 nmc ∈ lw_tbl) (k : cz_T K D d h0 oh nL z h hp L [cz_r (some q)]) : cz_TX K D d h0 oh nL (cz_catch h q cs z) h pc L q := by
  intro hz H locs ls rest hI hl
  unfold cz_catch at hz
  split at hz
  · rename_i o hc
    split at hz
    · rename_i hin
      obtain ⟨r2, cell, g1, g2, g3, g4, g5, g6, g7⟩ := hI.1.2.2.2.2.2 q _ hc
      obtain ⟨r, hcl, hca⟩ := hcs _ hin.1
      cases Option.some.inj (g1.symm.trans hcl)
      have kk := k hz H locs ls hI hl
      rw [← hhp] at kk
      exact vx_catch S.2.2.2.1 [] x [] (by rw [S.2.2.2.2.2.2.2.2.2.1]; exact htb) (fun z hz => by cases hz) hcov h0c (S.2.2.2.2.1 _ hlk) (va_Nw.use rfl (S.2.2.2.2.2.1.2.2.1 _ hca rfl)) g2 (g6 (by rw [← hI.1.1]; exact hin.2)) (by rw [g3]; exact (S.2.2.2.2.2.1.1.1 o.1 _ hcl).2.1) kk
    · cases hz
  · cases hz
/-- the receiver's class tells which method it is -/
theorem ct_by {r : Option Nat} {f : Nat → cz_Z} (k : ∀ (b ci : Nat) (V : Nat → cz_v), r = some b → h.2.2.2 b = some (.inl (ci, V)) → cz_T K D d h0 oh nL (f ci) h pc L stk) : cz_T K D d h0 oh nL (cz_by h r f) h pc L stk := by
  intro hz
  unfold cz_by at hz
  split at hz
  · cases hz
  · rename_i a
    split at hz
    · rename_i o hc
      exact k a o.1 o.2 rfl hc hz
    · cases hz

end CZL
