/-! THE LAYER, 8: calls (printed by wip/D-98934w/gen/layer8.py) -/
/-- what comes back: an int, a reference, nothing; or a throw -/
def cz_cI (z : cz_Z) (k : Int32 → cz_H → cz_Z) : cz_Z := match z with | some (.inl (some (.inl x)), h) => k x h | _ => none
def cz_cR (z : cz_Z) (k : Option Nat → cz_H → cz_Z) : cz_Z := match z with | some (.inl (some (.inr (.inl x))), h) => k x h | _ => none
def cz_cV (z : cz_Z) (k : cz_H → cz_Z) : cz_Z := match z with | some (.inl none, h) => k h | _ => none
def cz_xI (z : cz_Z) (kx : Nat → cz_H → cz_Z) (k : Int32 → cz_H → cz_Z) : cz_Z := match z with | some (.inl (some (.inl x)), h) => k x h | some (.inr q, h) => kx q h | _ => none
def cz_xR (z : cz_Z) (kx : Nat → cz_H → cz_Z) (k : Option Nat → cz_H → cz_Z) : cz_Z := match z with | some (.inl (some (.inr (.inl x))), h) => k x h | some (.inr q, h) => kx q h | _ => none
def cz_xV (z : cz_Z) (kx : Nat → cz_H → cz_Z) (k : cz_H → cz_Z) : cz_Z := match z with | some (.inl none, h) => k h | some (.inr q, h) => kx q h | _ => none
/-- a receiver, of one of these classes -/
def cz_rc (h : cz_H) (r : Option Nat) (cs : List Nat) (k : cz_Z) : cz_Z := match r with
  | none => none
  | some a => match h.2.2.2 a with
    | some (.inl o) => if o.1 ∈ cs then k else none
    | _ => none
/-- a receiver that isn't null -/
def cz_nn' (r : Option Nat) (k : cz_Z) : cz_Z := match r with | none => none | some _ => k
/-- the receiver's class tells which method it is -/
def cz_by (h : cz_H) (r : Option Nat) (f : Nat → cz_Z) : cz_Z := match r with
  | none => none
  | some a => match h.2.2.2 a with
    | some (.inl o) => f o.1
    | _ => none
/-- what is thrown goes on to the caller -/
def cz_thr (q : Nat) (h : cz_H) : cz_Z := some (.inr q, h)
/-- caught, if it is of one of these classes -/
def cz_catch (h : cz_H) (q : Nat) (cs : List Nat) (k : cz_Z) : cz_Z := match h.2.2.2 q with
  | some (.inl o) => if o.1 ∈ cs ∧ h.1.1 ≤ q then k else none
  | _ => none
section CZK
variable {K : cz_K} {D : cz_D} {d : Nat} {h0 : cz_H} {oh : cz_O × cz_H} {nL : Nat} {cc : ByteArray} {own nm : String} {ret : Option FieldType} {tb : List ExceptionTableEntry} {z z1 z2 : cz_Z} {h : cz_H} {pc : Nat} {L L' : List (Nat × cz_v)} {st : List cz_v}
/-- a call of a method with the contract oh', from g -/
def cz_Goes (K : cz_K) (D : cz_D) (d : Nat) (h0 h : cz_H) (oh' : cz_O × cz_H) (H : Heap) (locs : List Loc) (g : JFrame) (rest : List Value) : Prop :=
  ∀ TT : State, TT.heap = H → Stand K.1 K.2.1 K.2.2.1 (cz_rm d h0) K.2.2.2.1 K.2.2.2.2.1 K.2.2.2.2.2.1 K.2.2.2.2.2.2.1 K.2.2.2.2.2.2.2.1 K.2.2.2.2.2.2.2.2 TT locs (H.size - K.2.2.2.1.heap.size) (cz_sl K.2.2.2.1.heap.size H) →
    (∃ (v : Option Value) (vm₁ : Vm) (B : Pt), K.2.2.2.1.WarmedH vm₁ ∧ Stand K.1 K.2.1 K.2.2.1 (cz_rm d h0) K.2.2.2.1 K.2.2.2.2.1 K.2.2.2.2.2.1 K.2.2.2.2.2.2.1 K.2.2.2.2.2.2.2.1 K.2.2.2.2.2.2.2.2 B.U B.locs B.cells B.slots ∧ cz_Post D h oh' (.inl v) ⟨TT.setVm vm₁, locs, H.size - K.2.2.2.1.heap.size, cz_sl K.2.2.2.1.heap.size H⟩ B ∧
      ∀ target, Steps K.1.tables K.2.2.1 K.2.2.2.2.2.2.1 (B.U.setTop { g with pc := g.pc + 3, stack := v.toList ++ rest }) target → Steps K.1.tables K.2.2.1 K.2.2.2.2.2.2.1 (TT.setTop g) target) ∨
    (∃ (q : Addr) (vm₁ : Vm) (B : Pt), K.2.2.2.1.WarmedH vm₁ ∧ Stand K.1 K.2.1 K.2.2.1 (cz_rm d h0) K.2.2.2.1 K.2.2.2.2.1 K.2.2.2.2.2.1 K.2.2.2.2.2.2.1 K.2.2.2.2.2.2.2.1 K.2.2.2.2.2.2.2.2 B.U B.locs B.cells B.slots ∧ cz_Post D h oh' (.inr q) ⟨TT.setVm vm₁, locs, H.size - K.2.2.2.1.heap.size, cz_sl K.2.2.2.1.heap.size H⟩ B ∧
      Steps K.1.tables K.2.2.1 K.2.2.2.2.2.2.1 (TT.setTop g) ((B.U.setTop { g with stack := rest }).pushFrame (.throwing q)))
theorem cz_I.call {H H1 : Heap} {locs LL : List Loc} {h1 : cz_H} (hI : cz_I K D h0 h H locs) (hR : cz_R D h1 H1) (hX1 : cz_X D.2.2.1 H H1) (hu1 : h.2.2.1 + cz_sl H.size H1 ≤ h1.2.2.1) (hL : ∀ z ∈ LL, D.2.2.1 ≤ z.base) : cz_I K D h0 h1 H1 (locs ++ LL) := by
  obtain ⟨hR0, hX, hu, hlocs⟩ := hI
  refine ⟨hR, hX.tr hX1, ?_, fun q hq => ?_⟩
  · rw [cz_sl_ext hX1 _ hX.1]
    omega
  · rcases List.mem_append.mp hq with e | e
    · exact hlocs q e
    · exact hL q e
theorem cz_goes_ret {H : Heap} {locs : List Loc} {ls : Array Slot} {h1 : cz_H} {v : Option cz_v} {stk : List Value} (G : cz_Goes K D d h0 h (.inl v, h1) H locs (F0 K.2.2.2.2.1 pc ls stk) (st.map cz_val)) (hI : cz_I K D h0 h H locs) (hl : lv_has ls nL (cz_lm L)) (k : cz_V K D d h0 oh nL h1 (pc + 3) L (v.toList ++ st)) :
    cz_W K (cz_rm d h0) H locs (H.size - K.2.2.2.1.heap.size) (cz_sl K.2.2.2.1.heap.size H) (cz_MQ K D h0 oh) (F0 K.2.2.2.2.1 pc ls stk) := by
  intro TT hT X
  rcases G TT hT X with ⟨v2, vm₁, ⟨U', l2, c2, s2⟩, -, X', ⟨LL, ⟨hR, hX1, hu1, he⟩, hl2, hL⟩, go⟩ | ⟨q, vm₁, ⟨U', l2, c2, s2⟩, -, X', ⟨LL, ⟨hR, hX1, hu1, he⟩, hl2, hL⟩, go⟩
  · dsimp only [Pt.U, Pt.locs, Pt.cells, Pt.slots] at X' hR hX1 hu1 hl2 go
    have he : (Outcome.returned v2) = .returned (v.map cz_val) := he
    cases he
    subst hl2
    rw [show (TT.setVm vm₁).heap = H from hT] at hX1 hu1
    obtain ⟨t, a, b⟩ := cz_tight (k U'.heap (locs ++ LL) ls (hI.call hR hX1 hu1 hL) hl) U' rfl X'
    refine ⟨t, go t ?_, b⟩
    have e : ((v.toList ++ st).map cz_val) = (v.map cz_val).toList ++ st.map cz_val := by cases v <;> rfl
    rw [e] at a
    exact a
  · have he : (Outcome.threw q) = .returned (v.map cz_val) := he
    cases he
theorem cz_goes_thr {H : Heap} {locs : List Loc} {ls : Array Slot} {h1 : cz_H} {q : Nat} {stk : List Value} (G : cz_Goes K D d h0 h (.inr q, h1) H locs (F0 K.2.2.2.2.1 pc ls stk) (st.map cz_val)) (hI : cz_I K D h0 h H locs) (hl : lv_has ls nL (cz_lm L)) (k : cz_VX K D d h0 oh nL h1 pc L q) :
    cz_W K (cz_rm d h0) H locs (H.size - K.2.2.2.1.heap.size) (cz_sl K.2.2.2.1.heap.size H) (cz_MQ K D h0 oh) (F0 K.2.2.2.2.1 pc ls stk) := by
  intro TT hT X
  rcases G TT hT X with ⟨v2, vm₁, ⟨U', l2, c2, s2⟩, -, X', ⟨LL, ⟨hR, hX1, hu1, he⟩, hl2, hL⟩, go⟩ | ⟨q2, vm₁, ⟨U', l2, c2, s2⟩, -, X', ⟨LL, ⟨hR, hX1, hu1, he⟩, hl2, hL⟩, go⟩
  · have he : (Outcome.returned v2) = .threw q := he
    cases he
  · dsimp only [Pt.U, Pt.locs, Pt.cells, Pt.slots] at X' hR hX1 hu1 hl2 go
    have he : (Outcome.threw q2) = .threw q := he
    cases he
    subst hl2
    rw [show (TT.setVm vm₁).heap = H from hT] at hX1 hu1
    obtain ⟨t, a, b⟩ := cz_tightX (k U'.heap (locs ++ LL) ls (st.map cz_val) (hI.call hR hX1 hu1 hL) hl) U' rfl X'
    exact ⟨t, go.trans a, b⟩
/-- what every call asks and has -/
theorem cz_pre {H : Heap} {locs : List Loc} {av : List cz_v} (S : cz_S K D h0 cc nL own ret nm tb) (hI : cz_I K D h0 h H locs) {TT : State} (hT : TT.heap = H) : ∀ vm₁, K.2.2.2.1.WarmedH vm₁ → cz_Pre (cz_rm d h0) D h av ⟨TT.setVm vm₁, locs, H.size - K.2.2.2.1.heap.size, cz_sl K.2.2.2.1.heap.size H⟩ (av.map cz_val).toArray := by
  intro vm₁ hW
  obtain ⟨hR, hX, hu, hlocs⟩ := hI
  have hR0 := S.2.2.2.2.2.2.2.2.2.2
  refine ⟨?_, ?_, rfl, ?_, ?_⟩
  · show H.size - K.2.2.2.1.heap.size + (h.1.2.1 - h.2.1) ≤ h0.1.2.1 - h0.2.1
    have h3 := hX.1
    have h5 := hR.2.2.1
    rw [hR.1, hR0.1, hR.2.1, hR0.2.1]
    rw [hR0.2.1, hR.2.1] at h3
    omega
  · show cz_sl K.2.2.2.1.heap.size H + (h.1.2.2.1 - h.2.2.1) ≤ h0.1.2.2.1 - h0.2.2.1
    have h5 := hR.2.2.2.1
    have h6 : h0.2.2.1 + cz_sl K.2.2.2.1.heap.size H ≤ h.2.2.1 := hu
    rw [hR.1, hR0.1]
    omega
  · show cz_N D (TT.setVm vm₁) (TT.setVm vm₁).heap
    rw [show (TT.setVm vm₁).heap = H from hT]
    exact S.2.2.2.2.2.1.warm (U := TT.setVm vm₁) hW hX
  · show cz_R D h TT.heap
    rw [hT]
    exact hR
theorem cz_catsum (st : List cz_v) : ((st.map cz_val).map fun v => v.category).sum = (st.map cz_cat).sum := by
  rw [List.map_map]
  congr 1
  apply List.map_congr_left
  intro v _
  exact cz_cat_val v
/-- the callee's words: its code, in either form, ahead of the tables' -/
def cz_ws (y : MethodName) (n2 : Nat) (ws : List Cond) : Prop := ∃ w0 : Cond, cz_cw y n2 w0 ∧ w0 ∈ lw_all ∧ ws = w0 :: lw_all
theorem cz_ws_code {y : MethodName} {b : ByteArray} {n2 : Nat} {r : Option FieldType} (hq : Cond.code y b n2 r ∈ lw_all) : cz_ws y n2 (ws_ y b n2 r) := ⟨_, Or.inl ⟨b, r, rfl⟩, hq, rfl⟩
theorem cz_ws_codeW {y : MethodName} {b : ByteArray} {n2 : Nat} {r : Option FieldType} {hh : List (Nat × Nat × Nat × Nat)} (hq : Cond.codeWith y b n2 r hh ∈ lw_all) : cz_ws y n2 (wsW_ y b n2 r hh) := ⟨_, Or.inr ⟨b, r, hh, rfl⟩, hq, rfl⟩
/-- the callee's contract, to the caller's steps -/
theorem cz_callee {y : MethodName} {n2 d2 : Nat} {ws : List Cond} {av : List cz_v} {oh' : cz_O × cz_H} (S : cz_S K D h0 cc nL own ret nm tb) (hM : cz_M K.2.1 D y ws d2 av h oh') (hw : cz_ws y n2 ws) (hini : Cond.initialized y.cls ∈ lw_all) (hd : d2 + 1 ≤ d) (hn : n2 ≤ 37) :
    vx_Back K.2.1 (cz_rm d h0) K.1 K.2.2.1 K.2.2.2.2.2.2.1 K.2.2.2.1 K.2.2.2.2.2.1 y 3 16 (cz_Pre (cz_rm d h0) D h av) (fun A _ v B => cz_Post D h oh' (.inl v) A B) (fun A _ q B => cz_Post D h oh' (.inr q) A B) := by
  obtain ⟨w0, hcw, hq, rfl⟩ := hw
  refine cz_back hM hd ?_ ?_ List.mem_cons_self hcw ?_
  · show 16 + (n2 + 11) + 64 * d2 ≤ 64 * d
    omega
  · intro w0 hw0 a' U hW
    have : w0 ∈ lw_all := by
      rcases List.mem_cons.mp hw0 with e | e
      · rw [e]; exact hq
      · exact e
    exact word_at hW (lw_self _ this).2 (S.2.2.2.2.1 _ this)
  · intro a' U hW
    exact word_at hW (lw_self _ hini).2 (S.2.2.2.2.1 _ hini)
/-- the callee's signature -/
theorem cz_sig {y : MethodName} {n2 : Nat} {ws : List Cond} (S : cz_S K D h0 cc nL own ret nm tb) (hw : cz_ws y n2 ws) : ∃ (mk : MethodId) (methM : Method), K.2.2.2.1.methodNamed? y = some mk ∧ K.2.2.2.1.vm.method? mk = some methM ∧ parseMethodDescriptor y.desc = some methM.sig := by
  obtain ⟨w0, hcw, hq, rfl⟩ := hw
  have hb := S.2.2.2.2.1 _ hq
  rcases hcw with ⟨b, r, rfl⟩ | ⟨b, r, hh, rfl⟩
  · obtain ⟨mk, hnamed⟩ := Cond.code_named hb
    obtain ⟨methM, cM, hmethM, -, -, -, -, -, -, hsigM⟩ := Cond.code_spec hnamed hb
    exact ⟨mk, methM, hnamed, hmethM, hsigM⟩
  · obtain ⟨mk, methM, cM, hnamed, hmethM, -, -, -, -, -, -, hsigM⟩ := Cond.codeWith_spec hb
    exact ⟨mk, methM, hnamed, hmethM, hsigM⟩
abbrev cz_nh (y : MethodName) (n : Nat) : Prop := y.cls ≠ "java/lang/invoke/MethodHandle" ∧ y.cls ≠ "java/lang/invoke/VarHandle" ∧ (parseMethodDescriptor y.desc).map (fun d => d.parameters.length) = some n
theorem cz_len {y : MethodName} {n : Nat} (hd : cz_nh y n) {As : List cz_v} (hn : As.length = n) : ∀ sig, parseMethodDescriptor y.desc = some sig → (As.map cz_val).length = sig.parameters.length := by
  intro sig e
  have h2 := hd.2.2
  rw [e] at h2
  rw [List.length_map, hn]
  exact (Option.some.inj h2).symm
/-- invokestatic -/
theorem cg_S {y : MethodName} {idx n2 d2 : Nat} {ws : List Cond} {av : List cz_v} {oh' : cz_O × cz_H} {H : Heap} {locs : List Loc} {ls : Array Slot} (S : cz_S K D h0 cc nL own ret nm tb) (hM : cz_M K.2.1 D y ws d2 av h oh') (hw : cz_ws y n2 ws) (hlk : Cond.methodLink own idx y ∈ lw_all ∨ ∃ host, Cond.methodLinkNest own idx y host ∈ lw_tbl) (hstat : Cond.static y ∈ lw_all) (hini : Cond.initialized y.cls ∈ lw_all) (hy : cz_nh y av.length) (hd : d2 + 1 ≤ d) (hn : n2 ≤ 37) (hst : (st.map cz_cat).sum ≤ 16) (hl : lv_has ls nL (cz_lm L)) (hI : cz_I K D h0 h H locs) (dg : decode cc pc = .ok (.invokestatic idx, 3)) :
    cz_Goes K D d h0 h oh' H locs (F0 K.2.2.2.2.1 pc ls ((av.reverse ++ st).map cz_val)) (st.map cz_val) := by
  intro TT hT X
  have hK := cz_callee S hM hw hini hd hn
  obtain ⟨mk, methM, hnamed, hmethM, hsigM⟩ := cz_sig S hw
  have hstatic : methM.isStatic = true := Cond.static_spec hnamed hmethM (S.2.2.2.2.1 _ hstat)
  obtain ⟨kP, hkP, -⟩ := className_of_methodNamed hnamed
  have hinitP : kP.init = .initialized := Cond.initialized_spec (findClass_of_methodNamed hnamed) hkP (S.2.2.2.2.1 _ hini)
  have hstk : (F0 K.2.2.2.2.1 pc ls ((av.reverse ++ st).map cz_val)).stack = (av.map cz_val).reverse ++ st.map cz_val := by
    show (av.reverse ++ st).map cz_val = _
    rw [List.map_append, List.map_reverse]
  have hW : 2 * (F0 K.2.2.2.2.1 pc ls (st.map cz_val)).monitorRoom + ((st.map cz_val).map fun v => v.category).sum ≤ 16 := by rw [cz_catsum]; show 2 * 0 + _ ≤ 16; omega
  have step : ∃ vm₁, Stand K.1 K.2.1 K.2.2.1 (cz_rm d h0) K.2.2.2.1 K.2.2.2.2.1 K.2.2.2.2.2.1 K.2.2.2.2.2.2.1 K.2.2.2.2.2.2.2.1 K.2.2.2.2.2.2.2.2 (TT.setVm vm₁) locs (H.size - K.2.2.2.1.heap.size) (cz_sl K.2.2.2.1.heap.size H) ∧ ∀ target, (∀ acts, Steps K.1.tables K.2.2.1 K.2.2.2.2.2.2.1 (doInvoke K.2.2.1 ((TT.setVm vm₁).setTop (F0 K.2.2.2.2.1 pc ls (st.map cz_val))) acts mk (av.map cz_val).toArray).1 target) → Steps K.1.tables K.2.2.1 K.2.2.2.2.2.2.1 (TT.setTop (F0 K.2.2.2.2.1 pc ls ((av.reverse ++ st).map cz_val))) target := by
    rcases hlk with e | ⟨host, e⟩
    · exact X.invokestatic S.1 S.2.2.2.1 (S.2.2.2.2.1 _ e) hnamed hmethM hstatic hkP hinitP ⟨hy.1, hy.2.1⟩ (g := F0 K.2.2.2.2.1 pc ls ((av.reverse ++ st).map cz_val)) rfl (argsL := av.map cz_val) (rest := st.map cz_val) (cz_len hy rfl _ hsigM) hstk (by rw [S.2.1]; exact dg)
    · exact X.invokestaticNest S.1 S.2.2.2.1 (va_Nw.use rfl (S.2.2.2.2.2.1.2.2.1 _ e rfl)) hnamed hmethM hstatic hkP hinitP ⟨hy.1, hy.2.1⟩ (g := F0 K.2.2.2.2.1 pc ls ((av.reverse ++ st).map cz_val)) rfl (argsL := av.map cz_val) (rest := st.map cz_val) (cz_len hy rfl _ hsigM) hstk (by rw [S.2.1]; exact dg)
  obtain ⟨vm₁, X₁, hstep₁⟩ := step
  rcases hK _ _ _ ⟨TT.setVm vm₁, locs, H.size - K.2.2.2.1.heap.size, cz_sl K.2.2.2.1.heap.size H⟩ (F0 K.2.2.2.2.1 pc ls (st.map cz_val)) (.invokestatic idx) mk (av.map cz_val).toArray X₁ rfl (by rw [S.2.2.1]; exact hl.1) (by rw [S.2.1]; exact dg) hW (X₁.named hnamed) (cz_pre S hI hT vm₁ X₁.warmed) with ⟨v, B, X', hpost, hsteps⟩ | ⟨q, B, X', hpost, hsteps⟩
  · exact Or.inl ⟨v, vm₁, B, X₁.warmed, X', hpost, fun target e => hstep₁ _ fun acts => by rw [doInvoke_state]; exact hsteps.trans e⟩
  · exact Or.inr ⟨q, vm₁, B, X₁.warmed, X', hpost, hstep₁ _ fun acts => by rw [doInvoke_state]; exact hsteps⟩
/-- invokevirtual -/
theorem cg_V {y : MethodName} {C : String} {idx n2 d2 b : Nat} {ws : List Cond} {av : List cz_v} {oh' : cz_O × cz_H} {H : Heap} {locs : List Loc} {ls : Array Slot} (S : cz_S K D h0 cc nL own ret nm tb) (hM : cz_M K.2.1 D y ws d2 (cz_r (some b) :: av) h oh') (hw : cz_ws y n2 ws) (hlk : Cond.methodLink own idx y ∈ lw_all) (hinst : Cond.instanceMethod y ∈ lw_all) (hsel : Cond.selects C y y ∈ lw_all) (hini : Cond.initialized y.cls ∈ lw_all) (hy : cz_nh y av.length) (hd : d2 + 1 ≤ d) (hn : n2 ≤ 37) (hst : (st.map cz_cat).sum ≤ 16) (hl : lv_has ls nL (cz_lm L)) (hI : cz_I K D h0 h H locs) (hcell : ∃ cell : Cell, H[b]? = some cell ∧ cell.vm.isStatics = false ∧ K.2.2.2.1.vm.findClass C = some cell.cls) (dg : decode cc pc = .ok (.invokevirtual idx, 3)) :
    cz_Goes K D d h0 h oh' H locs (F0 K.2.2.2.2.1 pc ls ((av.reverse ++ cz_r (some b) :: st).map cz_val)) (st.map cz_val) := by
  intro TT hT X
  have hK := cz_callee S hM hw hini hd hn
  obtain ⟨mk0, methM0, hnamed0, hmethM0, hsigM⟩ := cz_sig S hw
  obtain ⟨mk, methM, hnamed, hmethM, hstM, habM⟩ := Cond.instanceMethod_spec (S.2.2.2.2.1 _ hinst)
  cases hnamed0.symm.trans hnamed
  cases hmethM0.symm.trans hmethM
  obtain ⟨cellB, hcB, hoB, hcls⟩ := hcell
  obtain ⟨c2, r2, m2, q1, q2, q3, q4, kP, hkP, hkPi⟩ := Cond.selects_spec (S.2.2.2.2.1 _ hsel)
  cases hcls.symm.trans q1
  cases (State.methodFound?_of_named hnamed ⟨hy.1, hy.2.1⟩).symm.trans q2
  cases hnamed.symm.trans q3
  have hselP : selectMethod K.2.2.1.platform K.2.2.2.1.vm cellB.cls mk0 = .method mk0 := by rw [Launch.admits_selectMethod X.admits]; exact q4
  have hW : 2 * (F0 K.2.2.2.2.1 pc ls (st.map cz_val)).monitorRoom + ((st.map cz_val).map fun v => v.category).sum ≤ 16 := by rw [cz_catsum]; show 2 * 0 + _ ≤ 16; omega
  obtain ⟨vm₁, X₁, hstep₁⟩ := X.invokevirtual S.1 S.2.2.2.1 (S.2.2.2.2.1 _ hlk) hnamed hmethM hstM hkP hkPi ⟨hy.1, hy.2.1⟩ (a := b) (cell := cellB) (by rw [hT]; exact hcB)
    (fun z h => by rw [h] at hoB; cases hoB) hselP hmethM habM hkP hkPi (g := F0 K.2.2.2.2.1 pc ls ((av.reverse ++ cz_r (some b) :: st).map cz_val)) rfl (argsL := av.map cz_val) (rest := st.map cz_val) (cz_len hy rfl _ hsigM) (by show (av.reverse ++ cz_r (some b) :: st).map cz_val = _; rw [List.map_append, List.map_reverse]; rfl) (by rw [S.2.1]; exact dg)
  rcases hK _ _ _ ⟨TT.setVm vm₁, locs, H.size - K.2.2.2.1.heap.size, cz_sl K.2.2.2.1.heap.size H⟩ (F0 K.2.2.2.2.1 pc ls (st.map cz_val)) (.invokevirtual idx) mk0 ((cz_r (some b) :: av).map cz_val).toArray X₁ rfl (by rw [S.2.2.1]; exact hl.1) (by rw [S.2.1]; exact dg) hW (X₁.named hnamed) (cz_pre S hI hT vm₁ X₁.warmed) with ⟨v, B, X', hpost, hsteps⟩ | ⟨q, B, X', hpost, hsteps⟩
  · exact Or.inl ⟨v, vm₁, B, X₁.warmed, X', hpost, fun target e => hstep₁ _ fun acts => by rw [doInvoke_state]; exact hsteps.trans e⟩
  · exact Or.inr ⟨q, vm₁, B, X₁.warmed, X', hpost, hstep₁ _ fun acts => by rw [doInvoke_state]; exact hsteps⟩
/-- invokevirtual by the name of a class above or below: x is the link's name, owner the class that declares it, y what the receiver's class selects -/
theorem cg_U {x y : MethodName} {C owner : String} {bytes : ByteArray} {rt : Option FieldType} {idx n2 d2 b : Nat} {av : List cz_v} {oh' : cz_O × cz_H} {H : Heap} {locs : List Loc} {ls : Array Slot} (S : cz_S K D h0 cc nL own ret nm tb) (hM : cz_M K.2.1 D y (ws_ y bytes n2 rt) d2 (cz_r (some b) :: av) h oh') (hcode : Cond.code y bytes n2 rt ∈ lw_all) (hlk : Cond.methodLink own idx x ∈ lw_all) (hsame : Cond.sameMethod x.cls owner x.name x.desc ∈ lw_all) (hdec : Cond.declares ⟨owner, x.name, x.desc⟩ ∈ lw_tbl ∨ Cond.instanceMethod ⟨owner, x.name, x.desc⟩ ∈ lw_all ∧ ∃ (b2 : ByteArray) (n3 : Nat) (r2 : Option FieldType), Cond.code ⟨owner, x.name, x.desc⟩ b2 n3 r2 ∈ lw_all) (howner : owner ≠ "java/lang/invoke/MethodHandle" ∧ owner ≠ "java/lang/invoke/VarHandle") (hsel : Cond.selects C x y ∈ lw_all) (hinst : Cond.instanceMethod y ∈ lw_all) (hini : Cond.initialized y.cls ∈ lw_all) (hy : cz_nh x av.length) (hd : d2 + 1 ≤ d) (hn : n2 ≤ 37) (hst : (st.map cz_cat).sum ≤ 16) (hl : lv_has ls nL (cz_lm L)) (hI : cz_I K D h0 h H locs) (hcell : ∃ cell : Cell, H[b]? = some cell ∧ cell.vm.isStatics = false ∧ K.2.2.2.1.vm.findClass C = some cell.cls) (dg : decode cc pc = .ok (.invokevirtual idx, 3)) :
    cz_Goes K D d h0 h oh' H locs (F0 K.2.2.2.2.1 pc ls ((av.reverse ++ cz_r (some b) :: st).map cz_val)) (st.map cz_val) := by
  intro TT hT X
  have hK := cz_callee S hM (cz_ws_code hcode) hini hd hn
  have hd0 : va_Decl K.2.2.2.1 ⟨owner, x.name, x.desc⟩ := by
    rcases hdec with e | ⟨e1, b2, n3, r2, e2⟩
    · exact va_Decl.abs (S.2.2.2.2.2.1.2.2.1 _ e rfl)
    · obtain ⟨mk, methM, hnamed, hmethM, hstM, habM⟩ := Cond.instanceMethod_spec (S.2.2.2.2.1 _ e1)
      obtain ⟨methM', cM, hmethM', -, -, -, -, -, -, hsigM⟩ := Cond.code_spec hnamed (S.2.2.2.2.1 _ e2)
      cases hmethM.symm.trans hmethM'
      exact ⟨mk, methM, hnamed, hmethM, hstM, hsigM⟩
  obtain ⟨cellB, hcB, hoB, hcls⟩ := hcell
  have hW : 2 * (F0 K.2.2.2.2.1 pc ls ((av.reverse ++ cz_r (some b) :: st).map cz_val)).monitorRoom + ((st.map cz_val).map fun v => v.category).sum ≤ 16 := by rw [cz_catsum]; show 2 * 0 + _ ≤ 16; omega
  exact vx_callVU X S.1 S.2.2.2.1 (S.2.2.2.2.1 _ hlk) (S.2.2.2.2.1 _ hsame) hd0 howner (S.2.2.2.2.1 _ hsel) (S.2.2.2.2.1 _ hinst) (S.2.2.2.2.1 _ hcode) hK (by rw [hT]; exact hcB) hoB hcls rfl (by rw [S.2.2.1]; exact hl.1) (argsL := av.map cz_val) (cz_len hy rfl) (by show (av.reverse ++ cz_r (some b) :: st).map cz_val = _; rw [List.map_append, List.map_reverse]; rfl) hW (by rw [S.2.1]; exact dg) (cz_pre S hI hT)
/-- invokespecial <init> -/
theorem cg_I {y : MethodName} {bytes : ByteArray} {idx n2 d2 b : Nat} {av : List cz_v} {oh' : cz_O × cz_H} {H : Heap} {locs : List Loc} {ls : Array Slot} (S : cz_S K D h0 cc nL own ret nm tb) (hM : cz_M K.2.1 D y (ws_ y bytes n2 none) d2 (cz_r (some b) :: av) h oh') (hcode : Cond.code y bytes n2 none ∈ lw_all) (hlk : Cond.methodLink own idx y ∈ lw_all ∨ ∃ host, Cond.methodLinkNest own idx y host ∈ lw_tbl) (hy1 : y.name = "<init>") (hinst : Cond.instanceMethod y ∈ lw_all) (hini : Cond.initialized y.cls ∈ lw_all) (hy : cz_nh y av.length) (hd : d2 + 1 ≤ d) (hn : n2 ≤ 37) (hst : (st.map cz_cat).sum ≤ 16) (hl : lv_has ls nL (cz_lm L)) (hI : cz_I K D h0 h H locs) (dg : decode cc pc = .ok (.invokespecial idx, 3)) :
    cz_Goes K D d h0 h oh' H locs (F0 K.2.2.2.2.1 pc ls ((av.reverse ++ cz_r (some b) :: st).map cz_val)) (st.map cz_val) := by
  intro TT hT X
  have hK := cz_callee S hM (cz_ws_code hcode) hini hd hn
  have hW : 2 * (F0 K.2.2.2.2.1 pc ls ((av.reverse ++ cz_r (some b) :: st).map cz_val)).monitorRoom + ((st.map cz_val).map fun v => v.category).sum ≤ 16 := by rw [cz_catsum]; show 2 * 0 + _ ≤ 16; omega
  have hstk : (av.reverse ++ cz_r (some b) :: st).map cz_val = (av.map cz_val).reverse ++ .ref b :: st.map cz_val := by rw [List.map_append, List.map_reverse]; rfl
  rcases hlk with e | ⟨host, e⟩
  · exact vx_callI X S.1 S.2.2.2.1 hy1 (S.2.2.2.2.1 _ e) (S.2.2.2.2.1 _ hinst) (S.2.2.2.2.1 _ hcode) ⟨hy.1, hy.2.1⟩ hK rfl (by rw [S.2.2.1]; exact hl.1) (argsL := av.map cz_val) (cz_len hy rfl) hstk hW (by rw [S.2.1]; exact dg) (cz_pre S hI hT)
  · exact vx_callIN X S.1 S.2.2.2.1 hy1 (va_Nw.use rfl (S.2.2.2.2.2.1.2.2.1 _ e rfl)) (S.2.2.2.2.1 _ hinst) (S.2.2.2.2.1 _ hcode) ⟨hy.1, hy.2.1⟩ hK rfl (by rw [S.2.2.1]; exact hl.1) (argsL := av.map cz_val) (cz_len hy rfl) hstk hW (by rw [S.2.1]; exact dg) (cz_pre S hI hT)
/-- super.m(..) -/
theorem cg_SU {y : MethodName} {bytes : ByteArray} {rt : Option FieldType} {idx n2 d2 b : Nat} {av : List cz_v} {oh' : cz_O × cz_H} {H : Heap} {locs : List Loc} {ls : Array Slot} (S : cz_S K D h0 cc nL own ret nm tb) (hM : cz_M K.2.1 D y (ws_ y bytes n2 rt) d2 (cz_r (some b) :: av) h oh') (hcode : Cond.code y bytes n2 rt ∈ lw_all) (hlk : Cond.methodLink own idx y ∈ lw_all) (hsame : Cond.sameMethod y.cls y.cls y.name y.desc ∈ lw_all) (hsup : Cond.superclass own y.cls ∈ lw_all) (hno : y.name ≠ "<init>") (hinst : Cond.instanceMethod y ∈ lw_all) (hini : Cond.initialized y.cls ∈ lw_all) (hy : cz_nh y av.length) (hd : d2 + 1 ≤ d) (hn : n2 ≤ 37) (hst : (st.map cz_cat).sum ≤ 16) (hl : lv_has ls nL (cz_lm L)) (hI : cz_I K D h0 h H locs) (hcell : ∃ cell : Cell, H[b]? = some cell ∧ cell.vm.isStatics = false ∧ ∃ kB, K.2.2.2.1.vm.classes[cell.cls]? = some kB) (dg : decode cc pc = .ok (.invokespecial idx, 3)) :
    cz_Goes K D d h0 h oh' H locs (F0 K.2.2.2.2.1 pc ls ((av.reverse ++ cz_r (some b) :: st).map cz_val)) (st.map cz_val) := by
  intro TT hT X
  have hK := cz_callee S hM (cz_ws_code hcode) hini hd hn
  obtain ⟨cellB, hcB, hoB, kB, hkB⟩ := hcell
  have hW : 2 * (F0 K.2.2.2.2.1 pc ls ((av.reverse ++ cz_r (some b) :: st).map cz_val)).monitorRoom + ((st.map cz_val).map fun v => v.category).sum ≤ 16 := by rw [cz_catsum]; show 2 * 0 + _ ≤ 16; omega
  exact vx_callSU X S.1 S.2.2.2.1 (S.2.2.2.2.1 _ hlk) (S.2.2.2.2.1 _ hsame) (S.2.2.2.2.1 _ hsup) (S.2.2.2.2.1 _ hinst) (S.2.2.2.2.1 _ hcode) hno hK (by rw [hT]; exact hcB) hoB hkB rfl (by rw [S.2.2.1]; exact hl.1) (argsL := av.map cz_val) (cz_len hy rfl) (by show (av.reverse ++ cz_r (some b) :: st).map cz_val = _; rw [List.map_append, List.map_reverse]; rfl) hW (by rw [S.2.1]; exact dg) (cz_pre S hI hT)
end CZK
