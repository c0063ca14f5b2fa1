/-! THE LAYER, 3: a contract out of the judgement; a contract at a call -/
def cz_args : Nat → List cz_v → List (Nat × cz_v)
  | _, [] => []
  | i, v :: vs => (i, v) :: cz_args (i + cz_cat v) vs
theorem cz_args_lm : ∀ (vs : List cz_v) (i : Nat), cz_lm (cz_args i vs) = lv_args i (vs.map cz_val) := by
  intro vs
  induction vs with
  | nil => intro i; rfl
  | cons v vs ih =>
    intro i
    show (i, cz_val v) :: cz_lm (cz_args (i + cz_cat v) vs) = lv_args i (cz_val v :: vs.map cz_val)
    rw [ih (i + cz_cat v)]
    rcases v with x | r | x
    · rfl
    · show _ = (i, va_rf r) :: lv_args (if (va_rf r).category = 2 then i + 2 else i + 1) (vs.map cz_val)
      rw [cz_cat_rf]
      rfl
    · rfl
theorem cz_entry {K : cz_K} {D : cz_D} {d : Nat} {h : cz_H} {oh : cz_O × cz_H} {nL : Nat} {av : List cz_v} (hn : (lg_sl (av.map cz_val)).length ≤ nL) (ha : K.2.2.2.2.2.1 = (av.map cz_val).toArray) (hR : cz_R D h K.2.2.2.1.heap) (k : cz_V K D d h oh nL h 0 (cz_args 0 av) []) :
    cz_W K (cz_rm d h) K.2.2.2.1.heap [] 0 0 (cz_MQ K D h oh) (entryFrame K.2.2.2.2.1 K.2.2.2.2.2.1 nL) := by
  rw [ha]
  have hl := lv_entry (av.map cz_val) (n := nL) hn
  rw [lg_entry_eq]
  generalize (lg_sl (av.map cz_val) ++ List.replicate (nL - (lg_sl (av.map cz_val)).length) Slot.unset).toArray = ls at hl ⊢
  refine cz_tight (k K.2.2.2.1.heap [] ls ⟨hR, cz_X.rf, ?_, fun _ h => by cases h⟩ (by rw [cz_args_lm]; exact hl))
  rw [cz_sl_self]; exact Nat.le_refl _
theorem cz_ofV {l : Launch} {D : cz_D} {y : MethodName} {d : Nat} {av : List cz_v} {h : cz_H} {oh : cz_O × cz_H} {cc : ByteArray} {nL : Nat} {ret : Option FieldType}
    (hy : plainFor y = true) (hn : (lg_sl (av.map cz_val)).length ≤ nL) (body : ∀ K : cz_K, K.2.1 = l → cz_S K D h cc nL y.cls ret y.name [] → cz_V K D d h oh nL h 0 (cz_args 0 av) []) : cz_M l D y (ws_ y cc nL ret) d av h oh := by
  refine MetFree.of_bodySF (code := cc) (maxLocals := nL) (ret := ret) hy ?_ ?_
  · intro args s m h hn
    obtain ⟨meth, c, h1, h2, h3, h4, h5, h6, -, -⟩ := Cond.code_spec hn (atoms_spec (ws := ws_ y cc nL ret) h _ List.mem_cons_self)
    exact ⟨meth, c, h1, h2, h3, h4, h5, h6⟩
  · intro p e s m args below meth c s₁ B hml hP _
    obtain ⟨ha, hN, hR⟩ := hP
    have hh0 : s₁.heap = s.heap := by rw [B.state]; rfl
    have hts := atoms_spec (ws := ws_ y cc nL ret) B.pre
    have ht : c.exceptionTable.toList = [] := by
      obtain ⟨meth9, c9, h1, h2, -, -, -, -, h7, -⟩ := Cond.code_spec B.named (hts _ List.mem_cons_self)
      cases Option.some.inj (h1.symm.trans B.method)
      cases Option.some.inj (h2.symm.trans (Stand.of_body B).code)
      rw [Array.isEmpty_iff.mp h7]
    have k := body (p, l, e, s, m, args, below, meth, c) rfl ⟨B.exec, B.bytes, hml, findClass_of_methodNamed B.named, fun w hw => hts w (List.mem_cons_of_mem _ hw), hN, B.notSynchronized, B.returns, (name_of_methodNamed B.named B.method).1, ht, hR⟩
    obtain ⟨t, a1, o, b1, b2, b3⟩ := cz_entry (K := (p, l, e, s, m, args, below, meth, c)) hn ha hR k s₁ hh0 (Stand.of_body B)
    exact ⟨t, o, a1, b1, b2, b3⟩
/-- .. of a method with handlers -/
theorem cz_ofVW {l : Launch} {D : cz_D} {y : MethodName} {d : Nat} {av : List cz_v} {h : cz_H} {oh : cz_O × cz_H} {cc : ByteArray} {nL : Nat} {ret : Option FieldType} {hh : List (Nat × Nat × Nat × Nat)}
    (hy : plainFor y = true) (hn : (lg_sl (av.map cz_val)).length ≤ nL) (body : ∀ K : cz_K, K.2.1 = l → cz_S K D h cc nL y.cls ret y.name (tableOf hh) → cz_V K D d h oh nL h 0 (cz_args 0 av) []) : cz_M l D y (wsW_ y cc nL ret hh) d av h oh := by
  refine MetFree.of_bodySF (code := cc) (maxLocals := nL) (ret := ret) hy ?_ ?_
  · intro args s m h hn
    obtain ⟨m9, meth, c, hn9, h1, h2, h3, h4, -, h5, h6, -⟩ := Cond.codeWith_spec (atoms_spec (ws := wsW_ y cc nL ret hh) h _ List.mem_cons_self)
    cases hn.symm.trans hn9
    exact ⟨meth, c, h1, h2, h3, h4, h5, h6⟩
  · intro p e s m args below meth c s₁ B hml hP _
    obtain ⟨ha, hN, hR⟩ := hP
    have hh0 : s₁.heap = s.heap := by rw [B.state]; rfl
    have hts := atoms_spec (ws := wsW_ y cc nL ret hh) B.pre
    have ht : c.exceptionTable.toList = tableOf hh := vx_table (x := y) B (hts _ List.mem_cons_self)
    have k := body (p, l, e, s, m, args, below, meth, c) rfl ⟨B.exec, B.bytes, hml, findClass_of_methodNamed B.named, fun w hw => hts w (List.mem_cons_of_mem _ hw), hN, B.notSynchronized, B.returns, (name_of_methodNamed B.named B.method).1, ht, hR⟩
    obtain ⟨t, a1, o, b1, b2, b3⟩ := cz_entry (K := (p, l, e, s, m, args, below, meth, c)) hn ha hR k s₁ hh0 (Stand.of_body B)
    exact ⟨t, o, a1, b1, b2, b3⟩
/-- the cell that a method's words give: how many locals it has -/
def cz_cw (y : MethodName) (nL : Nat) (w : Cond) : Prop := (∃ (bytes : ByteArray) (ret : Option FieldType), w = .code y bytes nL ret) ∨ ∃ (bytes : ByteArray) (ret : Option FieldType) (hh : List (Nat × Nat × Nat × Nat)), w = .codeWith y bytes nL ret hh
theorem cz_cw.of {y : MethodName} {nL : Nat} {w : Cond} (h : cz_cw y nL w) {a : Array Value} {U : State} {mk : MethodId} (hn : U.methodNamed? y = some mk) (hb : w.before a U = true) : ∃ (meth : Method) (c : Code), U.vm.method? mk = some meth ∧ meth.code = some c ∧ c.maxLocals = nL := by
  rcases h with ⟨bytes, ret, rfl⟩ | ⟨bytes, ret, hh, rfl⟩
  · obtain ⟨methY, cY, hmY, hcY, -, hlY, -, -, -, -⟩ := Cond.code_spec hn hb
    exact ⟨methY, cY, hmY, hcY, hlY⟩
  · obtain ⟨m9, methY, cY, hn9, hmY, hcY, -, hlY, -, -, -, -⟩ := Cond.codeWith_spec hb
    cases hn.symm.trans hn9
    exact ⟨methY, cY, hmY, hcY, hlY⟩
def cz_Pre (R : Room) (D : cz_D) (h : cz_H) (av : List cz_v) : Pt → Array Value → Prop := PreOf R (h.1.2.1 - h.2.1) (h.1.2.2.1 - h.2.2.1) (cz_Pc D h av)
def cz_Post (D : cz_D) (h : cz_H) (oh : cz_O × cz_H) (oc : Option Value ⊕ Addr) : Pt → Pt → Prop := fun A B => ∃ L : List Loc, cz_P D h oh A.U.heap (match oc with | .inl v => .returned v | .inr q => .threw q) B.U.heap ∧ B.locs = A.locs ++ L ∧ ∀ z ∈ L, D.2.2.1 ≤ z.base
section CZB
variable {l : Launch} {R : Room} {p : Program} {e : Env} {below : List Frame} {s : State} {sargs : Array Value} {y : MethodName} {len W9 : Nat}
theorem cz_back {D : cz_D} {ws : List Cond} {d nL : Nat} {av : List cz_v} {h : cz_H} {oh : cz_O × cz_H} {w0 : Cond}
    (hM : cz_M l D y ws d av h oh) (hframes : d + 1 ≤ R.frames) (hlocals : W9 + (nL + 11) + 64 * d ≤ R.locals)
    (hws : ∀ w ∈ ws, ∀ a' U, s.WarmedH U.vm → w.before a' U = true) (hw0 : w0 ∈ ws) (hcw : cz_cw y nL w0) (hinit : ∀ a' U, s.WarmedH U.vm → (Cond.initialized y.cls).before a' U = true) :
    vx_Back l R p e below s sargs y len W9 (cz_Pre R D h av) (fun A _ v B => cz_Post D h oh (.inl v) A B) (fun A _ q B => cz_Post D h oh (.inr q) A B) := by
  intro m meth c A g ig mk a X hg hsize hdg hW hn hp
  have h1 : (headSpec ws (cz_rm d h)).pre.before a A.U = true := atoms_intro fun w hw => hws w hw _ _ X.warmed
  have h2 : w0.before a A.U = true := hws _ hw0 _ _ X.warmed
  have h3 : (Cond.initialized y.cls).before a A.U = true := hinit _ _ X.warmed
  have h4 : A.cells + (headSpec ws (cz_rm d h)).room.cells ≤ R.cells := hp.1
  have h5 : A.slots + (headSpec ws (cz_rm d h)).room.slots ≤ R.slots := hp.2.1
  have hPc : cz_Pc D h av a (A.U.calling g mk a) := ⟨hp.2.2.1, hp.2.2.2.1.same (U := A.U.calling g mk a) rfl, hp.2.2.2.2⟩
  obtain ⟨U, Ls, c0, s0⟩ := A
  dsimp only [Pt.U, Pt.locs, Pt.cells, Pt.slots] at h1 h2 h3 h4 h5 X hn hPc ⊢
  obtain ⟨methY, cY, hmY, hcY, hlY⟩ := hcw.of hn h2
  obtain ⟨kY, hkY, -⟩ := className_of_methodNamed hn
  have hinitY : kY.init = .initialized := Cond.initialized_spec (findClass_of_methodNamed hn) hkY h3
  have hh : At U g.method c below := by rw [hg]; exact X.here
  have hlocals9 : W9 + (nL + 11) + (headSpec ws (cz_rm d h)).room.locals ≤ R.locals := hlocals
  have happ : (headSpec ws (cz_rm d h)).appliesLoose y e.platform (U.calling g mk a) = true :=
    Spec.appliesLoose_calling (g := g) hh hdg hn hkY hinitY
      (X.room_calling (g := g) (R' := (headSpec ws (cz_rm d h)).room) hsize hmY hcY hframes (by rw [hlY]; omega) h4 h5) h1
  obtain ⟨mid, hmid⟩ := hh.above
  have hfr : (U.setTop g).frames = (.java g :: mid) ++ below := by rw [State.frames_setTop' g hh.top, hmid]; rfl
  obtain ⟨o, s₂, hsteps, -, hend, hq⟩ := Steps.callFree hM p X.admits X.cas X.clock (acts := []) hfr happ hPc trivial
  have hq' : cz_QQ D h oh a (U.calling g mk a) o s₂ := hq
  obtain ⟨hP, hW₂, L, hsm, hL⟩ := hq'
  rw [State.frames_setTop' g hh.top] at hend
  obtain ⟨g₀, hg0⟩ := Option.isSome_iff_exists.mp hh.top
  obtain ⟨r, hr⟩ := State.topJava?_eq_some.mp hg0
  have hr' : (({ U with heap := s₂.heap, slotsUsed := s₂.slotsUsed } : State).setVm s₂.vm).frames = .java g₀ :: r := hr
  obtain ⟨e2, q2, q3, q4, q5, q6⟩ := id hsm
  have e3 : s₂ = ({ (U.calling g mk a).setFrames s₂.frames with heap := s₂.heap, slotsUsed := s₂.slotsUsed } : State).setVm s₂.vm := by
    have : s₂ = ({ s₂ with vm := (U.calling g mk a).vm } : State).setVm s₂.vm := rfl
    rw [e2] at this
    exact this
  have hW' : U.WarmedH s₂.vm := hW₂
  have hsame : U.sameButNew ({ U with heap := s₂.heap, slotsUsed := s₂.slotsUsed } : State) L (h.1.2.1 - h.2.1) (h.1.2.2.1 - h.2.2.1) := by
    refine ⟨?_, q2, q3, q4, q5, q6⟩
    obtain ⟨t, ht, -⟩ := State.frames_cons hr
    show ({ U with heap := s₂.heap, slotsUsed := s₂.slotsUsed } : State) = { U.setFrames U.frames with heap := s₂.heap, slotsUsed := s₂.slotsUsed }
    rw [State.setFrames_self ht]
  have hP' : cz_P D h oh U.heap o s₂.heap := hP
  cases ho : oh.1 with
  | inl v =>
    have hov : o = .returned (v.map cz_val) := by
      have := hP'.2.2.2
      rw [ho] at this
      exact this
    subst hov
    obtain ⟨c₂, i₂, len₂, hc₂, hd₂, hf₂⟩ := hend
    have hcc : c₂ = c := by
      have h1 : s₂.code? g.method = U.code? g.method := by
        rw [State.code?_eq, State.code?_eq, hW'.alike.method?]
      exact Option.some.inj (hc₂.symm.trans (h1.trans hh.code))
    subst hcc
    have hlen : len₂ = len := by rw [hdg] at hd₂; cases hd₂; rfl
    subst hlen
    have hs₂ : s₂ = (({ U with heap := s₂.heap, slotsUsed := s₂.slotsUsed } : State).setVm s₂.vm).setTop { g with pc := g.pc + len₂, stack := (v.map cz_val).toList ++ g.stack } := by
      refine e3.trans ?_
      rw [hf₂, State.calling_eq hh.top, State.setFrames_setFrames, State.setTop_of_frames _ hr', hr]
      rfl
    subst hg
    refine Or.inl ⟨v.map cz_val, ⟨(({ U with heap := s₂.heap, slotsUsed := s₂.slotsUsed } : State).setVm s₂.vm), Ls ++ L, c0 + (h.1.2.1 - h.2.1), s0 + (h.1.2.2.1 - h.2.2.1)⟩,
      ⟨X.admits, X.cas, X.clock, X.frames, X.room, X.hears, X.method, X.code, (X.here.setHeapUsed s₂.heap s₂.slotsUsed).setVm hW'.alike, X.tail, State.WarmedH.trans X.warmed hW', X.limits, X.bytes, X.same.trans (hsame.setVm s.vm)⟩,
      ⟨L, hP', rfl, hL⟩, ?_⟩
    show Steps p.tables e below _ ((({ U with heap := s₂.heap, slotsUsed := s₂.slotsUsed } : State).setVm s₂.vm).setTop { g with pc := g.pc + len₂, stack := (v.map cz_val).toList ++ g.stack })
    rw [← hs₂]
    exact hsteps
  | inr q =>
    have hov : o = .threw q := by
      have := hP'.2.2.2
      rw [ho] at this
      exact this
    subst hov
    have hf₂ : s₂.frames = .throwing q :: .java g :: U.frames.tail := hend
    have hs₂ : s₂ = ((({ U with heap := s₂.heap, slotsUsed := s₂.slotsUsed } : State).setVm s₂.vm).setTop g).pushFrame (.throwing q) := by
      refine e3.trans ?_
      rw [hf₂, State.calling_eq hh.top, State.setFrames_setFrames, State.pushFrame, State.frames_setTop _ hr', State.setTop_of_frames _ hr', State.setFrames_setFrames, hr]
      rfl
    subst hg
    refine Or.inr ⟨q, ⟨(({ U with heap := s₂.heap, slotsUsed := s₂.slotsUsed } : State).setVm s₂.vm), Ls ++ L, c0 + (h.1.2.1 - h.2.1), s0 + (h.1.2.2.1 - h.2.2.1)⟩,
      ⟨X.admits, X.cas, X.clock, X.frames, X.room, X.hears, X.method, X.code, (X.here.setHeapUsed s₂.heap s₂.slotsUsed).setVm hW'.alike, X.tail, State.WarmedH.trans X.warmed hW', X.limits, X.bytes, X.same.trans (hsame.setVm s.vm)⟩,
      ⟨L, hP', rfl, hL⟩, ?_⟩
    show Steps p.tables e below _ (((({ U with heap := s₂.heap, slotsUsed := s₂.slotsUsed } : State).setVm s₂.vm).setTop g).pushFrame (.throwing q))
    rw [← hs₂]
    exact hsteps
end CZB
