/-! THE LAYER, 12: an exception of the JDK made (printed by wip/D-98934w/gen/layer12.py; ct_newx follows vx_make0 of kit/laws/EXCEPTIONS.to-paste) -/
set_option maxRecDepth 100000
def cz_at0 : List Cond := vx_at0 "HeldCoats" 3 "java/util/NoSuchElementException" ["java/lang/RuntimeException", "java/lang/Exception"]
theorem cz_at0_eq : cz_at0 = ([134, 771, 780, 783, 786, 788, 772, 773, 165, 166, 774, 779, 784, 804, 761, 805, 763, 806, 765, 775, 777, 767, 1841, 1842, 1843, 1844, 1832, 1844, 1845, 1846, 1847, 754, 1847, 1848, 1849, 772, 756, 1840, 1830, 1831, 1834, 782, 1835, 1836, 1837, 1838, 770, 769, 1839] : List Nat).filterMap (fun i => lw_tbl[i]?) := by decide +kernel
theorem cz_at0_ok : cz_at0.all (fun w => goodWord w || cz_kind w) = true := by decide +kernel
theorem cz_at0_in : ∀ w ∈ cz_at0, w ∈ lw_tbl ∧ (goodWord w = true ∨ cz_kind w = true) := by
  intro w hw
  have h1 := List.all_eq_true.mp cz_at0_ok w hw
  rw [cz_at0_eq] at hw
  obtain ⟨i, -, hi⟩ := List.mem_filterMap.mp hw
  exact ⟨List.mem_of_getElem? hi, by simpa using h1⟩
theorem cz_at0_ot : ∀ w ∈ Cond.classLink "HeldCoats" 1 "java/util/NoSuchElementException" :: Cond.initialized "java/util/NoSuchElementException" :: cz_at0, vx_ot w = true := List.all_eq_true.mp (by decide +kernel)
def cz_newx (h : cz_H) (k : Option Nat → cz_H → cz_Z) : cz_Z := cz_mk h (.inl (24, fun _ => cz_i 0)) 6 k
section CZX
variable {K : cz_K} {D : cz_D} {d : Nat} {h0 : cz_H} {oh : cz_O × cz_H} {nL : Nat} {cc : ByteArray} {nm : String} {ret : Option FieldType} {tb : List ExceptionTableEntry} {h : cz_H} {pc : Nat} {L : List (Nat × cz_v)} {st : List cz_v}
set_option maxHeartbeats 4000000 in
theorem ct_newx {kk : Option Nat → cz_H → cz_Z} (S : cz_S K D h0 cc nL "HeldCoats" ret nm tb) (hfl : K.2.1.stackTraces = false) (d0 : decode cc pc = .ok (.new 1, 3)) (d3 : decode cc (pc + 3) = .ok (.dup, 1)) (d4 : decode cc (pc + 4) = .ok (.invokespecial 3, 3)) (hd : 14 ≤ d) (hst : (st.map cz_cat).sum ≤ 16) (k : ∀ (r : Option Nat) (h' : cz_H), cz_T K D d h0 oh nL (kk r h') h' (pc + 7) L (cz_r r :: st)) : cz_T K D d h0 oh nL (cz_newx h kk) h pc L st := by
  intro hz H locs ls hI hl
  unfold cz_newx cz_mk at hz
  split at hz
  rotate_left
  · cases hz
  · rename_i hroom
    obtain ⟨hr1, hr2⟩ := cz_roomC (d := d) S hI hroom.1 hroom.2
    have kk2 := k _ _ hz
    obtain ⟨hx, hb, hml, hown, hts, hN, hlk, hrt, hnm, htb, hR0⟩ := S
    intro T hT X
    subst hT
    have htr : K.2.2.1.platform.stackTraces = false := (show K.2.2.1.platform.stackTraces = K.2.1.stackTraces by rw [X.admits.platform]).trans hfl
    have hat : ∀ w ∈ cz_at0, w.before K.2.2.2.2.2.1 K.2.2.2.1 = true := by
      intro w hw
      obtain ⟨h1, h2⟩ := cz_at0_in w hw
      by_cases h3 : goodWord w = true
      · exact hts w (List.mem_filter.mpr ⟨h1, h3⟩)
      · have h4 := h2.resolve_left h3
        exact va_Nw.use (cz_kind_on h4) (hN.2.2.1 w h1 h4)
    have Y := vx_rebase X (R' := { frames := (cz_rm d h0).frames, locals := (cz_rm d h0).locals, cells := 1, slots := 6 }) (Nat.le_refl _) (Nat.le_refl _) hr1 hr2
    obtain ⟨s', hA'⟩ : ∃ z, z = (T.setVm K.2.2.2.1.vm).setFrames (.invoking K.2.2.2.2.1 K.2.2.2.2.2.1 :: K.2.2.2.2.2.2.1) := ⟨_, rfl⟩
    rw [← hA'] at Y
    have hvm : s'.vm = K.2.2.2.1.vm := by rw [hA']; rfl
    have hhp : s'.heap = T.heap := by rw [hA']; rfl
    have hW0 : K.2.2.2.1.WarmedH s'.vm := by rw [hvm]; exact State.WarmedH.refl _
    have hat' : ∀ w ∈ cz_at0, w.before K.2.2.2.2.2.1 s' = true := fun w hw => vx_ot_at hW0 hvm.symm (cz_at0_ot w (List.mem_cons_of_mem _ (List.mem_cons_of_mem _ hw))) (hat w hw)
    have hk' : (Cond.classLink "HeldCoats" 1 "java/util/NoSuchElementException").before K.2.2.2.2.2.1 s' = true := vx_ot_at hW0 hvm.symm (cz_at0_ot _ List.mem_cons_self) (hts _ q1829)
    have hini' : (Cond.initialized "java/util/NoSuchElementException").before K.2.2.2.2.2.1 s' = true := vx_ot_at hW0 hvm.symm (cz_at0_ot _ (List.mem_cons_of_mem _ List.mem_cons_self)) (hts _ q141)
    have hkept : ∀ a : Nat, a < K.2.2.2.1.heap.size → ¬ D.2.2.1 ≤ a → T.heap[a]? = K.2.2.2.1.heap[a]? := fun a ha hb => hI.2.1.old ha (Nat.lt_of_not_le hb)
    have stat : ∀ (n dd : String) (v : Option Nat), va_Z "java/lang/Throwable" n dd (va_rf v) (fun a => D.2.2.1 ≤ a) K.2.2.2.1 K.2.2.2.1.heap → vx_L "java/lang/Throwable" n dd (fun a => D.2.2.1 ≤ a) K.2.2.2.1 K.2.2.2.1.heap → vx_Zq "java/lang/Throwable" n dd (fun a => D.2.2.1 ≤ a) s' s'.heap := by
      intro n dd v hZ hLL
      rw [hhp]
      refine vx_Zq.moved hW0.alike (vx_Zq.kept ⟨?_, hLL⟩ hkept)
      cases v with
      | none => exact Or.inl hZ
      | some a => exact Or.inr ⟨a, hZ⟩
    have hU' := stat _ _ _ (hN.2.2.2.2.1 _ (List.mem_of_getElem? (i := 2) rfl)) hN.2.2.2.2.2.2.2.2.1
    have hN' := stat _ _ _ (hN.2.2.2.2.1 _ (List.mem_of_getElem? (i := 3) rfl)) hN.2.2.2.2.2.2.2.2.2
    have hh9 : ∀ w ∈ Bundle.ownAtoms0 "HeldCoats" 3 "java/util/NoSuchElementException" ["java/lang/RuntimeException", "java/lang/Exception"], w.before K.2.2.2.2.2.1 s' = true := vx_own hat' (vx_isRefq hU'.1) (vx_isRefq hN'.1) hU'.2.word hN'.2.word
    have hown' : s'.vm.findClass "HeldCoats" = some K.2.2.2.2.1.cls := by rw [hvm]; exact hown
    have hins : (Cond.instantiable "java/util/NoSuchElementException" 6).before K.2.2.2.2.2.1 s' = true := hh9 _ (by simp [Bundle.ownAtoms0])
    obtain ⟨vm₁, cX, kX, hfX, hkX, -, -, X₁, st1⟩ := Y.newCold hx (own := "HeldCoats") (C := "java/util/NoSuchElementException") (index := 1) (n := 6) hown' hk' hins hini'
      (g := F0 K.2.2.2.2.1 pc ls (st.map cz_val)) rfl (by rw [hb]; exact d0) (Nat.le_refl _) (Nat.le_refl _)
    generalize hT1 : (T.setVm vm₁).pushCell { cls := cX, slots := kX.instanceTypes.map defaultValue, vm := .none } = T1 at X₁ st1
    have hcat : (Value.ref T.heap.size).category = 1 := rfl
    have hcellA : T1.heap[T.heap.size]? = some (freshCell cX kX) := by rw [← hT1]; exact State.heap_pushCell_size _ _
    have d3' : decode K.2.2.2.2.2.2.2.2.code (pc + 3) = .ok (.dup, 1) := by rw [hb]; exact d3
    have hsize : ls.size = K.2.2.2.2.2.2.2.2.maxLocals := by rw [hml]; exact hl.1
    obtain ⟨V, ce, LL, Z, hL, hlt, hcl9, hvm9, stt⟩ := vx_ctorMade0 X₁ hx htr (own := "HeldCoats") (cls := "java/util/NoSuchElementException") (names := ["java/lang/RuntimeException", "java/lang/Exception"]) (ic := 3) hown' (by decide) (by decide) hh9 (fun x hx => nomatch hx) hfX hkX hcellA (by rw [hhp]; exact Nat.le_refl _)
      (g := { method := K.2.2.2.2.1, pc := pc + 4, locals := ls, stack := .ref T.heap.size :: .ref T.heap.size :: st.map cz_val, locked := none }) rfl hsize (rest := st.map cz_val) rfl
      (by rw [hb]; exact d4) (by show 2 + 3 < d; omega) (by
        simp only [List.map_cons, List.sum_cons, hcat]
        rw [cz_catsum]
        show _ ≤ 64 * d
        simp only [List.length_cons, List.length_nil]
        omega)
    have Z0 := Stand.forget (locs := []) Z (fun y hy => by rw [hL y hy, hhp]; exact Nat.le_refl _)
    obtain ⟨f1, f2⟩ := vx_frame Z0.same
    have z3 : (V.setCell T.heap.size ce).heap.size ≤ s'.heap.size + 1 := Z0.same.2.2.1
    have z5 : cz_sl s'.heap.size (V.setCell T.heap.size ce).heap ≤ 6 := Z0.same.2.2.2.2.1
    rw [hhp] at f1 f2 z3 z5
    have hcl24 := hN.1.1 24 _ cz_cl24
    have hcid : ce.cls = D.1.1 24 := by
      rw [hcl9]
      rw [hvm] at hfX
      exact Option.some.inj (hfX.symm.trans hcl24.2.1)
    have hh : (V.setCell T.heap.size ce).heap[T.heap.size]? = some ce := heapAt_setCell_self (s := V) ce hlt
    subst hA'
    have X5 := vx_back9 X Y Z0
    generalize (V.setCell T.heap.size ce) = V2 at *
    have hsz : V2.heap.size = T.heap.size + 1 := by
      have := (Array.getElem?_eq_some_iff.mp hh).1
      omega
    have hn : T.heap.size = h.2.1 := hI.1.2.1
    have hX1 : cz_X D.2.2.1 T.heap V2.heap := cz_X.push hn (by rw [hsz, hn]) (fun q hq => f2 q (by rw [hn]; exact hq) (fun z hz => nomatch hz))
    have hat24 : cz_at D h.2.1 (.inl (24, fun _ => cz_i 0)) V2.heap := ⟨_, ce, cz_cl24, by rw [← hn]; exact hh, hcid, (by rw [hvm9]; rfl), (by rw [hvm9]; exact fun q => by cases q), fun _ => hvm9, fun q hq _ => absurd hq (Nat.not_lt_zero q)⟩
    have hI2 : cz_I K D h0 (cz_new h (.inl (24, fun _ => cz_i 0)) 6) V2.heap locs := by
      refine ⟨hI.1.push (by rw [hsz, hn]) (fun q hq => f2 q (by rw [hn]; exact hq) (fun z hz => nomatch hz)) hat24 hroom.1 hroom.2, hI.2.1.tr hX1, ?_, hI.2.2.2⟩
      rw [cz_sl_ext hX1 _ hI.2.1.1]
      have := hI.2.2.1
      show _ ≤ h.2.2.1 + 6
      omega
    obtain ⟨t, a1, b1⟩ := cz_tight (kk2 V2.heap locs ls hI2 hl) V2 rfl X5
    refine ⟨t, st1 _ ?_, b1⟩
    show Steps K.1.tables K.2.2.1 K.2.2.2.2.2.2.1 (T1.setTop { method := K.2.2.2.2.1, pc := pc + 3, locals := ls, stack := .ref T.heap.size :: st.map cz_val, locked := none }) _
    jvm_step X₁.here [X₁.here.top, hx, d3', Value.category]
    refine stt _ ?_
    rw [hn]
    exact a1
end CZX
section CZY
variable {p : Program} {l : Launch} {e : Env} {R : Room} {s : State} {m : MethodId} {args : Array Value} {below : List Frame} {meth : Method} {c : Code} {T : State} {locs : List Loc} {cells slots : Nat}
set_option maxHeartbeats 4000000 in
/-- invokestatic by the name of a class that inherits the method: cold entries, then the call (the way of Stand.invokevirtualUp, for a static method) -/
theorem cz_stUp (X : Stand p l e R s m args below meth c T locs cells slots) (hexec : p.tables.exec = Jvm.exec) {own owner : String} {index : Nat} {x : MethodName} (hown : s.vm.findClass own = some m.cls) (hlink : (Cond.methodLink own index x).before args s = true)
    (hsame : (Cond.sameMethod x.cls owner x.name x.desc).before args s = true) (howner : owner ≠ "java/lang/invoke/MethodHandle" ∧ owner ≠ "java/lang/invoke/VarHandle") {r0 : MethodId} {r : Method} {kr : Class} (hn : s.methodNamed? ⟨owner, x.name, x.desc⟩ = some r0) (hrm : s.vm.method? r0 = some r) (hstatic : r.isStatic = true) (hkr : s.vm.classes[r0.cls]? = some kr) (hinit : kr.init = .initialized)
    {g : JFrame} (hg : g.method = m) {argsL rest : List Value} (hlen : argsL.length = r.sig.parameters.length) (hstack : g.stack = argsL.reverse ++ rest) (hdg : decode c.code g.pc = .ok (.invokestatic index, 3)) :
    ∃ vm', Stand p l e R s m args below meth c (T.setVm vm') locs cells slots ∧ ∀ target, (∀ acts, Steps p.tables e below (doInvoke e ((T.setVm vm').setTop { g with stack := rest }) acts r0 argsL.toArray).1 target) → Steps p.tables e below (T.setTop g) target := by
  have hpl : e.platform.magicAccessors = ({} : Platform).magicAccessors := by rw [X.admits.platform]
  have hpv : e.platform.polymorphicOnlyByInvokevirtual = true := by rw [X.admits.platform]
  obtain ⟨cn, ck, r1, hcn, hck, hni, hf, hn1⟩ := Cond.sameMethod_found hsame
  cases hn.symm.trans hn1
  obtain ⟨ci, hl, hright⟩ := Cond.methodLink_specUp hown hcn hck hni hf hlink e.platform hpl (by rw [X.admits.platform])
  have hE : s.MethodEntryUp e T.vm m.cls index cn r0 ci := State.methodEntryUp X.warmed hl hright
  obtain ⟨k9, hk9, hnr⟩ := className_of_methodNamed hn
  cases hkr.symm.trans hk9
  obtain ⟨dk, cfile, nt, mname, mdesc, ck', _, _, hd, hcf, hcp, hnt, -, -, hck', -, hnp, -⟩ := hl.here
  cases hck.symm.trans hck'
  have hA := hE.warmed.alike
  have hnone : (ck.methods.any fun y => y.name == mname && !y.isStatic && signaturePolymorphic ck y) = false := by simp [hnp]
  have hcp' : cfile.constantPool[index]? = some (if false then .interfaceMethodref ci nt else .methodref ci nt) := hcp
  obtain ⟨hgc, hrc, hW₁, hgm⟩ := hE.classFirst
  -- the tables now, behind the class's entry, behind both
  obtain ⟨dk₀, hdk₀, hed₀⟩ := X.warmed.alike.2.2 _ _ hd
  obtain ⟨dk₂, hdk₂, hed₂⟩ := hA.2.2 _ _ hd
  obtain ⟨ck₁, hck₁, hec₁⟩ := hW₁.alike.2.2 _ _ hck
  obtain ⟨ck₂, hck₂, hec₂⟩ := hA.2.2 _ _ hck
  obtain ⟨kr₂, hkr₂, her₂⟩ := hA.2.2 _ _ hkr
  have b₀ := memberRef_ask_via (e := e) hdk₀ (by rw [hed₀]; exact hcf) hcp' hnt
  have b₂ := memberRef_ask_via (e := e) hdk₂ (by rw [hed₂]; exact hcf) hcp' hnt
  have n₁ : (ck₁.methods.any fun y => y.name == mname && !y.isStatic && signaturePolymorphic ck₁ y) = false := by rw [hec₁]; exact hnone
  have n₂ : (ck₂.methods.any fun y => y.name == mname && !y.isStatic && signaturePolymorphic ck₂ y) = false := by rw [hec₂]; exact hnone
  subst hg
  have ht0 : T.topJava?.isSome := X.here.top
  have ht1 : (T.setVm (T.vm.noted g.method.cls ci (.cls cn))).topJava?.isSome := ht0
  have ht2 : (T.setVm (T.vm.calledUp g.method.cls ci index cn r0)).topJava?.isSome := ht0
  have cold : ∀ {Q : Unit → Pre} {E : CtlPost} {dd : Bool} {acts : List Action}, wp (Op.invokestatic.sem index) Q E e dd acts (T.setTop g) ↔ wp (Op.invokestatic.sem index) Q E e dd acts ((T.setVm (T.vm.calledUp g.method.cls ci index cn r0)).setTop g) := by
    intro Q E dd acts
    have r1 : ∀ {Q' : ClassId → Pre} {d' : Bool} {a' : List Action}, wp (Jvm.resolveClassAt ci) Q' E e d' a' (T.setTop g) ↔ Q' cn d' a' ((T.setVm (T.vm.noted g.method.cls ci (.cls cn))).setTop g) := Jvm.W.resolveClassAt_links (t := T.setTop g) (State.method?_setTop g ht0) hgc
    have r2 : ∀ {Q' : MethodId → Pre} {d' : Bool} {a' : List Action}, wp (Jvm.resolveMethodAt index) Q' E e d' a' ((T.setVm (T.vm.noted g.method.cls ci (.cls cn))).setTop g) ↔ Q' r0 d' a' ((T.setVm (T.vm.calledUp g.method.cls ci index cn r0)).setTop g) := Jvm.W.resolveMethodAt_links (t := (T.setVm (T.vm.noted g.method.cls ci (.cls cn))).setTop g) (State.method?_setTop g ht1) hgm
    simp [Op.invokestatic.sem, hpv, Seam.memberRefOf, State.method?_setTop g ht0, State.method?_setTop g ht2, b₀, b₂, r1, r2, hck₁, hck₂, n₁, n₂, -Array.any_eq_true,
      Jvm.W.resolveClassAt_ready (s := (T.setVm (T.vm.calledUp g.method.cls ci index cn r0)).setTop g) (State.method?_setTop g ht2) hE.classReady, Jvm.W.resolveMethodAt_ready (s := (T.setVm (T.vm.calledUp g.method.cls ci index cn r0)).setTop g) (State.method?_setTop g ht2) hE.ready]
  refine ⟨T.vm.calledUp g.method.cls ci index cn r0, X.noted hE.warmed, fun target hrest => ?_⟩
  jvm_step X.here [hexec, hdg, cold, invokestatic.wp_ready (e := e) (s := T.setVm (T.vm.calledUp g.method.cls ci index cn r0)) (k := kr₂) (meth := r) (m := r0) (args := argsL) (rest := rest) (f := g)
      ht0 ⟨ci, mname, mdesc, false, cn, ck₂, b₂, hE.classReady, hck₂, n₂⟩ hE.ready hkr₂ (by show (T.vm.calledUp g.method.cls ci index cn r0).method? r0 = some r; rw [hA.method?]; exact hrm)
      (by rw [her₂]; show signaturePolymorphic kr r = false; simp [signaturePolymorphic, hnr, howner.1, howner.2]) hstatic (by rw [her₂]; exact hinit) hlen hstack]
  exact fun acts => hrest _
end CZY
section CZQ
variable {K : cz_K} {D : cz_D} {d : Nat} {h0 : cz_H} {oh : cz_O × cz_H} {nL : Nat} {cc : ByteArray} {own nm : String} {ret : Option FieldType} {tb : List ExceptionTableEntry} {h : cz_H} {pc : Nat} {L : List (Nat × cz_v)} {st stk : List cz_v}
theorem cg_staticUp {x y : MethodName} {owner : String} {idx n2 d2 : Nat} {ws : List Cond} {av : List cz_v} {fz : cz_Z} (S : cz_S K D h0 cc nL own ret nm tb) (hM : ∀ oh', fz = some oh' → cz_M K.2.1 D y ws d2 av h oh') (hm : cz_md y n2 ws av.length) (hlk : Cond.methodLink own idx x ∈ lw_all) (hsame : Cond.sameMethod x.cls owner x.name x.desc ∈ lw_all) (hstat : Cond.static y ∈ lw_all) (hxy : y = ⟨owner, x.name, x.desc⟩) (hd : d2 + 1 ≤ d) (hst : (st.map cz_cat).sum ≤ 16) (hstk : stk = av.reverse ++ st) (dg : decode cc pc = .ok (.invokestatic idx, 3)) : cz_G K D d h0 nL fz h pc L stk st := by
  subst hstk
  intro oh' e H locs ls hI hl TT hT X
  obtain ⟨hw, hini, hy, hn⟩ := hm
  have hK := cz_callee S (hM oh' e) hw hini hd hn
  obtain ⟨mk, methM, hnamed, hmethM, hsigM⟩ := cz_sig S hw
  have hstatic : methM.isStatic = true := Cond.static_spec hnamed hmethM (S.2.2.2.2.1 _ hstat)
  obtain ⟨kP, hkP, -⟩ := className_of_methodNamed hnamed
  have hinitP : kP.init = .initialized := Cond.initialized_spec (findClass_of_methodNamed hnamed) hkP (S.2.2.2.2.1 _ hini)
  have hW : 2 * (F0 K.2.2.2.2.1 pc ls (st.map cz_val)).monitorRoom + ((st.map cz_val).map fun v => v.category).sum ≤ 16 := by rw [cz_catsum]; show 2 * 0 + _ ≤ 16; omega
  obtain ⟨vm₁, X₁, hstep₁⟩ := cz_stUp X S.1 S.2.2.2.1 (S.2.2.2.2.1 _ hlk) (S.2.2.2.2.1 _ hsame) (by rw [hxy] at hy; exact ⟨hy.1, hy.2.1⟩) (by rw [← hxy]; exact hnamed) hmethM hstatic hkP hinitP (g := F0 K.2.2.2.2.1 pc ls ((av.reverse ++ st).map cz_val)) rfl (argsL := av.map cz_val) (rest := st.map cz_val) (cz_len hy rfl _ hsigM) (by show (av.reverse ++ st).map cz_val = _; rw [List.map_append, List.map_reverse]) (by rw [S.2.1]; exact dg)
  rcases hK _ _ _ ⟨TT.setVm vm₁, locs, H.size - K.2.2.2.1.heap.size, cz_sl K.2.2.2.1.heap.size H⟩ (F0 K.2.2.2.2.1 pc ls (st.map cz_val)) (.invokestatic idx) mk (av.map cz_val).toArray X₁ rfl (by rw [S.2.2.1]; exact hl.1) (by rw [S.2.1]; exact dg) hW (X₁.named hnamed) (cz_pre S hI hT vm₁ X₁.warmed) with ⟨v, B, X', hpost, hsteps⟩ | ⟨q, B, X', hpost, hsteps⟩
  · exact Or.inl ⟨v, vm₁, B, X₁.warmed, X', hpost, fun target e => hstep₁ _ fun acts => by rw [doInvoke_state]; exact hsteps.trans e⟩
  · exact Or.inr ⟨q, vm₁, B, X₁.warmed, X', hpost, hstep₁ _ fun acts => by rw [doInvoke_state]; exact hsteps⟩
end CZQ
