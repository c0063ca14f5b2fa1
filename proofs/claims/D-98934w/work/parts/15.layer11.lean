/-! THE LAYER, 11: a private method on an object of a class below; getClass; references copied; an exception of the JDK made -/
section CZP
variable {K : cz_K} {D : cz_D} {d : Nat} {h0 : cz_H} {oh : cz_O × cz_H} {nL : Nat} {cc : ByteArray} {own nm : String} {ret : Option FieldType} {tb : List ExceptionTableEntry} {z z1 z2 : cz_Z} {h : cz_H} {pc : Nat} {L L' : List (Nat × cz_v)} {st stk : List cz_v}
/-- invokevirtual of a private method (y0: another method of its class that the tables know to be selected) -/
theorem cg_private {y y0 : MethodName} {C0 : String} {idx n2 d2 b ci : Nat} {V : Nat → cz_v} {cs : List Nat} {ws : List Cond} {av : List cz_v} {fz : cz_Z} (S : cz_S K D h0 cc nL own ret nm tb) {r : Option Nat} (hr : r = some b) (hc : h.2.2.2 b = some (.inl (ci, V))) (_hci : ci ∈ cs) (hM : ∀ oh', fz = some oh' → cz_M K.2.1 D y ws d2 (cz_r r :: av) h oh') (hm : cz_md y n2 ws av.length) (hlk : Cond.methodLink own idx y ∈ lw_all) (hinst : Cond.instanceMethod y ∈ lw_all) (hpriv : Cond.privateMethod y ∈ lw_tbl) (haux : Cond.selects C0 y0 y0 ∈ lw_all) (hy0 : y0.cls = y.cls) (hd : d2 + 1 ≤ d) (hst : (st.map cz_cat).sum ≤ 16) (hstk : stk = av.reverse ++ cz_r r :: st) (dg : decode cc pc = .ok (.invokevirtual idx, 3)) : cz_G K D d h0 nL fz h pc L stk st := by
  subst hr
  subst hstk
  intro oh' e H locs ls hI hl TT hT X
  obtain ⟨hw, hini, hy, hn⟩ := hm
  have hK := cz_callee S (hM oh' e) hw hini hd hn
  obtain ⟨mk0, methM0, hnamed0, hmethM0, hsigM⟩ := cz_sig S hw
  obtain ⟨mk, methM, hnamed, hmethM, hstM, habM⟩ := Cond.instanceMethod_spec (S.2.2.2.2.1 _ hinst)
  cases hnamed0.symm.trans hnamed
  cases hmethM0.symm.trans hmethM
  obtain ⟨r2, cellB, g1, hcB, g3, hoB, -⟩ := hI.1.2.2.2.2.2 b _ hc
  obtain ⟨c2, rr2, m2, q1, q2, q3, q4, kP, hkP, hkPi⟩ := Cond.selects_spec (S.2.2.2.2.1 _ haux)
  have hmc : m2.cls = mk0.cls := Option.some.inj ((findClass_of_methodNamed q3).symm.trans (by rw [hy0]; exact findClass_of_methodNamed hnamed))
  rw [hmc] at hkP
  have hpa := Cond.privateMethod_at (S.2.2.2.2.2.1.2.2.1 _ hpriv rfl)
  have hselP : selectMethod K.2.2.1.platform K.2.2.2.1.vm cellB.cls mk0 = .method mk0 := selectMethod_private hmethM (hpa mk0 _ hnamed hmethM)
  have hW : 2 * (F0 K.2.2.2.2.1 pc ls (st.map cz_val)).monitorRoom + ((st.map cz_val).map fun v => v.category).sum ≤ 16 := by rw [cz_catsum]; show 2 * 0 + _ ≤ 16; omega
  obtain ⟨vm₁, X₁, hstep₁⟩ := X.invokevirtual S.1 S.2.2.2.1 (S.2.2.2.2.1 _ hlk) hnamed hmethM hstM hkP hkPi ⟨hy.1, hy.2.1⟩ (a := b) (cell := cellB) (by rw [hT]; exact hcB)
    (fun z h => by rw [h] at hoB; cases hoB) hselP hmethM habM hkP hkPi (g := F0 K.2.2.2.2.1 pc ls ((av.reverse ++ cz_r (some b) :: st).map cz_val)) rfl (argsL := av.map cz_val) (rest := st.map cz_val) (cz_len hy rfl _ hsigM) (by show (av.reverse ++ cz_r (some b) :: st).map cz_val = _; rw [List.map_append, List.map_reverse]; rfl) (by rw [S.2.1]; exact dg)
  rcases hK _ _ _ ⟨TT.setVm vm₁, locs, H.size - K.2.2.2.1.heap.size, cz_sl K.2.2.2.1.heap.size H⟩ (F0 K.2.2.2.2.1 pc ls (st.map cz_val)) (.invokevirtual idx) mk0 ((cz_r (some b) :: av).map cz_val).toArray X₁ rfl (by rw [S.2.2.1]; exact hl.1) (by rw [S.2.1]; exact dg) hW (X₁.named hnamed) (cz_pre S hI hT vm₁ X₁.warmed) with ⟨v, B, X', hpost, hsteps⟩ | ⟨q, B, X', hpost, hsteps⟩
  · exact Or.inl ⟨v, vm₁, B, X₁.warmed, X', hpost, fun target e => hstep₁ _ fun acts => by rw [doInvoke_state]; exact hsteps.trans e⟩
  · exact Or.inr ⟨q, vm₁, B, X₁.warmed, X', hpost, hstep₁ _ fun acts => by rw [doInvoke_state]; exact hsteps⟩
/-- getClass() of an Object[] -/
def cz_getC (h : cz_H) (r : Option Nat) (k : Option Nat → cz_Z) : cz_Z := cz_arr h r (fun _ kd _ => if kd = 4 then k (h.1.2.2.2 31) else none)
theorem ct_getC {r : Option Nat} {idx : Nat} {kk : Option Nat → cz_Z} (S : cz_S K D h0 cc nL own ret nm tb) (hlk : Cond.methodLink own idx ⟨"java/lang/Object", "getClass", "()Ljava/lang/Class;"⟩ ∈ lw_all) (hdec : Cond.declares ⟨"java/lang/Object", "getClass", "()Ljava/lang/Class;"⟩ ∈ lw_tbl) (hsel : Cond.selects "[Ljava/lang/Object;" ⟨"java/lang/Object", "getClass", "()Ljava/lang/Class;"⟩ ⟨"java/lang/Object", "getClass", "()Ljava/lang/Class;"⟩ ∈ lw_all) (hinst : Cond.instanceMethod ⟨"java/lang/Object", "getClass", "()Ljava/lang/Class;"⟩ ∈ lw_all) (hnat : Cond.native ⟨"java/lang/Object", "getClass", "()Ljava/lang/Class;"⟩ ∈ lw_all) (hd : 1 ≤ d) (hst : (st.map cz_cat).sum ≤ 16) (dg : decode cc pc = .ok (.invokevirtual idx, 3)) (k : ∀ x : Option Nat, cz_T K D d h0 oh nL (kk x) h (pc + 3) L (cz_r x :: st)) : cz_T K D d h0 oh nL (cz_getC h r kk) h pc L (cz_r r :: st) := by
  intro hz H locs ls hI hl
  obtain ⟨a, kd, y, rfl, hc, hz⟩ := cz_arrI hz
  split at hz
  · rename_i hkd
    subst hkd
    obtain ⟨cell, g2, g3, g4, g5, g6, g7, g8⟩ := hI.1.2.2.2.2.2 a _ hc
    obtain ⟨mi, e, hr⟩ := S.2.2.2.2.2.1.2.2.2.2.2.2.1
    have kk := k _ hz H locs ls hI hl
    rw [hI.1.1, e] at kk
    exact va_getC S.1 S.2.1 (by rw [S.2.2.1]; exact hl.1.symm) S.2.2.2.1 (S.2.2.2.2.1 _ hlk) (va_Nw.use rfl (S.2.2.2.2.2.1.2.2.1 _ hdec rfl)) (S.2.2.2.2.1 _ hsel) (S.2.2.2.2.1 _ hinst) (S.2.2.2.2.1 _ hnat) hr ⟨cell, g2, g4, by rw [g3]; exact va_nmO (S.2.2.2.2.2.1.1.2 4 _ rfl).2 (by decide)⟩ hd (by rw [cz_catsum]; show _ ≤ 64 * d; omega) dg kk
  · cases hz
theorem ct_acq {rs rd : Option Nat} {sp dp n : Int32} {idx : Nat} {kk : cz_H → cz_Z} (S : cz_S K D h0 cc nL own ret nm tb) (hlk : Cond.methodLink own idx arraycopyName ∈ lw_all) (hnat : Cond.native arraycopyName ∈ lw_all) (hstat : Cond.static arraycopyName ∈ lw_all) (hini : Cond.initialized "java/lang/System" ∈ lw_all) (hd : 1 ≤ d) (hst : (st.map cz_cat).sum ≤ 16) (dg : decode cc pc = .ok (.invokestatic idx, 3)) (k : ∀ h' : cz_H, cz_T K D d h0 oh nL (kk h') h' (pc + 3) L st) : cz_T K D d h0 oh nL (cz_acq h rs sp rd dp n kk) h pc L (cz_i n :: cz_i dp :: cz_r rd :: cz_i sp :: cz_r rs :: st) := by
  intro hz H locs ls hI hl TT hT X
  obtain ⟨a0, k0, ⟨n0, f | f | f | f | f⟩, rfl, hc0, hz⟩ := cz_arrI hz
  rotate_right
  · obtain ⟨a1, k1, ⟨n1, g | g | g | g | g⟩, rfl, hc1, hz⟩ := cz_arrI hz
    rotate_right
    · dsimp only at hz
      split at hz
      · rename_i hkd
        split at hz
        · rename_i hin
          by_cases hel : ∀ i y : Nat, i < n.toNatClampNeg → f (sp.toNatClampNeg + i) = some y → ∃ o, h.2.2.2 y = some (.inl o)
          rotate_left
          · rw [if_neg hel] at hz
            cases hz
          · rw [if_pos hel] at hz
            have hz9 := hz
            obtain ⟨⟨rfl, rfl⟩, hb⟩ := hkd
            obtain ⟨⟨h1, h2, h3⟩, h4, h5⟩ := hin
            rw [hI.1.1] at hb
            obtain ⟨cell0, p2, p3, p4, p5, p6, p7, p8⟩ := hI.1.2.2.2.2.2 a0 _ hc0
            obtain ⟨cell1, g2, g3, g4, g5, g6, g7, g8⟩ := hI.1.2.2.2.2.2 a1 _ hc1
            obtain ⟨-, p71, -, p72⟩ := p7
            have p72 : ∀ j, j < n0 → cell0.slots[j]? = (arrV 0 n0 (fun j => va_rf (f j))).slots[j]? := p72
            have p71 : n0 ≤ cell0.slots.size := p71
            have g7 : cell1.slots = (arrV 0 n1 (fun j => va_rf (g j))).slots := g7.1 hb
            have hA : ArrOfT K.2.2.2.1 (D.2.1 4) (.object "java/lang/Object") := cz_kdT S rfl
            obtain ⟨hs0, q0, hq0, cm0, hqq0⟩ := cz_isArr hA p3 p4
            obtain ⟨hs1, q1, hq1, cm1, hqq1⟩ := cz_isArr hA g3 g4
            obtain ⟨vm', X', step⟩ := X.arraycopy S.1 S.2.2.2.1 (S.2.2.2.2.1 _ hlk) (S.2.2.2.2.1 _ hnat) (S.2.2.2.2.1 _ hstat) (S.2.2.2.2.1 _ hini) (src := a0) (dst := a1) (cs := cell0) (cd := cell1) (srcPos := sp) (destPos := dp) (n := n) (by rw [hT]; exact p2) (by rw [hT]; exact g2)
              hs0 hs1 p5 g5 hq0 hq1 hqq0 hqq1 rfl h1 h2 h3
              (by rw [cz_nn sp h1, cz_nn n h3]; omega) (by rw [cz_nn dp h2, cz_nn n h3, g7, arrV_size]; omega)
              (fun vm₁ hal i hi => by
                have e : cell0.slots.getD (sp.toNatClampNeg + i) .null = va_rf (f (sp.toNatClampNeg + i)) := by
                  rw [Array.getD_eq_getD_getElem?, p72 _ (by omega), arrV_read _ _ (by omega)]
                  rfl
                rw [e]
                cases hy : f (sp.toNatClampNeg + i) with
                | none => exact ⟨rfl, trivial⟩
                | some y =>
                  obtain ⟨oo, ho⟩ := hel i y hi hy
                  obtain ⟨r2, cv, v1, v2, v3, v4, v5, v6, v7⟩ := hI.1.2.2.2.2.2 y _ ho
                  obtain ⟨kA, comp, w1, w2, w3, -⟩ := (S.2.2.2.2.2.1.1.2 4 _ rfl).2
                  have e9 : cm1 = comp := by
                    rw [g3] at hq1
                    have w1' : K.2.2.2.1.vm.classes[D.2.1 4]? = some kA := w1
                    cases Option.some.inj (hq1.symm.trans w1')
                    rw [hqq1] at w2
                    injection w2
                  subst e9
                  have hat := (S.2.2.2.2.2.1.1.1 oo.1 _ v1).2
                  obtain ⟨c0, t0, f1, f2, f3⟩ := Cond.castable_spec (va_Nw.use (A := K.2.2.2.2.2.1) rfl (S.2.2.2.2.2.1.2.2.1 _ (cz_ocast oo.1 _ v1) rfl))
                  cases hat.1.symm.trans f1
                  cases w3.symm.trans f2
                  obtain ⟨kC, hkC, -⟩ := Vm.findClass_spec hat.1
                  obtain ⟨kE, hkE, -⟩ := Vm.findClass_spec w3
                  obtain ⟨kC', hkC', -⟩ := hal.2.2 _ _ hkC
                  obtain ⟨kE', hkE', -⟩ := hal.2.2 _ _ hkE
                  refine ⟨rfl, cv, (show TT.heap[y]? = some cv by rw [hT]; exact v2), (fun q h => by rw [h] at v4; cases v4), ⟨kC', by rw [v3]; exact hkC'⟩, ⟨kE', hkE'⟩, ?_⟩
                  show vm₁.assignable _ _ = true
                  rw [hal.assignable, v3]
                  exact f3)
              (g := F0 K.2.2.2.2.1 pc ls (.int n :: .int dp :: .ref a1 :: .int sp :: .ref a0 :: st.map cz_val)) rfl (by rw [S.2.2.1]; exact hl.1) (rest := st.map cz_val) rfl (by rw [S.2.1]; exact dg) hd (by
                show 2 * 0 + ((st.map cz_val).map fun v => v.category).sum + (nativeFrameWords "java/lang/System" "arraycopy" 5 + 11) ≤ 64 * d
                have hw : nativeFrameWords "java/lang/System" "arraycopy" 5 ≤ 20 := by decide
                rw [cz_catsum]
                omega)
            have hcf := cz_copied_facts cell0 cell1 sp dp n
            obtain ⟨t, a, b⟩ := cz_wcpy (y := (n1, cz_qa (va_cpy f g sp.toNatClampNeg dp.toNatClampNeg n.toNatClampNeg))) (kd := 4) (TT := (TT.setVm vm').setCell a1 (copied cell0 cell1 sp dp n)) hI hl hb g2 (hcf.1.trans g3) (by rw [hcf.2.1]; exact g4) (by rw [hcf.2.1]; exact g5) (fun q => by rw [hcf.2.1]; exact g6 q) (cz_copied (fun x => va_rf x) f g p72 g7 h4) hcf.2.2 (fun z hz => by
              obtain ⟨q, -, e⟩ := List.mem_map.mp hz
              rw [← e]) (fun q => by cases q) hz9 (by rw [← hT]; rfl) X' (k _)
            exact ⟨t, step t a, b⟩
        · cases hz
      · cases hz
    all_goals cases hz
  all_goals (obtain ⟨a1, k1, ⟨n1, g | g | g | g | g⟩, rfl, hc1, hz⟩ := cz_arrI hz <;> cases hz)
theorem ct_oinit {idx : Nat} {r : Option Nat} (S : cz_S K D h0 cc nL own ret nm tb) (hlk : Cond.methodLink own idx Lib.objectInit ∈ lw_all) (hin : Cond.instanceMethod Lib.objectInit ∈ lw_all) (hco : Cond.code Lib.objectInit ⟨#[0xb1]⟩ 1 none ∈ lw_all) (hd : 1 ≤ d) (hst : (st.map cz_cat).sum ≤ 16) (dg : decode cc pc = .ok (.invokespecial idx, 3)) (k : cz_T K D d h0 oh nL z h (pc + 3) L st) : cz_T K D d h0 oh nL (cz_nn' r z) h pc L (cz_r r :: st) := by
  have := ct_objInit (r := r) S hlk hin hco hd hst dg k
  cases r with
  | none => exact this
  | some a => exact this
/-- a static field that holds a reference -/
theorem ct_getsR {idx i j : Nat} {C n dd : String} (S : cz_S K D h0 cc nL own ret nm tb) (hq : (cz_sts D)[i]? = some (C, n, dd, cz_r (D.2.2.2.2.2 j))) (hlk : Cond.fieldLink own idx C n dd ∈ lw_all) (dg : decode cc pc = .ok (.getstatic idx, 3)) (k : cz_T K D d h0 oh nL z h (pc + 3) L (cz_r (h.1.2.2.2 j) :: st)) : cz_T K D d h0 oh nL z h pc L st := by
  intro hz H locs ls hI hl
  have kk := k
  rw [hI.1.1] at kk
  exact ct_gets S hq hlk dg kk hz H locs ls hI hl
theorem cz_sllen : ∀ av : List cz_v, (lg_sl (av.map cz_val)).length = (av.map cz_cat).sum
  | [] => rfl
  | v :: av => by
    have ih := cz_sllen av
    unfold lg_sl at ih ⊢
    rw [List.map_cons, List.flatMap_cons, List.length_append, ih, List.map_cons, List.sum_cons]
    congr 1
    rw [cz_cat_val]
    rcases v with x | r | x <;> rfl
/-- the contract out of the walk -/
theorem cz_met {l : Launch} {y : MethodName} {av : List cz_v} {fz : cz_Z} (hy : plainFor y = true) (hn : (av.map cz_cat).sum ≤ nL) (hz : fz = some oh) (w : ∀ K : cz_K, K.2.1 = l → cz_S K D h cc nL y.cls ret y.name [] → cz_T K D d h oh nL fz h 0 (cz_args 0 av) []) : cz_M l D y (ws_ y cc nL ret) d av h oh := cz_ofV hy (by rw [cz_sllen]; exact hn) (fun K hl S => w K hl S hz)
theorem cz_metW {l : Launch} {y : MethodName} {av : List cz_v} {fz : cz_Z} {hh : List (Nat × Nat × Nat × Nat)} (hy : plainFor y = true) (hn : (av.map cz_cat).sum ≤ nL) (hz : fz = some oh) (w : ∀ K : cz_K, K.2.1 = l → cz_S K D h cc nL y.cls ret y.name (tableOf hh) → cz_T K D d h oh nL fz h 0 (cz_args 0 av) []) : cz_M l D y (wsW_ y cc nL ret hh) d av h oh := cz_ofVW hy (by rw [cz_sllen]; exact hn) (fun K hl S => w K hl S hz)
end CZP
