/-! THE LAYER, 5: rows of the heap (printed by wip/D-98934w/gen/layer5.py) -/
/-- a field's place by the class's number -/
def cz_lk : List (Nat × Nat) → Nat → Option Nat
  | [], _ => none
  | q :: l, c => if c = q.1 then some q.2 else cz_lk l c
theorem cz_lk_mem : ∀ {js : List (Nat × Nat)} {c j : Nat}, cz_lk js c = some j → (c, j) ∈ js := by
  intro js
  induction js with
  | nil => intro c j h; cases h
  | cons q l ih =>
    intro c j h
    unfold cz_lk at h
    split at h
    · rename_i e
      cases h
      subst e
      exact List.mem_cons_self
    · exact List.mem_cons_of_mem _ (ih h)
def cz_fld (h : cz_H) (r : Option Nat) (js : List (Nat × Nat)) (k : cz_v → cz_Z) : cz_Z := match r with
  | none => none
  | some a => match h.2.2.2 a with
    | some (.inl o) => match cz_lk js o.1 with
      | some j => k (o.2 j)
      | none => none
    | _ => none
def cz_toI (k : Int32 → cz_Z) (v : cz_v) : cz_Z := match v with | .inl x => k x | _ => none
def cz_toR (k : Option Nat → cz_Z) (v : cz_v) : cz_Z := match v with | .inr (.inl x) => k x | _ => none
def cz_toJ (k : Int64 → cz_Z) (v : cz_v) : cz_Z := match v with | .inr (.inr x) => k x | _ => none
def cz_getI (h : cz_H) (r : Option Nat) (js : List (Nat × Nat)) (k : Int32 → cz_Z) : cz_Z := cz_fld h r js (cz_toI k)
def cz_getR (h : cz_H) (r : Option Nat) (js : List (Nat × Nat)) (k : Option Nat → cz_Z) : cz_Z := cz_fld h r js (cz_toR k)
def cz_getJ (h : cz_H) (r : Option Nat) (js : List (Nat × Nat)) (k : Int64 → cz_Z) : cz_Z := cz_fld h r js (cz_toJ k)
def cz_put (h : cz_H) (r : Option Nat) (js : List (Nat × Nat)) (v : cz_v) (k : cz_H → cz_Z) : cz_Z := match r with
  | none => none
  | some a => match h.2.2.2 a with
    | some (.inl o) => match cz_lk js o.1 with
      | some j => if h.1.1 ≤ a then k (cz_set h a (.inl (o.1, fun q => if q = j then v else o.2 q))) else none
      | none => none
    | _ => none
/-- the link idx of the class own is a field; js: its place in each class that has it -/
def cz_FW (own : String) (idx : Nat) (js : List (Nat × Nat)) (d : String) : Prop := ∃ (ref n : String), (Cond.fieldLink own idx ref n d ∈ lw_all ∨ ∃ host : String, Cond.fieldLinkNest own idx ref n d host ∈ lw_tbl) ∧
  (∀ q ∈ js, ∃ (C : String) (T : u_T) (N : Nat), cz_cl[q.1]? = some (C, T, N) ∧ q.2 < N ∧ (T q.2).2.1 = n ∧ (T q.2).2.2.1 = d ∧ ((T q.2).1 = ref ∨ Cond.sameField ref (T q.2).1 n d ∈ lw_all)) ∧ ∀ q ∈ js, q.1 = 8 → q.2 < 2
/-- .. and may be written: it isn't final, or it is its class's own, in <init> -/
def cz_FP (own : String) (nm : String) (js : List (Nat × Nat)) : Prop := ∀ q ∈ js, ∃ (C : String) (T : u_T) (N : Nat), cz_cl[q.1]? = some (C, T, N) ∧ ((T q.2).2.2.2 = false ∨ ((T q.2).2.2.2 = true ∧ nm = "<init>" ∧ (T q.2).1 = own))
/-- the value v fits a field of the type that d says -/
def cz_fits (d : String) (v : cz_v) : Prop := ∃ ty : FieldType, parseFieldDescriptor d = some ty ∧ narrow ty (cz_val v) = cz_val v ∧ fits ty (cz_val v) = true
theorem cz_fits_i {d : String} {x : Int32} (h : parseFieldDescriptor d = some .int) : cz_fits d (cz_i x) := ⟨.int, h, rfl, rfl⟩
theorem cz_fits_j {d : String} {x : Int64} (h : parseFieldDescriptor d = some .long) : cz_fits d (cz_j x) := ⟨.long, h, rfl, rfl⟩
theorem cz_fits_r {d n : String} {x : Option Nat} (h : parseFieldDescriptor d = some (.object n)) : cz_fits d (cz_r x) := by cases x <;> exact ⟨_, h, rfl, rfl⟩
theorem cz_fits_a {d : String} {t : FieldType} {x : Option Nat} (h : parseFieldDescriptor d = some (.array t)) : cz_fits d (cz_r x) := by cases x <;> exact ⟨_, h, rfl, rfl⟩
theorem cz_fits_z {d : String} {x : Int32} (h : parseFieldDescriptor d = some .boolean) (hx : x = 0 ∨ x = 1) : cz_fits d (cz_i x) := by rcases hx with rfl | rfl <;> exact ⟨_, h, rfl, rfl⟩
theorem cz_fits_b {d : String} {x : Int32} (h : parseFieldDescriptor d = some .byte) (hx : x.toInt8.toInt32 = x) : cz_fits d (cz_i x) := ⟨_, h, by show Value.int x.toInt8.toInt32 = _; rw [hx]; rfl, by have := pk_fb x; rw [hx] at this; exact this⟩
theorem cz_isArr {s : State} {cA : ClassId} {ty : FieldType} (hA : ArrOfT s cA ty) {cell : Cell} (h1 : cell.cls = cA) (h2 : cell.vm.isStatics = false) : s.isArrayOf cell ty := by
  obtain ⟨-, k, hk, comp, hkind⟩ := hA 0 (fun _ => .null)
  exact ⟨fun q hq => (by rw [hq] at h2; cases h2), k, (by rw [h1]; exact hk), comp, hkind⟩
theorem cz_setSlot_size (c : Cell) (k : Nat) (v : Value) : (c.setSlot k v).slots.size = c.slots.size := by simp [Cell.setSlot]
theorem cz_setSlot_arr {c : Cell} {n : Nat} {F : Nat → Value} (h : c.slots = (arrV 0 n F).slots) (k : Nat) (v : Value) : (c.setSlot k v).slots = (arrV 0 n (updV F k v)).slots := by
  rw [← arrV_store]
  show (c.setSlot k v).slots = ((arrV 0 n F).setSlot k v).slots
  simp only [Cell.setSlot, h]
section CZH
variable {K : cz_K} {D : cz_D} {d : Nat} {h0 : cz_H} {oh : cz_O × cz_H} {nL : Nat} {cc : ByteArray} {own nm : String} {ret : Option FieldType} {tb : List ExceptionTableEntry} {z z1 z2 : cz_Z} {h : cz_H} {pc : Nat} {L L' : List (Nat × cz_v)} {st : List cz_v}

/-- a field is read -/
theorem cz_wget {js : List (Nat × Nat)} {dd : String} {idx ci j a : Nat} {V : Nat → cz_v} {H : Heap} {locs : List Loc} {cells slots : Nat} {Q : State → Prop} {R : Room} {ls : Array Slot} {rest : List Value} (S : cz_S K D h0 cc nL own ret nm tb) (F : cz_FW own idx js dd) (hR : cz_R D h H) (hc : h.2.2.2 a = some (.inl (ci, V))) (hj : (ci, j) ∈ js) (dg : decode cc pc = .ok (.getfield idx, 3))
    (k : cz_W K R H locs cells slots Q (F0 K.2.2.2.2.1 (pc + 3) ls (cz_val (V j) :: rest))) : cz_W K R H locs cells slots Q (F0 K.2.2.2.2.1 pc ls (.ref a :: rest)) := by
  obtain ⟨hx, hb, hml, hown, hts, hN, -⟩ := S
  obtain ⟨ref, n, hlink, hq, hq8⟩ := F
  obtain ⟨C, T, N, hcl, hjN, rfl, rfl, hsame⟩ := hq _ hj
  obtain ⟨r, cell, g1, g2, g3, g4, g5, g6, g7⟩ := hR.2.2.2.2.2 a _ hc
  cases Option.some.inj (g1.symm.trans hcl)
  obtain ⟨hS, hfc, kC, hkC, hkind⟩ := hN.1.1 ci _ hcl
  obtain ⟨cf, kf, fi, f, hi, hsl⟩ := hS j hjN
  have hin := (cz_cks ci _ hcl).1
  have hst := (u_facts hfc hkC (u_lays hts hin hjN) hi).1
  have hi' : K.2.2.2.1.fieldFound? ref (T j).2.1 (T j).2.2.1 = some (cf, kf, fi, f) := by
    rcases hsame with e | e
    · rw [← e]; exact hi
    · exact u_same (hts _ e) _ hi
  have hv : cell.slots[f.slot]? = some (cz_val (V j)) := by rw [hsl]; exact g7 j hjN (hq8 _ hj)
  rcases hlink with e | ⟨host, e⟩
  · exact W.getf hx hb hown (hts _ e) hi' hst g2 g5 hv rfl rfl dg k
  · exact va_Wgetf hx hb hown (va_Nw.use rfl (hN.2.2.1 _ e rfl)) hi' hst g2 g5 hv rfl rfl dg k
theorem ct_getI {js : List (Nat × Nat)} {dd : String} {idx : Nat} {r : Option Nat} {kk : Int32 → cz_Z} (S : cz_S K D h0 cc nL own ret nm tb) (F : cz_FW own idx js dd) (dg : decode cc pc = .ok (.getfield idx, 3)) (k : ∀ x : Int32, cz_T K D d h0 oh nL (kk x) h (pc + 3) L (cz_i x :: st)) : cz_T K D d h0 oh nL (cz_getI h r js kk) h pc L (cz_r r :: st) := by
  intro hz H locs ls hI hl
  unfold cz_getI cz_fld at hz
  split at hz
  · cases hz
  · rename_i a
    split at hz
    · rename_i o hc
      split at hz
      · rename_i j hj
        unfold cz_toI at hz
        split at hz
        · rename_i x hv
          refine cz_wget (ci := o.1) (V := o.2) S F hI.1 hc (cz_lk_mem hj) dg ?_
          rw [hv]
          exact k x hz H locs ls hI hl
        · cases hz
      · cases hz
    · cases hz
theorem ct_getR {js : List (Nat × Nat)} {dd : String} {idx : Nat} {r : Option Nat} {kk : Option Nat → cz_Z} (S : cz_S K D h0 cc nL own ret nm tb) (F : cz_FW own idx js dd) (dg : decode cc pc = .ok (.getfield idx, 3)) (k : ∀ x : Option Nat, cz_T K D d h0 oh nL (kk x) h (pc + 3) L (cz_r x :: st)) : cz_T K D d h0 oh nL (cz_getR h r js kk) h pc L (cz_r r :: st) := by
  intro hz H locs ls hI hl
  unfold cz_getR cz_fld at hz
  split at hz
  · cases hz
  · rename_i a
    split at hz
    · rename_i o hc
      split at hz
      · rename_i j hj
        unfold cz_toR at hz
        split at hz
        · rename_i x hv
          refine cz_wget (ci := o.1) (V := o.2) S F hI.1 hc (cz_lk_mem hj) dg ?_
          rw [hv]
          exact k x hz H locs ls hI hl
        · cases hz
      · cases hz
    · cases hz
theorem ct_getJ {js : List (Nat × Nat)} {dd : String} {idx : Nat} {r : Option Nat} {kk : Int64 → cz_Z} (S : cz_S K D h0 cc nL own ret nm tb) (F : cz_FW own idx js dd) (dg : decode cc pc = .ok (.getfield idx, 3)) (k : ∀ x : Int64, cz_T K D d h0 oh nL (kk x) h (pc + 3) L (cz_j x :: st)) : cz_T K D d h0 oh nL (cz_getJ h r js kk) h pc L (cz_r r :: st) := by
  intro hz H locs ls hI hl
  unfold cz_getJ cz_fld at hz
  split at hz
  · cases hz
  · rename_i a
    split at hz
    · rename_i o hc
      split at hz
      · rename_i j hj
        unfold cz_toJ at hz
        split at hz
        · rename_i x hv
          refine cz_wget (ci := o.1) (V := o.2) S F hI.1 hc (cz_lk_mem hj) dg ?_
          rw [hv]
          exact k x hz H locs ls hI hl
        · cases hz
      · cases hz
    · cases hz
/-- a field is written -/
theorem ct_put {js : List (Nat × Nat)} {dd : String} {idx : Nat} {r : Option Nat} {v : cz_v} {kk : cz_H → cz_Z} (S : cz_S K D h0 cc nL own ret nm tb) (F : cz_FW own idx js dd) (FP : cz_FP own nm js) (hv : cz_fits dd v) (dg : decode cc pc = .ok (.putfield idx, 3)) (k : ∀ h' : cz_H, cz_T K D d h0 oh nL (kk h') h' (pc + 3) L st) : cz_T K D d h0 oh nL (cz_put h r js v kk) h pc L (v :: cz_r r :: st) := by
  intro hz H locs ls hI hl
  unfold cz_put at hz
  split at hz
  · cases hz
  · rename_i a
    split at hz
    · rename_i o hc
      split at hz
      · rename_i j hj
        split at hz
        · rename_i hb0
          obtain ⟨hx, hb, hml, hown, hts, hN, hlk, hrt, hnm, htb, hR0⟩ := S
          obtain ⟨hR, hX, hu, hlocs⟩ := hI
          have hb1 : D.2.2.1 ≤ a := by rw [← hR.1]; exact hb0
          have hm := cz_lk_mem hj
          obtain ⟨ref, n, hlink, hq, hq8⟩ := F
          obtain ⟨C, T, N, hcl, hjN, rfl, rfl, hsame⟩ := hq _ hm
          obtain ⟨C2, T2, N2, hcl2, hfin⟩ := FP _ hm
          cases Option.some.inj (hcl.symm.trans hcl2)
          obtain ⟨rr, cell, g1, g2, g3, g4, g5, g6, g7⟩ := hR.2.2.2.2.2 a _ hc
          cases Option.some.inj (g1.symm.trans hcl)
          obtain ⟨hS, hfc, kC, hkC, hkind⟩ := hN.1.1 o.1 _ hcl
          obtain ⟨cf, kf, fi, f, hi, hsl⟩ := hS j hjN
          have hck := cz_cks o.1 _ hcl
          have hin := hck.1
          obtain ⟨ty0, hty0⟩ := hck.2.2.2.2
          have hap := va_apart (own := own) hts hin ty0 hty0 hck.2.1 hN.1 hcl
          have hlay := u_lays hts hin hjN
          have hst := (u_facts hfc hkC hlay hi).1
          have hi' : K.2.2.2.1.fieldFound? ref (T j).2.1 (T j).2.2.1 = some (cf, kf, fi, f) := by
            rcases hsame with e | e
            · rw [← e]; exact hi
            · exact u_same (hts _ e) _ hi
          obtain ⟨ty, hd, hn1, hf1⟩ := hv
          have hvm : cell.vm = .none := g6 hb1
          have hlt : f.slot < cell.slots.size := by rw [hsl]; exact k2_hasslot (g7 j hjN (hq8 _ hm))
          have go : ∀ H' : Heap, H'[a]? = some (cell.setSlot f.slot (cz_val v)) → H'.size = H.size → (∀ q, q ≠ a → H'[q]? = H[q]?) → cz_W K (cz_rm d h0) H' (locs ++ [⟨a, f.slot⟩]) (H.size - K.2.2.2.1.heap.size) (cz_sl K.2.2.2.1.heap.size H) (cz_MQ K D h0 oh) (F0 K.2.2.2.2.1 (pc + 3) ls (st.map cz_val)) := by
            intro H' e1 e2 e3
            have hX1 : cz_X D.2.2.1 H H' := cz_X.put g2 e1 (cz_setSlot_size _ _ _) e2 e3 hb1
            refine cz_tight (k _ hz H' _ ls ⟨hR.put e2 e3 ⟨_, _, hcl, e1, g3, ?_, ?_, ?_, ?_⟩, hX.tr hX1, ?_, ?_⟩ hl)
            · show (cell.setSlot f.slot (cz_val v)).vm.isStatics = false
              exact g4
            · exact g5
            · exact fun _ => hvm
            · rw [hsl]
              intro q hqN hq9
              show (cell.setSlot (D.1.2 o.1 j) (cz_val v)).slots[D.1.2 o.1 q]? = some (cz_val (if q = j then v else o.2 q))
              by_cases hqj : q = j
              · subst hqj
                rw [Cell.slots_setSlot_self _ (k2_hasslot (g7 q hqN hq9)), if_pos rfl]
              · rw [slot_ne _ _ (hap j q hjN hqN (Ne.symm hqj)), g7 q hqN hq9, if_neg hqj]
            · rw [cz_sl_put hX1 e2 _ hX.1]; exact hu
            · intro q hq
              rcases List.mem_append.mp hq with e | e
              · exact hlocs q e
              · rw [List.mem_singleton] at e
                rw [e]; exact hb1
          rcases hfin with hf | ⟨hf, hin1, hdc⟩
          · have hl1 := hts _ (hin _ (u_in_lay hjN))
            unfold u_lay at hl1
            rw [if_neg (by rw [hf]; decide)] at hl1
            have h6 := u_store hfc hkC hkind hl1 hi hd hn1 hf1
            rcases hlink with e | ⟨host, e⟩
            · exact W.putK hx hb ⟨hown, hts _ e, ⟨cf, kf, fi, hi'⟩, hst⟩ (by rw [g3]; exact h6) g2 hvm hlt rfl rfl dg go
            · exact va_WputK hx hb (f := f) hown (va_Nw.use rfl (hN.2.2.1 _ e rfl)) hi' hst (by rw [g3]; exact h6) g2 hvm hlt rfl rfl dg go
          · have hl1 := hts _ (hin _ (u_in_lay hjN))
            unfold u_lay at hl1
            rw [if_pos hf] at hl1
            have h6 := u_fits hfc hkC hkind hlay hi hd hn1 hf1
            have hcf : K.2.2.2.2.1.cls = cf := by
              obtain ⟨_, _, c', _, _, _, -, -, hf', -, -, -, hown2, -⟩ := Cond.laysFinal_spec hl1
              have e1 : c' = cf := by have := hi.symm.trans hf'; simp at this; exact this.1.symm
              rw [hdc] at hown2
              rw [← e1]; exact Option.some.inj (hown.symm.trans hown2)
            rcases hlink with e | ⟨host, e⟩
            · exact W.putFinK hx hb hown (hts _ e) hi' hst hcf (by rw [hnm]; exact hin1) (by rw [g3]; exact h6) g2 hvm hlt rfl rfl dg go
            · have ha : a < H.size := (Array.getElem?_eq_some_iff.mp g2).1
              exact va_Wputf hx hb hown (va_Nw.use rfl (hN.2.2.1 _ e rfl)) hi' hst (Or.inr ⟨hcf, by rw [hnm]; exact hin1⟩) g2 g5 hlt h6.1 (by rw [g3, hvm]; exact h6.2) rfl rfl dg (go _ (by simp [Array.getElem?_setIfInBounds, ha]) (by simp) (fun q hq => by simp [Array.getElem?_setIfInBounds, Ne.symm hq]))
        · cases hz
      · cases hz
    · cases hz
end CZH
