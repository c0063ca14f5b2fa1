/-! THE LAYER, 6: arrays, new, statics, constants, casts (printed by wip/D-98934w/gen/layer6.py) -/
/-- an array: its address, kind, length and contents -/
def cz_arr (h : cz_H) (r : Option Nat) (k : Nat → Nat → vp_A → cz_Z) : cz_Z := match r with
  | none => none
  | some a => match h.2.2.2 a with
    | some (.inr y) => k a y.1 y.2
    | _ => none
abbrev cz_qa (f : Nat → Option Nat) : (Nat → Int32) ⊕ (Nat → Int64) ⊕ (Nat → UInt32) ⊕ (Nat → UInt64) ⊕ (Nat → Option Nat) := .inr (.inr (.inr (.inr f)))
def cz_alen (h : cz_H) (r : Option Nat) (k : Int32 → cz_Z) : cz_Z := cz_arr h r (fun _ kd y => if kd ≤ 7 then k (Int32.ofNat y.1) else none)
def cz_iald (h : cz_H) (r : Option Nat) (i : Int32) (k : Int32 → cz_Z) : cz_Z := cz_arr h r (fun _ kd y => match y with
  | (n, .inl f) => if kd = 0 ∨ kd = 7 then (if i < 0 ∨ n ≤ i.toNatClampNeg then none else k (f i.toNatClampNeg)) else none
  | _ => none)
def cz_bald (h : cz_H) (r : Option Nat) (i : Int32) (k : Int32 → cz_Z) : cz_Z := cz_arr h r (fun _ kd y => match y with
  | (n, .inl f) => if kd = 1 ∨ kd = 2 then (if i < 0 ∨ n ≤ i.toNatClampNeg then none else k (f i.toNatClampNeg)) else none
  | _ => none)
def cz_lald (h : cz_H) (r : Option Nat) (i : Int32) (k : Int64 → cz_Z) : cz_Z := cz_arr h r (fun _ kd y => match y with
  | (n, .inr (.inl f)) => if kd = 3 then (if i < 0 ∨ n ≤ i.toNatClampNeg then none else k (f i.toNatClampNeg)) else none
  | _ => none)
def cz_aald (h : cz_H) (r : Option Nat) (i : Int32) (k : Option Nat → cz_Z) : cz_Z := cz_arr h r (fun _ kd y => match y with
  | (n, .inr (.inr (.inr (.inr f)))) => if kd = 4 ∨ kd = 5 ∨ kd = 6 then (if i < 0 ∨ n ≤ i.toNatClampNeg then none else k (f i.toNatClampNeg)) else none
  | _ => none)
def cz_iast (h : cz_H) (r : Option Nat) (i x : Int32) (k : cz_H → cz_Z) : cz_Z := cz_arr h r (fun a kd y => match y with
  | (n, .inl f) => if kd = 0 ∧ h.1.1 ≤ a then (if i < 0 ∨ n ≤ i.toNatClampNeg then none else k (cz_set h a (.inr (kd, n, .inl (upd f i.toNatClampNeg x))))) else none
  | _ => none)
def cz_bast (h : cz_H) (r : Option Nat) (i x : Int32) (k : cz_H → cz_Z) : cz_Z := cz_arr h r (fun a kd y => match y with
  | (n, .inl f) => if kd = 1 ∧ h.1.1 ≤ a then (if i < 0 ∨ n ≤ i.toNatClampNeg then none else k (cz_set h a (.inr (kd, n, .inl (upd f i.toNatClampNeg x.toInt8.toInt32))))) else
      if (kd = 2 ∧ h.1.1 ≤ a) ∧ (x = 0 ∨ x = 1) then (if i < 0 ∨ n ≤ i.toNatClampNeg then none else k (cz_set h a (.inr (kd, n, .inl (upd f i.toNatClampNeg x))))) else none
  | _ => none)
def cz_last (h : cz_H) (r : Option Nat) (i : Int32) (x : Int64) (k : cz_H → cz_Z) : cz_Z := cz_arr h r (fun a kd y => match y with
  | (n, .inr (.inl f)) => if kd = 3 ∧ h.1.1 ≤ a then (if i < 0 ∨ n ≤ i.toNatClampNeg then none else k (cz_set h a (.inr (kd, n, .inr (.inl (vp_updL f i.toNatClampNeg x)))))) else none
  | _ => none)
/-- of which classes the objects are that an array of a kind takes -/
def cz_takes (kd ci : Nat) : Bool := (kd == 4 && ci < 25) || (kd == 5 && ci == 3) || (kd == 6 && ci == 4)
def cz_aast (h : cz_H) (r : Option Nat) (i : Int32) (v : Option Nat) (k : cz_H → cz_Z) : cz_Z := cz_arr h r (fun a kd y => match y with
  | (n, .inr (.inr (.inr (.inr f)))) => match v with
    | none => none
    | some b => match h.2.2.2 b with
      | some (.inl o) => if cz_takes kd o.1 = true ∧ h.1.1 ≤ a then (if i < 0 ∨ n ≤ i.toNatClampNeg then none else k (cz_set h a (.inr (kd, n, cz_qa (va_up f i.toNatClampNeg (some b)))))) else none
      | _ => none
  | _ => none)
/-- a new cell -/
def cz_mk (h : cz_H) (x : cz_C) (n : Nat) (k : Option Nat → cz_H → cz_Z) : cz_Z := if h.2.1 + 1 ≤ h.1.2.1 ∧ h.2.2.1 + n ≤ h.1.2.2.1 then k (some h.2.1) (cz_new h x n) else none
def cz_newi (h : cz_H) (kd : Nat) (n : Int32) (k : Option Nat → cz_H → cz_Z) : cz_Z := if n < 0 then none else cz_mk h (.inr (kd, n.toNatClampNeg, .inl (fun _ => 0))) n.toNatClampNeg k
def cz_newj (h : cz_H) (n : Int32) (k : Option Nat → cz_H → cz_Z) : cz_Z := if n < 0 then none else cz_mk h (.inr (3, n.toNatClampNeg, .inr (.inl (fun _ => 0)))) n.toNatClampNeg k
def cz_newa (h : cz_H) (kd : Nat) (n : Int32) (k : Option Nat → cz_H → cz_Z) : cz_Z := if n < 0 then none else cz_mk h (.inr (kd, n.toNatClampNeg, cz_qa (fun _ => none))) n.toNatClampNeg k

theorem cz_b88 (x : Int32) : x.toInt8.toInt32.toInt8.toInt32 = x.toInt8.toInt32 := by simp
theorem cz_byt_upd {n i : Nat} {f : Nat → Int32} (h : cz_byt (n, .inl f)) (x : Int32) : cz_byt (n, .inl (upd f i x.toInt8.toInt32)) := by
  intro n2 f2 e j hj
  cases e
  by_cases hji : j = i
  · subst hji
    simp [upd]
  · simp only [upd, if_neg hji]
    exact h n f rfl j hj
section CZI
variable {K : cz_K} {D : cz_D} {d : Nat} {h0 : cz_H} {oh : cz_O × cz_H} {nL : Nat} {cc : ByteArray} {own nm : String} {ret : Option FieldType} {tb : List ExceptionTableEntry} {z z1 z2 : cz_Z} {h : cz_H} {pc : Nat} {L L' : List (Nat × cz_v)} {st : List cz_v}
theorem cz_arrI {r : Option Nat} {f : Nat → Nat → vp_A → cz_Z} (hz : cz_arr h r f = some oh) : ∃ (a kd : Nat) (y : vp_A), r = some a ∧ h.2.2.2 a = some (.inr (kd, y)) ∧ f a kd y = some oh := by
  unfold cz_arr at hz
  split at hz
  · cases hz
  · rename_i a
    split at hz
    · rename_i y hc
      exact ⟨a, y.1, y.2, rfl, hc, hz⟩
    · cases hz
theorem cz_kdT (S : cz_S K D h0 cc nL own ret nm tb) {kd : Nat} {ty : FieldType} (ht : (cz_tys D.2.1)[kd]? = some (D.2.1 kd, ty)) : ArrOfT K.2.2.2.1 (D.2.1 kd) ty := (S.2.2.2.2.2.1.1.2 kd _ ht).1
theorem ct_alen {r : Option Nat} {kk : Int32 → cz_Z} (S : cz_S K D h0 cc nL own ret nm tb) (dg : decode cc pc = .ok (.arraylength, 1)) (k : ∀ x : Int32, cz_T K D d h0 oh nL (kk x) h (pc + 1) L (cz_i x :: st)) : cz_T K D d h0 oh nL (cz_alen h r kk) h pc L (cz_r r :: st) := by
  intro hz H locs ls hI hl
  obtain ⟨a, kd, y, rfl, hc, hz⟩ := cz_arrI hz
  split at hz
  · rename_i hkd
    obtain ⟨cell, g2, g3, g4, g5, g6, g7, g8⟩ := hI.1.2.2.2.2.2 a _ hc
    have hA : ∃ ty, ArrOfT K.2.2.2.1 (D.2.1 kd) ty := by
      match kd, hkd with
      | 0, _ => exact ⟨_, cz_kdT S rfl⟩
      | 1, _ => exact ⟨_, cz_kdT S rfl⟩
      | 2, _ => exact ⟨_, cz_kdT S rfl⟩
      | 3, _ => exact ⟨_, cz_kdT S rfl⟩
      | 4, _ => exact ⟨_, cz_kdT S rfl⟩
      | 5, _ => exact ⟨_, cz_kdT S rfl⟩
      | 6, _ => exact ⟨_, cz_kdT S rfl⟩
      | 7, _ => exact ⟨_, S.2.2.2.2.2.1.2.1⟩
    obtain ⟨ty, hA⟩ := hA
    have hn : cell.slots.size.toInt32 = Int32.ofNat y.1 := g7.2.2.1
    exact W.alen S.1 S.2.1 g2 (cz_isArr hA g3 g4) hn rfl rfl dg (k _ hz H locs ls hI hl)
  · cases hz
theorem ct_iald {r : Option Nat} {i : Int32} {kk : Int32 → cz_Z} (S : cz_S K D h0 cc nL own ret nm tb) (dg : decode cc pc = .ok (.iaload, 1)) (k : ∀ x : Int32, cz_T K D d h0 oh nL (kk x) h (pc + 1) L (cz_i x :: st)) : cz_T K D d h0 oh nL (cz_iald h r i kk) h pc L (cz_i i :: cz_r r :: st) := by
  intro hz H locs ls hI hl
  obtain ⟨a, kd, y, rfl, hc, hz⟩ := cz_arrI hz
  split at hz
  · rename_i n f
    split at hz
    · rename_i hkd
      split at hz
      · cases hz
      · rename_i hin
        obtain ⟨cell, g2, g3, g4, g5, g6, g7, g8⟩ := hI.1.2.2.2.2.2 a _ hc
        have hlt : i.toNatClampNeg < n := Nat.lt_of_not_le fun q => hin (Or.inr q)
        have hin2 : ¬ (i < 0 ∨ cell.slots.size ≤ i.toNatClampNeg) := fun q => q.elim (fun q => hin (Or.inl q)) (fun q => hin (Or.inr (Nat.le_trans g7.2.1 q)))
        have hrd : cell.slots[i.toNatClampNeg]? = some (cz_val (cz_i (f i.toNatClampNeg))) := by
          rw [g7.2.2.2 _ hlt]
          show (arrV 0 n (fun j => .int (f j))).slots[i.toNatClampNeg]? = _
          rw [arrV_read _ _ hlt]; rfl
        have kk := k _ hz H locs ls hI hl
        rcases hkd with rfl | rfl
        · exact W.iald S.1 S.2.1 g2 (cz_isArr (cz_kdT S rfl) g3 g4) g5 hin2 hrd rfl rfl dg kk
        · exact W.iald S.1 S.2.1 g2 (cz_isArr S.2.2.2.2.2.1.2.1 g3 g4) g5 hin2 hrd rfl rfl dg kk
    · cases hz
  · cases hz
theorem ct_bald {r : Option Nat} {i : Int32} {kk : Int32 → cz_Z} (S : cz_S K D h0 cc nL own ret nm tb) (dg : decode cc pc = .ok (.baload, 1)) (k : ∀ x : Int32, cz_T K D d h0 oh nL (kk x) h (pc + 1) L (cz_i x :: st)) : cz_T K D d h0 oh nL (cz_bald h r i kk) h pc L (cz_i i :: cz_r r :: st) := by
  intro hz H locs ls hI hl
  obtain ⟨a, kd, y, rfl, hc, hz⟩ := cz_arrI hz
  split at hz
  · rename_i n f
    split at hz
    · rename_i hkd
      split at hz
      · cases hz
      · rename_i hin
        obtain ⟨cell, g2, g3, g4, g5, g6, g7, g8⟩ := hI.1.2.2.2.2.2 a _ hc
        have hlt : i.toNatClampNeg < n := Nat.lt_of_not_le fun q => hin (Or.inr q)
        have hin2 : ¬ (i < 0 ∨ cell.slots.size ≤ i.toNatClampNeg) := fun q => q.elim (fun q => hin (Or.inl q)) (fun q => hin (Or.inr (Nat.le_trans g7.2.1 q)))
        have hrd : cell.slots[i.toNatClampNeg]? = some (cz_val (cz_i (f i.toNatClampNeg))) := by
          rw [g7.2.2.2 _ hlt]
          show (arrV 0 n (fun j => .int (f j))).slots[i.toNatClampNeg]? = _
          rw [arrV_read _ _ hlt]; rfl
        have kk := k _ hz H locs ls hI hl
        rcases hkd with rfl | rfl
        · exact W.bald S.1 S.2.1 g2 (cz_isArr (cz_kdT S rfl) g3 g4) g5 hin2 hrd rfl rfl dg kk
        · exact W.zald S.1 S.2.1 g2 (cz_isArr (cz_kdT S rfl) g3 g4) g5 hin2 hrd rfl rfl dg kk
    · cases hz
  · cases hz
theorem ct_lald {r : Option Nat} {i : Int32} {kk : Int64 → cz_Z} (S : cz_S K D h0 cc nL own ret nm tb) (dg : decode cc pc = .ok (.laload, 1)) (k : ∀ x : Int64, cz_T K D d h0 oh nL (kk x) h (pc + 1) L (cz_j x :: st)) : cz_T K D d h0 oh nL (cz_lald h r i kk) h pc L (cz_i i :: cz_r r :: st) := by
  intro hz H locs ls hI hl
  obtain ⟨a, kd, y, rfl, hc, hz⟩ := cz_arrI hz
  split at hz
  · rename_i n f
    split at hz
    · rename_i hkd
      split at hz
      · cases hz
      · rename_i hin
        obtain ⟨cell, g2, g3, g4, g5, g6, g7, g8⟩ := hI.1.2.2.2.2.2 a _ hc
        have hlt : i.toNatClampNeg < n := Nat.lt_of_not_le fun q => hin (Or.inr q)
        have hin2 : ¬ (i < 0 ∨ cell.slots.size ≤ i.toNatClampNeg) := fun q => q.elim (fun q => hin (Or.inl q)) (fun q => hin (Or.inr (Nat.le_trans g7.2.1 q)))
        have hrd : cell.slots[i.toNatClampNeg]? = some (cz_val (cz_j (f i.toNatClampNeg))) := by
          rw [g7.2.2.2 _ hlt]
          show (arrV 0 n (fun j => .long (f j))).slots[i.toNatClampNeg]? = _
          rw [arrV_read _ _ hlt]; rfl
        have kk := k _ hz H locs ls hI hl
        subst hkd
        exact W.lald S.1 S.2.1 g2 (cz_isArr (cz_kdT S rfl) g3 g4) g5 hin2 hrd rfl rfl dg kk
    · cases hz
  · cases hz
theorem ct_aald {r : Option Nat} {i : Int32} {kk : Option Nat → cz_Z} (S : cz_S K D h0 cc nL own ret nm tb) (dg : decode cc pc = .ok (.aaload, 1)) (k : ∀ x : Option Nat, cz_T K D d h0 oh nL (kk x) h (pc + 1) L (cz_r x :: st)) : cz_T K D d h0 oh nL (cz_aald h r i kk) h pc L (cz_i i :: cz_r r :: st) := by
  intro hz H locs ls hI hl
  obtain ⟨a, kd, y, rfl, hc, hz⟩ := cz_arrI hz
  split at hz
  · rename_i n f
    split at hz
    · rename_i hkd
      split at hz
      · cases hz
      · rename_i hin
        obtain ⟨cell, g2, g3, g4, g5, g6, g7, g8⟩ := hI.1.2.2.2.2.2 a _ hc
        have hlt : i.toNatClampNeg < n := Nat.lt_of_not_le fun q => hin (Or.inr q)
        have hin2 : ¬ (i < 0 ∨ cell.slots.size ≤ i.toNatClampNeg) := fun q => q.elim (fun q => hin (Or.inl q)) (fun q => hin (Or.inr (Nat.le_trans g7.2.1 q)))
        have hrd : cell.slots[i.toNatClampNeg]? = some (cz_val (cz_r (f i.toNatClampNeg))) := by
          rw [g7.2.2.2 _ hlt]
          show (arrV 0 n (fun j => va_rf (f j))).slots[i.toNatClampNeg]? = _
          rw [arrV_read _ _ hlt]; rfl
        have kk := k _ hz H locs ls hI hl
        rcases hkd with rfl | rfl | rfl
        · exact W.aald S.1 S.2.1 g2 (cz_isArr (cz_kdT (kd := 4) S rfl) g3 g4) rfl g5 hin2 hrd rfl rfl dg kk
        · exact W.aald S.1 S.2.1 g2 (cz_isArr (cz_kdT (kd := 5) S rfl) g3 g4) rfl g5 hin2 hrd rfl rfl dg kk
        · exact W.aald S.1 S.2.1 g2 (cz_isArr (cz_kdT (kd := 6) S rfl) g3 g4) rfl g5 hin2 hrd rfl rfl dg kk
    · cases hz
  · cases hz
/-- behind a store into an array -/
theorem cz_wast {H H' : Heap} {locs : List Loc} {ls : Array Slot} {a kd n j : Nat} {F : Nat → Value} {v : Value} {y : vp_A} {cell : Cell} {cells slots : Nat} (hI : cz_I K D h0 h H locs) (hl : lv_has ls nL (cz_lm L)) (hb : D.2.2.1 ≤ a) (g2 : H[a]? = some cell) (g3 : cell.cls = D.2.1 kd) (g4 : cell.vm.isStatics = false) (g5 : cell.vm ≠ .unknown) (g6 : D.2.2.1 ≤ a → cell.vm = .none) (g7 : cell.slots = (arrV 0 n F).slots)
    (e1 : H'[a]? = some (cell.setSlot j v)) (e2 : H'.size = H.size) (e3 : ∀ q, q ≠ a → H'[q]? = H[q]?) (hy : (arrV 0 n (updV F j v)).slots = (vp_cell 0 y).slots) (hby : kd = 1 → cz_byt y) (hz : z = some oh) (k : cz_T K D d h0 oh nL z (cz_set h a (.inr (kd, y))) (pc + 1) L st) :
    cz_W K (cz_rm d h0) H' (locs ++ [⟨a, j⟩]) cells slots (cz_MQ K D h0 oh) (F0 K.2.2.2.2.1 (pc + 1) ls (st.map cz_val)) := by
  obtain ⟨hR, hX, hu, hlocs⟩ := hI
  have hX1 : cz_X D.2.2.1 H H' := cz_X.put g2 e1 (cz_setSlot_size _ _ _) e2 e3 hb
  refine cz_tight (k hz H' _ ls ⟨hR.put e2 e3 ⟨_, e1, g3, g4, g5, g6, ?_, hby⟩, hX.tr hX1, ?_, ?_⟩ hl)
  · exact cz_ar.of (by rw [cz_setSlot_arr g7]; exact hy)
  · rw [cz_sl_put hX1 e2 _ hX.1]; exact hu
  · intro q hq
    rcases List.mem_append.mp hq with e | e
    · exact hlocs q e
    · rw [List.mem_singleton] at e
      rw [e]; exact hb
theorem cz_updV_int (f : Nat → Int32) (k : Nat) (x : Int32) : updV (fun j => Value.int (f j)) k (.int x) = fun j => .int (upd f k x j) := by
  funext q
  by_cases hq : q = k
  · subst hq; simp [updV, upd]
  · simp [updV, upd, hq]
theorem cz_updV_long (f : Nat → Int64) (k : Nat) (x : Int64) : updV (fun j => Value.long (f j)) k (.long x) = fun j => .long (vp_updL f k x j) := by
  funext q
  by_cases hq : q = k
  · subst hq; simp [updV, vp_updL]
  · simp [updV, vp_updL, hq]
theorem cz_updV_ref (f : Nat → Option Nat) (k : Nat) (x : Option Nat) : updV (fun j => va_rf (f j)) k (va_rf x) = fun j => va_rf (va_up f k x j) := by
  funext q
  by_cases hq : q = k
  · subst hq; simp [updV, va_up]
  · simp [updV, va_up, hq]
theorem ct_iast {r : Option Nat} {i x : Int32} {kk : cz_H → cz_Z} (S : cz_S K D h0 cc nL own ret nm tb) (dg : decode cc pc = .ok (.iastore, 1)) (k : ∀ h' : cz_H, cz_T K D d h0 oh nL (kk h') h' (pc + 1) L st) : cz_T K D d h0 oh nL (cz_iast h r i x kk) h pc L (cz_i x :: cz_i i :: cz_r r :: st) := by
  intro hz H locs ls hI hl
  obtain ⟨a, kd, y, rfl, hc, hz⟩ := cz_arrI hz
  split at hz
  · rename_i n f
    split at hz
    · rename_i hkd
      split at hz
      · cases hz
      · rename_i hin
        obtain ⟨rfl, hb⟩ := hkd
        rw [hI.1.1] at hb
        obtain ⟨cell, g2, g3, g4, g5, g6, g7, g8⟩ := hI.1.2.2.2.2.2 a _ hc
        have g7 : cell.slots = (arrV 0 n (fun j => .int (f j))).slots := g7.1 hb
        exact W.iast S.1 S.2.1 g2 (cz_isArr (cz_kdT S rfl) g3 g4) g5 (by rw [g7, arrV_size]; exact hin) rfl rfl dg fun H' e1 e2 e3 => cz_wast hI hl hb g2 g3 g4 g5 g6 g7 e1 e2 e3 (by rw [cz_updV_int]; rfl) (fun q => by cases q) hz (k _)
    · cases hz
  · cases hz
theorem ct_last {r : Option Nat} {i : Int32} {x : Int64} {kk : cz_H → cz_Z} (S : cz_S K D h0 cc nL own ret nm tb) (dg : decode cc pc = .ok (.lastore, 1)) (k : ∀ h' : cz_H, cz_T K D d h0 oh nL (kk h') h' (pc + 1) L st) : cz_T K D d h0 oh nL (cz_last h r i x kk) h pc L (cz_j x :: cz_i i :: cz_r r :: st) := by
  intro hz H locs ls hI hl
  obtain ⟨a, kd, y, rfl, hc, hz⟩ := cz_arrI hz
  split at hz
  · rename_i n f
    split at hz
    · rename_i hkd
      split at hz
      · cases hz
      · rename_i hin
        obtain ⟨rfl, hb⟩ := hkd
        rw [hI.1.1] at hb
        obtain ⟨cell, g2, g3, g4, g5, g6, g7, g8⟩ := hI.1.2.2.2.2.2 a _ hc
        have g7 : cell.slots = (arrV 0 n (fun j => .long (f j))).slots := g7.1 hb
        exact W.last S.1 S.2.1 g2 (cz_isArr (cz_kdT S rfl) g3 g4) g5 (by rw [g7, arrV_size]; exact hin) rfl rfl dg fun H' e1 e2 e3 => cz_wast hI hl hb g2 g3 g4 g5 g6 g7 e1 e2 e3 (by rw [cz_updV_long]; rfl) (fun q => by cases q) hz (k _)
    · cases hz
  · cases hz
theorem ct_bast {r : Option Nat} {i x : Int32} {kk : cz_H → cz_Z} (S : cz_S K D h0 cc nL own ret nm tb) (dg : decode cc pc = .ok (.bastore, 1)) (k : ∀ h' : cz_H, cz_T K D d h0 oh nL (kk h') h' (pc + 1) L st) : cz_T K D d h0 oh nL (cz_bast h r i x kk) h pc L (cz_i x :: cz_i i :: cz_r r :: st) := by
  intro hz H locs ls hI hl
  obtain ⟨a, kd, y, rfl, hc, hz⟩ := cz_arrI hz
  split at hz
  · rename_i n f
    split at hz
    · rename_i hkd
      split at hz
      · cases hz
      · rename_i hin
        obtain ⟨rfl, hb⟩ := hkd
        rw [hI.1.1] at hb
        obtain ⟨cell, g2, g3, g4, g5, g6, g7, g8⟩ := hI.1.2.2.2.2.2 a _ hc
        have g7 : cell.slots = (arrV 0 n (fun j => .int (f j))).slots := g7.1 hb
        exact W.bast S.1 S.2.1 g2 (cz_isArr (cz_kdT S rfl) g3 g4) g5 (by rw [g7, arrV_size]; exact hin) rfl rfl dg fun H' e1 e2 e3 => cz_wast hI hl hb g2 g3 g4 g5 g6 g7 e1 e2 e3 (by rw [show narrow .byte (.int x) = .int x.toInt8.toInt32 from rfl, cz_updV_int]; rfl) (fun _ => cz_byt_upd (g8 rfl) x) hz (k _)
    · split at hz
      · rename_i hkd
        split at hz
        · cases hz
        · rename_i hin
          obtain ⟨⟨rfl, hb⟩, hx⟩ := hkd
          rw [hI.1.1] at hb
          have hx : narrow .boolean (.int x) = .int x := by rcases hx with rfl | rfl <;> rfl
          obtain ⟨cell, g2, g3, g4, g5, g6, g7, g8⟩ := hI.1.2.2.2.2.2 a _ hc
          have g7 : cell.slots = (arrV 0 n (fun j => .int (f j))).slots := g7.1 hb
          exact W.zast S.1 S.2.1 g2 (cz_isArr (cz_kdT S rfl) g3 g4) g5 (by rw [g7, arrV_size]; exact hin) rfl rfl dg fun H' e1 e2 e3 => cz_wast hI hl hb g2 g3 g4 g5 g6 g7 e1 e2 e3 (by rw [hx, cz_updV_int]; rfl) (fun q => by cases q) hz (k _)
      · cases hz
  · cases hz
end CZI
