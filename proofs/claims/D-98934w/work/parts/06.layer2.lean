/-! THE LAYER, 2: what the tables say, the judgement, the contract -/
/-- words that hold all through a run, but don't ride in the lists -/
def cz_kind : Cond → Bool
  | .fieldLinkNest _ _ _ _ _ _ => true
  | .methodLinkNest _ _ _ _ => true
  | .castable _ _ => true
  | .declares _ => true
  | .privateMethod _ => true
  | _ => false
theorem cz_kind_on {w : Cond} (h : cz_kind w = true) : w.onTables = true := by
  unfold cz_kind at h
  split at h <;> first | rfl | cases h
theorem cz_kind_warm {w : Cond} (h : cz_kind w = true) {s U : State} (hW : s.WarmedH U.vm) (k : va_Nw w s) : va_Nw w U := by
  unfold cz_kind at h
  split at h
  · exact va_Nw.warmF hW k
  · exact va_Nw.warmM hW k
  · exact va_Nw.warmC hW k
  · exact va_Nw.warmD hW k
  · exact Cond.privateMethod_warm hW k
  · cases h
def cz_tys (dA : Nat → ClassId) : List (ClassId × FieldType) := [(dA 0, .int), (dA 1, .byte), (dA 2, .boolean), (dA 3, .long), (dA 4, .object "java/lang/Object"), (dA 5, .object "HeldCoats$Reign"), (dA 6, .object "HeldCoats$Kept")]
/-- static fields that nobody writes -/
def cz_sts (D : cz_D) : List (String × String × String × cz_v) := [("java/lang/String", "COMPACT_STRINGS", "Z", cz_i 1), ("java/util/ArrayList", "DEFAULTCAPACITY_EMPTY_ELEMENTDATA", "[Ljava/lang/Object;", cz_r (D.2.2.2.2.2 27)), ("java/lang/Throwable", "UNASSIGNED_STACK", "[Ljava/lang/StackTraceElement;", cz_r (D.2.2.2.2.2 28)), ("java/lang/Throwable", "SUPPRESSED_SENTINEL", "Ljava/util/List;", cz_r (D.2.2.2.2.2 29)), ("jdk/internal/util/Preconditions", "SIOOBE_FORMATTER", "Ljava/util/function/BiFunction;", cz_r (D.2.2.2.2.2 30))]
/-- the String constants: class, entry, text -/
def cz_strs : List (String × Nat × String) := [("HeldCoats$Reader", 9, ""), ("HeldCoats$CapitalReader", 36, "seat"), ("HeldCoats$Reader", 76, " seat man coat cold summer holds moths limit lies lent kept wears day or and not bare held of under worth days cloth number "), ("HeldCoats$Reader", 78, " "), ("HeldCoats$CapitalReader", 50, "man"), ("HeldCoats$CapitalReader", 55, "coat"), ("HeldCoats$CapitalReader", 59, "cold"), ("HeldCoats$CapitalReader", 63, "summer"), ("HeldCoats$CapitalReader", 71, "holds"), ("HeldCoats$CapitalReader", 75, "moths"), ("HeldCoats$CapitalReader", 97, "limit"), ("HeldCoats$BookReader", 42, "day"), ("HeldCoats$BookReader", 88, "wears"), ("HeldCoats$BookReader", 97, "lies"), ("HeldCoats$BookReader", 99, "lent"), ("HeldCoats$BookReader", 101, "kept"), ("HeldCoats$SentenceReader", 59, "not"), ("HeldCoats$SentenceReader", 61, "bare"), ("HeldCoats$SentenceReader", 63, "held"), ("HeldCoats$SentenceReader", 65, "of"), ("HeldCoats$SentenceReader", 67, "under"), ("HeldCoats$SentenceReader", 48, "worth"), ("HeldCoats$SentenceReader", 50, "days"), ("HeldCoats$SentenceReader", 52, "cloth"), ("HeldCoats$SentenceReader", 54, "number"), ("HeldCoats$SentenceReader", 47, "and"), ("HeldCoats$SentenceReader", 34, "or")]
/-- what the tables and the constants say, at any state of the run -/
def cz_N (D : cz_D) (U : State) (H : Heap) : Prop :=
  va_K D.1 cz_cl (cz_tys D.2.1) U ∧ ArrOfT U (D.2.1 7) .int ∧ (∀ w ∈ lw_tbl, cz_kind w = true → va_Nw w U) ∧ (∀ C : String, Cond.arrayOver (.object C) ∈ lw_tbl → va_AO C U) ∧
  (∀ q ∈ cz_sts D, va_Z q.1 q.2.1 q.2.2.1 (cz_val q.2.2.2) (fun a => D.2.2.1 ≤ a) U H) ∧
  (∀ (i : Nat) (q : String × Nat × String), cz_strs[i]? = some q → ∃ a : Nat, D.2.2.2.2.2 i = some a ∧ vk_R q.1 q.2.1 q.2.2 a U) ∧
  (∃ mi : Nat, D.2.2.2.2.2 31 = some mi ∧ va_Mi "[Ljava/lang/Object;" mi U) ∧ D.2.2.2.2.1 ≤ 60000000 ∧
  vx_L "java/lang/Throwable" "UNASSIGNED_STACK" "[Ljava/lang/StackTraceElement;" (fun a => D.2.2.1 ≤ a) U H ∧ vx_L "java/lang/Throwable" "SUPPRESSED_SENTINEL" "Ljava/util/List;" (fun a => D.2.2.1 ≤ a) U H
theorem cz_N.warm {D : cz_D} {s U : State} {H H' : Heap} (h : cz_N D s H) (hW : s.WarmedH U.vm) (hX : cz_X D.2.2.1 H H') : cz_N D U H' := by
  obtain ⟨h1, h2, h3, hO, h4, h5, ⟨mi, h6, h7⟩, h8, h9, h10⟩ := h
  refine ⟨h1.moved hW.alike, arrOfT_moved hW.alike h2, fun w hw hk => cz_kind_warm hk hW (h3 w hw hk), fun C hC => (hO C hC).moved hW.alike, fun q hq => ?_, fun i q hq => ?_, ⟨mi, h6, h7.moved hW.alike⟩, h8, (h9.moved hW.alike).kept (fun a ha hb => hX.old ha (Nat.lt_of_not_le hb)), (h10.moved hW.alike).kept (fun a ha hb => hX.old ha (Nat.lt_of_not_le hb))⟩
  · exact ((h4 q hq).moved hW.alike).kept (fun a ha hb => hX.old ha (Nat.lt_of_not_le hb))
  · obtain ⟨a, e, k⟩ := h5 i q hq
    exact ⟨a, e, k.warm hW⟩
theorem cz_N.same {D : cz_D} {s U : State} {H : Heap} (h : cz_N D s H) (hv : s.vm = U.vm) : cz_N D U H := by
  obtain ⟨h1, h2, h3, hO, h4, h5, ⟨mi, h6, h7⟩, h8, h9, h10⟩ := h
  have hA : s.vm.Alike U.vm := by rw [hv]; exact Vm.Alike.refl _
  refine ⟨h1.moved hA, arrOfT_moved hA h2, fun w hw hk => va_Nw.same (cz_kind_on hk) hv (h3 w hw hk), fun C hC => (hO C hC).moved hA, fun q hq => (h4 q hq).moved hA, fun i q hq => ?_, ⟨mi, h6, h7.moved hA⟩, h8, h9.moved hA, h10.moved hA⟩
  obtain ⟨a, e, k⟩ := h5 i q hq
  exact ⟨a, e, k.same hv.symm⟩
/-- the room of a method that starts in h, at depth d -/
def cz_rm (d : Nat) (h : cz_H) : Room := { frames := d, cells := h.1.2.1 - h.2.1, slots := h.1.2.2.1 - h.2.2.1, locals := 64 * d }
/-- how a method that started in h0 has ended -/
def cz_P (D : cz_D) (h0 : cz_H) (oh : cz_O × cz_H) (H0 : Heap) (oc : Outcome) (H : Heap) : Prop :=
  cz_R D oh.2 H ∧ cz_X D.2.2.1 H0 H ∧ h0.2.2.1 + cz_sl H0.size H ≤ oh.2.2.2.1 ∧ match oh.1 with
    | .inl v => oc = .returned (v.map cz_val)
    | .inr q => oc = .threw q
def cz_QQ (D : cz_D) (h0 : cz_H) (oh : cz_O × cz_H) (_ : Array Value) (st : State) (oc : Outcome) (t : State) : Prop :=
  cz_P D h0 oh st.heap oc t.heap ∧ st.WarmedH t.vm ∧ ∃ L : List Loc, st.sameButNew ({ t with vm := st.vm } : State) L (h0.1.2.1 - h0.2.1) (h0.1.2.2.1 - h0.2.2.1) ∧ ∀ z ∈ L, D.2.2.1 ≤ z.base
def cz_Pc (D : cz_D) (h : cz_H) (av : List cz_v) : Array Value → State → Prop := fun a U => a = (av.map cz_val).toArray ∧ cz_N D U U.heap ∧ cz_R D h U.heap
/-- THE CONTRACT: y, called with av in a heap that stands for h, ends as oh says -/
def cz_M (l : Launch) (D : cz_D) (y : MethodName) (ws : List Cond) (d : Nat) (av : List cz_v) (h : cz_H) (oh : cz_O × cz_H) : Prop :=
  MetFree l y (headSpec ws (cz_rm d h)) (cz_Pc D h av) (fun _ _ _ _ _ => True) (cz_QQ D h oh)
abbrev cz_K : Type := Program × Launch × Env × State × MethodId × Array Value × List Frame × Method × Code
abbrev cz_W (K : cz_K) (R : Room) (H : Heap) (locs : List Loc) (cells slots : Nat) (Q : State → Prop) (g : JFrame) : Prop := W K.1 K.2.1 K.2.2.1 R K.2.2.2.1 K.2.2.2.2.1 K.2.2.2.2.2.1 K.2.2.2.2.2.2.1 K.2.2.2.2.2.2.2.1 K.2.2.2.2.2.2.2.2 H locs cells slots Q g
def cz_MQ (K : cz_K) (D : cz_D) (h0 : cz_H) (oh : cz_O × cz_H) : State → Prop := fun t => ∃ oc, t.status = .running ∧ Ended t K.2.2.2.2.2.2.1 oc ∧ cz_QQ D h0 oh K.2.2.2.2.2.1 K.2.2.2.1 oc t
/-- where the run stands: heap and slots written -/
def cz_I (K : cz_K) (D : cz_D) (h0 h : cz_H) (H : Heap) (locs : List Loc) : Prop := cz_R D h H ∧ cz_X D.2.2.1 K.2.2.2.1.heap H ∧ h0.2.2.1 + cz_sl K.2.2.2.1.heap.size H ≤ h.2.2.1 ∧ ∀ z ∈ locs, D.2.2.1 ≤ z.base
abbrev cz_lm (L : List (Nat × cz_v)) : List (Nat × Value) := L.map (fun q => (q.1, cz_val q.2))
/-- THE JUDGEMENT: at pc, with the locals L and the stack st, in a heap that stands for h, the method ends as oh says -/
def cz_V (K : cz_K) (D : cz_D) (d : Nat) (h0 : cz_H) (oh : cz_O × cz_H) (nL : Nat) (h : cz_H) (pc : Nat) (L : List (Nat × cz_v)) (st : List cz_v) : Prop :=
  ∀ (H : Heap) (locs : List Loc) (ls : Array Slot), cz_I K D h0 h H locs → lv_has ls nL (cz_lm L) →
    cz_W K (cz_rm d h0) H locs (H.size - K.2.2.2.1.heap.size) (cz_sl K.2.2.2.1.heap.size H) (cz_MQ K D h0 oh) (F0 K.2.2.2.2.1 pc ls (st.map cz_val))
/-- .. with q thrown over it -/
def cz_VX (K : cz_K) (D : cz_D) (d : Nat) (h0 : cz_H) (oh : cz_O × cz_H) (nL : Nat) (h : cz_H) (pc : Nat) (L : List (Nat × cz_v)) (q : Nat) : Prop :=
  ∀ (H : Heap) (locs : List Loc) (ls : Array Slot) (rest : List Value), cz_I K D h0 h H locs → lv_has ls nL (cz_lm L) →
    vx_W K.1 K.2.1 K.2.2.1 (cz_rm d h0) K.2.2.2.1 K.2.2.2.2.1 K.2.2.2.2.2.1 K.2.2.2.2.2.2.1 K.2.2.2.2.2.2.2.1 K.2.2.2.2.2.2.2.2 H locs (H.size - K.2.2.2.1.heap.size) (cz_sl K.2.2.2.1.heap.size H) (cz_MQ K D h0 oh) (F0 K.2.2.2.2.1 pc ls rest) q
/-- THE ROWS' FORM: what is left to compute, z, is what the code from pc on does -/
def cz_T (K : cz_K) (D : cz_D) (d : Nat) (h0 : cz_H) (oh : cz_O × cz_H) (nL : Nat) (z : cz_Z) (h : cz_H) (pc : Nat) (L : List (Nat × cz_v)) (st : List cz_v) : Prop := z = some oh → cz_V K D d h0 oh nL h pc L st
def cz_TX (K : cz_K) (D : cz_D) (d : Nat) (h0 : cz_H) (oh : cz_O × cz_H) (nL : Nat) (z : cz_Z) (h : cz_H) (pc : Nat) (L : List (Nat × cz_v)) (q : Nat) : Prop := z = some oh → cz_VX K D d h0 oh nL h pc L q
/-- what holds in a method's body -/
def cz_S (K : cz_K) (D : cz_D) (h0 : cz_H) (cc : ByteArray) (nL : Nat) (own : String) (ret : Option FieldType) (nm : String) (tb : List ExceptionTableEntry) : Prop :=
  K.1.tables.exec = Jvm.exec ∧ K.2.2.2.2.2.2.2.2.code = cc ∧ K.2.2.2.2.2.2.2.2.maxLocals = nL ∧ K.2.2.2.1.vm.findClass own = some K.2.2.2.2.1.cls ∧ (∀ w ∈ lw_all, w.before K.2.2.2.2.2.1 K.2.2.2.1 = true) ∧ cz_N D K.2.2.2.1 K.2.2.2.1.heap ∧
  K.2.2.2.2.2.2.2.1.locks = false ∧ K.2.2.2.2.2.2.2.1.sig.returnType = ret ∧ K.2.2.2.2.2.2.2.1.name = nm ∧ K.2.2.2.2.2.2.2.2.exceptionTable.toList = tb ∧ cz_R D h0 K.2.2.2.1.heap
section CZA
variable {p : Program} {l : Launch} {e : Env} {R : Room} {s : State} {m : MethodId} {args : Array Value} {below : List Frame} {meth : Method} {c : Code} {H : Heap} {locs : List Loc} {cells slots : Nat} {Q Q' : State → Prop} {g : JFrame}
theorem cz_st {T : State} (hT : T.heap = H) (X : Stand p l e R s m args below meth c T locs cells slots) : Stand p l e R s m args below meth c T locs (H.size - s.heap.size) (cz_sl s.heap.size H) := by
  subst hT
  obtain ⟨q1, q2, q3, q4, q5, q6⟩ := X.same
  have q2' : s.heap.size ≤ T.heap.size := q2
  exact { X with same := ⟨q1, q2, (by show T.heap.size ≤ _; omega), q4, Nat.le_refl _, q6⟩ }
theorem cz_tight (k : W p l e R s m args below meth c H locs (H.size - s.heap.size) (cz_sl s.heap.size H) Q g) : W p l e R s m args below meth c H locs cells slots Q g := fun T hT X => k T hT (cz_st hT X)
theorem cz_tightX {q : Addr} (k : vx_W p l e R s m args below meth c H locs (H.size - s.heap.size) (cz_sl s.heap.size H) Q g q) : vx_W p l e R s m args below meth c H locs cells slots Q g q := fun T hT X => k T hT (cz_st hT X)
theorem cz_weak (h : ∀ t, Q t → Q' t) (k : W p l e R s m args below meth c H locs cells slots Q g) : W p l e R s m args below meth c H locs cells slots Q' g := by
  intro T hT X
  obtain ⟨t, a, b⟩ := k T hT X
  exact ⟨t, a, h t b⟩
end CZA
