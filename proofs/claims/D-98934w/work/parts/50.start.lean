/-! THE START: what the Statement gives, as the layer's facts (the places printed by wip/D-98934w/gen/start.py) -/
set_option maxRecDepth 100000
def cz_text (t : String) : List Int32 := t.toList.map (fun c => Int32.ofNat c.toNat)
abbrev cz_vt (q : String × Nat × String) : Term := .field (.string q.1 q.2.1) "java/lang/String" "value" "[B"
def cz_sat (q : String × Nat × String) : List Cond :=
  [.exactly (.string q.1 q.2.1) "java/lang/String", .eq (.field (.string q.1 q.2.1) "java/lang/String" "coder" "B") (.int 0), .arrayOf (cz_vt q) .byte, .exactly (cz_vt q) "[B", .eq (.length (cz_vt q)) (.int (Int32.ofNat (cz_text q.2.2).length))] ++ (List.range (cz_text q.2.2).length).map (fun j => .eq (.elem (cz_vt q) (.int (Int32.ofNat j))) (.int ((cz_text q.2.2).getD j 0)))
set_option maxHeartbeats 4000000 in
theorem cz_sat_pos : ([147, 148, 149, 479, 150, 151, 152, 153, 480, 154, 155, 156, 157, 158, 159, 160, 161, 481, 162, 163, 164, 165, 166, 167, 168, 169, 170, 171, 172, 173, 174, 175, 176, 177, 178, 179, 180, 181, 182, 183, 184, 185, 186, 187, 188, 189, 190, 191, 192, 193, 194, 195, 196, 197, 198, 199, 200, 201, 202, 203, 204, 205, 206, 207, 208, 209, 210, 211, 212, 213, 214, 215, 216, 217, 218, 219, 220, 221, 222, 223, 224, 225, 226, 227, 228, 229, 230, 231, 232, 233, 234, 235, 236, 237, 238, 239, 240, 241, 242, 243, 244, 245, 246, 247, 248, 249, 250, 251, 252, 253, 254, 255, 256, 257, 258, 259, 260, 261, 262, 263, 264, 265, 266, 267, 268, 269, 270, 271, 272, 273, 274, 275, 276, 277, 278, 279, 280, 281, 282, 283, 284, 285, 286, 287, 288, 289, 482, 290, 291, 292, 293, 294, 483, 295, 296, 297, 298, 299, 300, 301, 484, 302, 303, 304, 305, 306, 307, 308, 309, 485, 310, 311, 312, 313, 314, 315, 316, 317, 486, 318, 319, 320, 321, 322, 323, 324, 325, 326, 327, 487, 328, 329, 330, 331, 332, 333, 334, 335, 336, 488, 337, 338, 339, 340, 341, 342, 343, 344, 345, 489, 346, 347, 348, 349, 350, 351, 352, 353, 354, 490, 355, 356, 357, 358, 359, 360, 361, 491, 362, 363, 364, 365, 366, 367, 368, 369, 370, 492, 371, 372, 373, 374, 375, 376, 377, 378, 493, 379, 380, 381, 382, 383, 384, 385, 386, 494, 387, 388, 389, 390, 391, 392, 393, 394, 495, 395, 396, 397, 398, 399, 400, 401, 496, 402, 403, 404, 405, 406, 407, 408, 409, 497, 410, 411, 412, 413, 414, 415, 416, 417, 498, 418, 419, 420, 421, 422, 423, 499, 424, 425, 426, 427, 428, 429, 430, 431, 432, 500, 433, 434, 435, 436, 437, 438, 439, 440, 441, 501, 442, 443, 444, 445, 446, 447, 448, 449, 502, 450, 451, 452, 453, 454, 455, 456, 457, 458, 503, 459, 460, 461, 462, 463, 464, 465, 466, 467, 468, 504, 469, 470, 471, 472, 473, 474, 475, 505, 476, 477, 478]).map (fun i => (flatC (.and given_1 narrow_1))[i]?) = (cz_strs.flatMap cz_sat).map some := by decide +kernel
theorem cz_sat_in {q : String × Nat × String} (hq : q ∈ cz_strs) : ∀ w ∈ cz_sat q, w ∈ flatC (.and given_1 narrow_1) := by
  intro w hw
  have h : some w ∈ (cz_strs.flatMap cz_sat).map some := List.mem_map.mpr ⟨w, List.mem_flatMap.mpr ⟨q, hq, hw⟩, rfl⟩
  rw [← cz_sat_pos] at h
  obtain ⟨i, -, e⟩ := List.mem_map.mp h
  exact List.mem_of_getElem? e
theorem cz_str_refs : ∀ q ∈ cz_strs, Cond.stringRef q.1 q.2.1 q.2.2 ∈ lw_tbl := List.forall_mem_cons.mpr ⟨q465, List.forall_mem_cons.mpr ⟨q721, List.forall_mem_cons.mpr ⟨q829, List.forall_mem_cons.mpr ⟨q830, List.forall_mem_cons.mpr ⟨q1007, List.forall_mem_cons.mpr ⟨q1008, List.forall_mem_cons.mpr ⟨q1044, List.forall_mem_cons.mpr ⟨q1053, List.forall_mem_cons.mpr ⟨q1061, List.forall_mem_cons.mpr ⟨q1062, List.forall_mem_cons.mpr ⟨q1067, List.forall_mem_cons.mpr ⟨q1559, List.forall_mem_cons.mpr ⟨q1590, List.forall_mem_cons.mpr ⟨q1600, List.forall_mem_cons.mpr ⟨q1601, List.forall_mem_cons.mpr ⟨q1602, List.forall_mem_cons.mpr ⟨q1671, List.forall_mem_cons.mpr ⟨q1675, List.forall_mem_cons.mpr ⟨q1676, List.forall_mem_cons.mpr ⟨q1677, List.forall_mem_cons.mpr ⟨q1678, List.forall_mem_cons.mpr ⟨q1683, List.forall_mem_cons.mpr ⟨q1684, List.forall_mem_cons.mpr ⟨q1685, List.forall_mem_cons.mpr ⟨q1686, List.forall_mem_cons.mpr ⟨q1756, List.forall_mem_cons.mpr ⟨q1773, fun _ h => absurd h List.not_mem_nil⟩⟩⟩⟩⟩⟩⟩⟩⟩⟩⟩⟩⟩⟩⟩⟩⟩⟩⟩⟩⟩⟩⟩⟩⟩⟩⟩
/-- a String constant's object, as far as it is known -/
def cz_sv (v : Nat) : Nat → cz_v := fun k => if k = 0 then cz_r (some v) else cz_i 0
/-- THE PURE HEAP AT THE START -/
def cz_H0 (b L : Nat) (xs : Nat → Int32) (h : cz_H) : Prop :=
  h.1.1 = h.2.1 ∧ h.1.2.1 = h.2.1 + 601024 ∧ h.1.2.2.1 = 7293034 ∧ h.2.2.1 = 0 ∧ b < h.2.1 ∧ h.2.2.2 b = some (.inr (7, L, .inl xs)) ∧
  (∀ (i : Nat) (q : String × Nat × String), cz_strs[i]? = some q → ∃ a v : Nat, h.1.2.2.2 i = some a ∧ a < h.2.1 ∧ v < h.2.1 ∧ h.2.2.2 a = some (.inl (8, cz_sv v)) ∧ h.2.2.2 v = some (.inr (1, (cz_text q.2.2).length, .inl (fun j => (cz_text q.2.2).getD j 0)))) ∧
  (∃ e : Nat, h.1.2.2.2 27 = some e ∧ e < h.2.1 ∧ h.2.2.2 e = some (.inr (4, 0, cz_qa (fun _ => none)))) ∧ ∀ a, h.2.1 ≤ a → h.2.2.2 a = none
/-- the classes, at the start -/
theorem cz_known {s : State} {A : Array Value} (ht : ∀ w ∈ lw_tbl, w.before A s = true) : ∃ (dC : Nat → ClassId) (dI : Nat → Nat → Nat), ∀ (k : Nat) (q : vw_C), cz_cl[k]? = some q → u_Kn s q.1 q.2.1 q.2.2 (dC k) (dI k) := by
  have h : ∀ k : Nat, ∃ p : ClassId × (Nat → Nat), ∀ q : vw_C, cz_cl[k]? = some q → u_Kn s q.1 q.2.1 q.2.2 p.1 p.2 := by
    intro k
    cases hq : cz_cl[k]? with
    | none => exact ⟨(0, fun _ => 0), fun q e => by cases e⟩
    | some q =>
      have hck := cz_cks k q hq
      have hin : ∃ n, (Cond.instantiable q.1 n).before A s = true := by
        rcases hck.2.2.1 with e | e
        · subst e
          cases Option.some.inj (hq.symm.trans cz_cl24)
          exact ⟨6, ht _ (lw_all_tbl q1830)⟩
        · exact ⟨_, ht _ (lw_all_tbl e)⟩
      obtain ⟨n, hin⟩ := hin
      obtain ⟨c, iS, hK⟩ := u_known (C := q.1) (T := q.2.1) (N := q.2.2) (n := n) ht (fun w h => lw_all_tbl (hck.1 w h)) hin
      exact ⟨(c, iS), fun q2 e => by cases e; exact hK⟩
  obtain ⟨f, hf⟩ := Classical.axiomOfChoice h
  exact ⟨fun k => (f k).1, fun k => (f k).2, hf⟩
theorem cz_arrOf {s : State} {c : ClassId} {ty : FieldType} {k : Class} {comp : ClassId} (hk : s.vm.classes[c]? = some k) (hkind : k.kind = .array comp ty) : ArrOfT s c ty := fun _ _ => ⟨fun q hq => (by cases hq), k, hk, comp, hkind⟩
/-- a cell's sort: none: an object; some: an array of that type -/
def cz_sort (s : State) (a : Nat) (o : Option FieldType) : Prop := ∃ (cell : Cell) (k : Class), s.heap[a]? = some cell ∧ s.vm.classes[cell.cls]? = some k ∧ match o with
  | none => k.kind = .ordinary
  | some ty => ∃ comp, k.kind = .array comp ty
theorem cz_sort.one {s : State} {a : Nat} {o o2 : Option FieldType} (h : cz_sort s a o) (h2 : cz_sort s a o2) : o = o2 := by
  obtain ⟨c, k, e1, e2, e3⟩ := h
  obtain ⟨c', k', f1, f2, f3⟩ := h2
  cases e1.symm.trans f1
  cases e2.symm.trans f2
  cases o with
  | none =>
    cases o2 with
    | none => rfl
    | some t =>
      obtain ⟨_, f3⟩ := f3
      have e3 : k.kind = .ordinary := e3
      rw [e3] at f3
      cases f3
  | some t =>
    obtain ⟨_, e3⟩ := e3
    cases o2 with
    | none =>
      have f3 : k.kind = .ordinary := f3
      rw [f3] at e3
      cases e3
    | some t2 =>
      obtain ⟨_, f3⟩ := f3
      rw [f3] at e3
      injection e3 with _ e
      rw [e]
/-- a String constant at the start -/
theorem cz_strAt {s : State} {A : Array Value} {q : String × Nat × String} {c8 cB : ClassId} {iS : Nat → Nat} (hg : (Cond.and given_1 narrow_1).before A s = true) (ht : ∀ w ∈ lw_tbl, w.before A s = true) (hq : q ∈ cz_strs) (hlen : (cz_text q.2.2).length < 2 ^ 31) (hK : u_Kn s RJ8 TJ8 4 c8 iS) (hB : s.vm.findClass "[B" = some cB) :
    ∃ p : Nat × Nat, vk_R q.1 q.2.1 q.2.2 p.1 s ∧ (∃ cell : Cell, s.heap[p.1]? = some cell ∧ cell.cls = c8 ∧ cell.vm.isStatics = false ∧ cell.vm ≠ .unknown ∧ ∀ k, k < 4 → k < 2 → cell.slots[iS k]? = some (cz_val (cz_sv p.2 k))) ∧
      ∃ cell : Cell, s.heap[p.2]? = some cell ∧ cell.cls = cB ∧ s.isArrayOf cell .byte ∧ cell.vm.isStatics = false ∧ cell.vm ≠ .unknown ∧ (cz_text q.2.2).length ≤ cell.slots.size ∧ cell.slots.size.toInt32 = Int32.ofNat (cz_text q.2.2).length ∧ ∀ j, j < (cz_text q.2.2).length → cell.slots[j]? = some (.int ((cz_text q.2.2).getD j 0)) := by
  have hf := flat_of_before _ hg
  have hn : ∀ w ∈ cz_sat q, w.before A s = true := fun w hw => hf w (cz_sat_in hq w hw)
  have n1 := hn (.exactly (.string q.1 q.2.1) "java/lang/String") (by simp [cz_sat])
  have n2 := hn (.eq (.field (.string q.1 q.2.1) "java/lang/String" "coder" "B") (.int 0)) (by simp [cz_sat])
  have n3 := hn (.arrayOf (cz_vt q) .byte) (by simp [cz_sat])
  have n4 := hn (.exactly (cz_vt q) "[B") (by simp [cz_sat])
  have n5 := hn (.eq (.length (cz_vt q)) (.int (Int32.ofNat (cz_text q.2.2).length))) (by simp [cz_sat])
  have n6 : ∀ j, j < (cz_text q.2.2).length → (Cond.eq (.elem (cz_vt q) (.int (Int32.ofNat j))) (.int ((cz_text q.2.2).getD j 0))).before A s = true := fun j hj => hn _ (List.mem_append_right _ (List.mem_map.mpr ⟨j, List.mem_range.mpr hj, rfl⟩))
  obtain ⟨a, c, cA, kA, q1, q2, q3, q4, q5, q6, -⟩ := Cond.exactly_spec (args := A) (first := s) (o := none) (s := s) (idx := []) n1
  obtain ⟨t, t1, cT, t2, t3, t4, t5, t6, t7, -⟩ := va_Tof (f := fun j => .int ((cz_text q.2.2).getD j 0)) (A := fun _ => False) hlen n3 (va_eqt n5) (fun j hj => va_eqt (n6 j hj)) (fun _ _ h => h)
  obtain ⟨a9, c9, cA9, kA9, r1, r2, r3, r4, r5, r6, -⟩ := Cond.exactly_spec (args := A) (first := s) (o := none) (s := s) (idx := []) n4
  cases t1.symm.trans r1
  cases t2.symm.trans r3
  cases r2.symm.trans hB
  cases q2.symm.trans hK.2.1
  obtain ⟨cf, kf, fi, f, cell1, o1, o2, o3, o4, o5, -⟩ := vk_OFof (A := fun _ => False) q1 (va_eqt n2) (fun _ _ h => h)
  obtain ⟨cf2, kf2, fi2, f2, cell2, p1, p2, p3, p4, p5, -⟩ := vk_OFof (A := fun _ => False) q1 t1 (fun _ _ h => h)
  cases q3.symm.trans o3
  cases q3.symm.trans p3
  refine ⟨(a, t), vk_R.of (ht _ (cz_str_refs q hq)) q1, ⟨cA, q3, q6, q5, o4, fun k hk hk2 => ?_⟩, ⟨cT, t2, r6, t3, r5, t4, t5, t6, t7⟩⟩
  obtain ⟨x1, x2, x3, x4, x5, x6⟩ := hK.1 k hk
  match k, hk2, x5, x6 with
  | 0, _, x5, x6 =>
    have x5 : s.fieldFound? "java/lang/String" "value" "[B" = some (x1, x2, x3, x4) := x5
    have e := p1.symm.trans x5
    simp only [Option.some.injEq, Prod.mk.injEq] at e
    rw [← x6, ← e.2.2.2]
    exact p5
  | 1, _, x5, x6 =>
    have x5 : s.fieldFound? "java/lang/String" "coder" "B" = some (x1, x2, x3, x4) := x5
    have e := o1.symm.trans x5
    simp only [Option.some.injEq, Prod.mk.injEq] at e
    rw [← x6, ← e.2.2.2]
    exact o5
theorem cz_list_eq {l m : List Int32} (h : l.length = m.length) (e : ∀ j, j < l.length → l.getD j 0 = m.getD j 0) : l = m := by
  apply List.ext_getElem h
  intro i h1 h2
  have := e i h1
  rw [List.getD_eq_getElem?_getD, List.getD_eq_getElem?_getD, List.getElem?_eq_getElem h1, List.getElem?_eq_getElem h2] at this
  exact this
theorem cz_text_byt0 : ∀ q ∈ cz_strs, ∀ x ∈ cz_text q.2.2, x.toInt8.toInt32 = x := by decide +kernel
theorem cz_text_byt (q : String × Nat × String) (hq : q ∈ cz_strs) : cz_byt ((cz_text q.2.2).length, .inl (fun j => (cz_text q.2.2).getD j 0)) := by
  intro n f e j hj
  cases e
  dsimp only
  rw [List.getD_eq_getElem?_getD, List.getElem?_eq_getElem hj]
  exact cz_text_byt0 q hq _ (List.getElem_mem hj)
theorem cz_strs_len : ∀ q ∈ cz_strs, (cz_text q.2.2).length < 2 ^ 31 := by decide
set_option maxHeartbeats 4000000 in
theorem cz_begin {p : Program} {s : State} {m : MethodId} {meth : Method} {c : Code} {b L : Nat} {xs : Nat → Int32} (C0 : lw_At p s m meth c b L xs) :
    ∃ (D : cz_D) (h0 : cz_H), cz_N D s s.heap ∧ cz_R D h0 s.heap ∧ D.2.2.1 = s.heap.size ∧ cz_H0 b L xs h0 := by
  obtain ⟨-, -, -, -, -, ht, hX, hbl, -, hg⟩ := C0
  have hf := flat_of_before _ hg
  obtain ⟨dC, dI, hK⟩ := cz_known ht
  obtain ⟨cI, kI, coI, i1, i2, i3⟩ := Cond.arrayClass_spec (ht _ (lw_all_tbl q263))
  obtain ⟨cB, kB, coB, b1, b2, b3⟩ := Cond.arrayClass_spec (ht _ (lw_all_tbl q199))
  obtain ⟨cZ, kZ, coZ, z1, z2, z3⟩ := Cond.arrayClass_spec (ht _ (lw_all_tbl q2067))
  obtain ⟨cJ, kJ, coJ, j1, j2, j3⟩ := Cond.arrayClass_spec (ht _ (lw_all_tbl q2066))
  obtain ⟨coO, cO, kO, o1, -, o2, o3, o4⟩ := Cond.arrayOver_spec (ht _ q1003)
  obtain ⟨coR, cR, kR, r1, -, r2, r3, r4⟩ := Cond.arrayOver_spec (ht _ q359)
  obtain ⟨coK, cK, kK, k1, -, k2, k3, k4⟩ := Cond.arrayOver_spec (ht _ q361)
  obtain ⟨scr, s1, s2, s3, s4, s5⟩ := hX
  have hdA : ∃ dA : Nat → ClassId, dA 0 = cI ∧ dA 1 = cB ∧ dA 2 = cZ ∧ dA 3 = cJ ∧ dA 4 = cO ∧ dA 5 = cR ∧ dA 6 = cK ∧ dA 7 = scr.cls := ⟨fun k => [cI, cB, cZ, cJ, cO, cR, cK, scr.cls].getD k 0, rfl, rfl, rfl, rfl, rfl, rfl, rfl, rfl⟩
  obtain ⟨dA, a0, a1, a2, a3, a4, a5, a6, a7⟩ := hdA
  have hA : ∀ a : Nat, a < s.heap.size → ¬ s.heap.size ≤ a := fun a h => Nat.not_le_of_lt h
  -- the String constants
  have hstr : ∀ i : Nat, ∃ p : Nat × Nat, ∀ q, cz_strs[i]? = some q → vk_R q.1 q.2.1 q.2.2 p.1 s ∧ (∃ cell : Cell, s.heap[p.1]? = some cell ∧ cell.cls = dC 8 ∧ cell.vm.isStatics = false ∧ cell.vm ≠ .unknown ∧ ∀ k, k < 4 → k < 2 → cell.slots[dI 8 k]? = some (cz_val (cz_sv p.2 k))) ∧
      ∃ cell : Cell, s.heap[p.2]? = some cell ∧ cell.cls = cB ∧ s.isArrayOf cell .byte ∧ cell.vm.isStatics = false ∧ cell.vm ≠ .unknown ∧ (cz_text q.2.2).length ≤ cell.slots.size ∧ cell.slots.size.toInt32 = Int32.ofNat (cz_text q.2.2).length ∧ ∀ j, j < (cz_text q.2.2).length → cell.slots[j]? = some (.int ((cz_text q.2.2).getD j 0)) := by
    intro i
    cases hq : cz_strs[i]? with
    | none => exact ⟨(0, 0), fun q e => by cases e⟩
    | some q =>
      have hm : q ∈ cz_strs := List.mem_of_getElem? hq
      obtain ⟨p9, hp⟩ := cz_strAt hg ht hm (cz_strs_len q hm) (hK 8 _ cz_cl8) b1
      exact ⟨p9, fun q2 e => by cases e; exact hp⟩
  obtain ⟨ad, had⟩ := Classical.axiomOfChoice hstr
  -- the statics
  have hz0 := va_Zof (A := fun a => s.heap.size ≤ a) (ht _ q542) (ht _ (lw_all_tbl q128)) (va_eqt (hf (.eq (.static "java/lang/String" "COMPACT_STRINGS" "Z") (.int 1)) (by decide +kernel))) hA
  have e0 := hf (.isRef (.static "java/util/ArrayList" "DEFAULTCAPACITY_EMPTY_ELEMENTDATA" "[Ljava/lang/Object;")) (by decide +kernel)
  have e1 := hf (.exactly (.static "java/util/ArrayList" "DEFAULTCAPACITY_EMPTY_ELEMENTDATA" "[Ljava/lang/Object;") "[Ljava/lang/Object;") (by decide +kernel)
  have e2 := hf (.arrayOf (.static "java/util/ArrayList" "DEFAULTCAPACITY_EMPTY_ELEMENTDATA" "[Ljava/lang/Object;") (.object "java/lang/Object")) (by decide +kernel)
  have e3 := hf (.eq (.length (.static "java/util/ArrayList" "DEFAULTCAPACITY_EMPTY_ELEMENTDATA" "[Ljava/lang/Object;")) (.int 0)) (by decide +kernel)
  obtain ⟨t, t1, cT, t2, t3, t4, t5, t6, -, -⟩ := va_Tof (N := 0) (f := fun _ => .null) (A := fun _ => False) (by decide) e2 (va_eqt e3) (fun j hj => absurd hj (Nat.not_lt_zero j)) (fun _ _ h => h)
  obtain ⟨u9, c9, cA9, kA9, u1, u2, u3, u4, u5, u6, -⟩ := Cond.exactly_spec (args := #[Value.ref b]) (first := s) (o := none) (s := s) (idx := []) e1
  cases t1.symm.trans u1
  cases t2.symm.trans u3
  have hz1 := va_Zof (A := fun a => s.heap.size ≤ a) (ht _ q186) (ht _ (lw_all_tbl q117)) t1 hA
  have hz2 := vx_Zqof (A := fun a => s.heap.size ≤ a) (ht _ q776) (ht _ (lw_all_tbl q134)) (hf (.isRef (.static "java/lang/Throwable" "UNASSIGNED_STACK" "[Ljava/lang/StackTraceElement;")) (by decide +kernel)) hA
  have hz3 := vx_Zqof (A := fun a => s.heap.size ≤ a) (ht _ q778) (ht _ (lw_all_tbl q134)) (hf (.isRef (.static "java/lang/Throwable" "SUPPRESSED_SENTINEL" "Ljava/util/List;")) (by decide +kernel)) hA
  have hz4 := vx_Zqof (A := fun a => s.heap.size ≤ a) (ht _ q633) (ht _ (lw_all_tbl q121)) (hf (.isRef (.static "jdk/internal/util/Preconditions" "SIOOBE_FORMATTER" "Ljava/util/function/BiFunction;")) (by decide +kernel)) hA
  obtain ⟨mi, hmi⟩ := va_Mi.of (hf (.isRef (.mirror "[Ljava/lang/Object;")) (by decide +kernel))
  have pick : ∀ {C n d : String}, vx_Zq C n d (fun a => s.heap.size ≤ a) s s.heap → ∃ o : Option Nat, va_Z C n d (va_rf o) (fun a => s.heap.size ≤ a) s s.heap := by
    intro C n d h
    rcases h.1 with h | ⟨t, h⟩
    · exact ⟨none, h⟩
    · exact ⟨some t, h⟩
  obtain ⟨v28, w28⟩ := pick hz2
  obtain ⟨v29, w29⟩ := pick hz3
  obtain ⟨v30, w30⟩ := pick hz4
  have hco : ∃ co : Nat → Option Nat, (∀ i, i < 27 → co i = some (ad i).1) ∧ co 27 = some t ∧ co 28 = v28 ∧ co 29 = v29 ∧ co 30 = v30 ∧ co 31 = some mi := ⟨fun i => if i < 27 then some (ad i).1 else if i = 27 then some t else if i = 28 then v28 else if i = 29 then v29 else if i = 30 then v30 else some mi, fun i hi => if_pos hi, rfl, rfl, rfl, rfl, rfl⟩
  obtain ⟨co, hc, c27, c28, c29, c30, c31⟩ := hco
  -- the cells that are known
  let good : Nat → cz_C → Prop := fun q x => (q = b ∧ x = .inr (7, L, .inl xs)) ∨ (∃ i w, cz_strs[i]? = some w ∧ q = (ad i).1 ∧ x = .inl (8, cz_sv (ad i).2)) ∨ (∃ i w, cz_strs[i]? = some w ∧ q = (ad i).2 ∧ x = .inr (1, (cz_text w.2.2).length, .inl (fun j => (cz_text w.2.2).getD j 0))) ∨ (q = t ∧ x = .inr (4, 0, cz_qa (fun _ => none)))
  have so1 : cz_sort s b (some .int) := by
    obtain ⟨-, k, h1, h2⟩ := s2
    exact ⟨scr, k, s1, h1, h2⟩
  have so2 : ∀ i w, cz_strs[i]? = some w → cz_sort s (ad i).1 none := by
    intro i w hw
    obtain ⟨-, ⟨cell, h1, h2, -⟩, -⟩ := had i w hw
    obtain ⟨k, h3, h4⟩ := (hK 8 _ cz_cl8).2.2
    exact ⟨cell, k, h1, by rw [h2]; exact h3, h4⟩
  have so3 : ∀ i w, cz_strs[i]? = some w → cz_sort s (ad i).2 (some .byte) := by
    intro i w hw
    obtain ⟨-, -, cell, h1, h2, ⟨-, k, h3, h4⟩, -⟩ := had i w hw
    exact ⟨cell, k, h1, h3, h4⟩
  have so4 : cz_sort s t (some (.object "java/lang/Object")) := by
    obtain ⟨-, k, h1, h2⟩ := t3
    exact ⟨cT, k, t2, h1, h2⟩
  have uniq : ∀ q x y, good q x → good q y → x = y := by
    intro q x y hx hy
    rcases hx with ⟨rfl, rfl⟩ | ⟨i, w, hw, rfl, rfl⟩ | ⟨i, w, hw, rfl, rfl⟩ | ⟨rfl, rfl⟩
    · rcases hy with ⟨-, rfl⟩ | ⟨i2, w2, hw2, e, rfl⟩ | ⟨i2, w2, hw2, e, rfl⟩ | ⟨e, rfl⟩
      · rfl
      · have := so2 i2 w2 hw2; rw [← e] at this; cases so1.one this
      · have := so3 i2 w2 hw2; rw [← e] at this; cases so1.one this
      · have := so4; rw [← e] at this; cases so1.one this
    · have so := so2 i w hw
      rcases hy with ⟨e, rfl⟩ | ⟨i2, w2, hw2, e, rfl⟩ | ⟨i2, w2, hw2, e, rfl⟩ | ⟨e, rfl⟩
      · rw [e] at so; cases so1.one so
      · obtain ⟨-, ⟨cell, h1, -, -, -, h5⟩, -⟩ := had i w hw
        obtain ⟨-, ⟨cell2, g1, -, -, -, g5⟩, -⟩ := had i2 w2 hw2
        rw [e] at h1
        cases h1.symm.trans g1
        have e9 := (h5 0 (by decide) (by decide)).symm.trans (g5 0 (by decide) (by decide))
        have e8 : (ad i).2 = (ad i2).2 := by
          have := Option.some.inj e9
          injection this
        rw [e8]
      · have := so3 i2 w2 hw2; rw [← e] at this; cases so.one this
      · have := so4; rw [← e] at this; cases so.one this
    · have so := so3 i w hw
      rcases hy with ⟨e, rfl⟩ | ⟨i2, w2, hw2, e, rfl⟩ | ⟨i2, w2, hw2, e, rfl⟩ | ⟨e, rfl⟩
      · rw [e] at so; cases so1.one so
      · have := so2 i2 w2 hw2; rw [← e] at this; cases so.one this
      · obtain ⟨-, -, cell, h1, -, -, -, -, -, h5, h6⟩ := had i w hw
        obtain ⟨-, -, cell2, g1, -, -, -, -, -, g5, g6⟩ := had i2 w2 hw2
        rw [e] at h1
        cases h1.symm.trans g1
        have l1 := cz_strs_len w (List.mem_of_getElem? hw)
        have l2 := cz_strs_len w2 (List.mem_of_getElem? hw2)
        have e7 : (cz_text w.2.2).length = (cz_text w2.2.2).length := by
          have e8 := congrArg Int32.toNatClampNeg (h5.symm.trans g5)
          rw [Int32.toNatClampNeg_ofNat_of_lt l1, Int32.toNatClampNeg_ofNat_of_lt l2] at e8
          exact e8
        have e6 : cz_text w.2.2 = cz_text w2.2.2 := cz_list_eq e7 (fun j hj => by
          have e5 := Option.some.inj ((h6 j hj).symm.trans (g6 j (by rw [← e7]; exact hj)))
          injection e5)
        rw [e6]
      · have := so4; rw [← e] at this; cases so.one this
    · rcases hy with ⟨e, rfl⟩ | ⟨i2, w2, hw2, e, rfl⟩ | ⟨i2, w2, hw2, e, rfl⟩ | ⟨e, rfl⟩
      · have := so4; rw [e] at this; cases so1.one this
      · have := so2 i2 w2 hw2; rw [← e] at this; cases so4.one this
      · have := so3 i2 w2 hw2; rw [← e] at this; cases so4.one this
      · rfl
  let M : Nat → Option cz_C := fun q => @dite _ (∃ x, good q x) (Classical.propDecidable _) (fun h => some (Classical.choose h)) (fun _ => none)
  have Min : ∀ q x, M q = some x → good q x := by
    intro q x e
    by_cases h : ∃ x, good q x
    · have : M q = some (Classical.choose h) := dif_pos h
      rw [this] at e
      cases e
      exact Classical.choose_spec h
    · have : M q = none := dif_neg h
      rw [this] at e
      cases e
  have Mof : ∀ q x, good q x → M q = some x := by
    intro q x g
    have h : ∃ x, good q x := ⟨x, g⟩
    have : M q = some (Classical.choose h) := dif_pos h
    rw [this, uniq q _ _ (Classical.choose_spec h) g]
  have lt : ∀ {q : Nat} {cell : Cell}, s.heap[q]? = some cell → q < s.heap.size := fun h => (Array.getElem?_eq_some_iff.mp h).1
  obtain ⟨cpC, hcC⟩ : ∃ n, n = s.heap.size + 601024 := ⟨_, rfl⟩
  obtain ⟨cpS, hcS⟩ : ∃ n : Nat, n = 7293034 := ⟨_, rfl⟩
  have hC9 : s.heap.size ≤ cpC := by omega
  have hS9 : cpS ≤ 60000000 := by omega
  let D : cz_D := ((dC, dI), dA, (s.heap.size, cpC, cpS, co))
  have nB : ∀ {c : Cell}, (∀ k, c.vm ≠ .statics k) → c.vm.isStatics = false := by
    intro c h
    cases hv : c.vm <;> first | rfl | exact absurd hv (h _)
  have hR : cz_R D (D.2.2, s.heap.size, 0, M) s.heap := by
    refine ⟨rfl, rfl, hC9, Nat.zero_le _, Nat.le_refl _, fun a x e => ?_⟩
    rcases Min a x e with ⟨rfl, rfl⟩ | ⟨i, w, hw, rfl, rfl⟩ | ⟨i, w, hw, rfl, rfl⟩ | ⟨rfl, rfl⟩
    · refine ⟨scr, s1, a7.symm, nB s2.1, s3, fun h => absurd h (hA _ hbl), ⟨fun h => absurd h (hA _ hbl), Nat.le_of_eq s4.symm, by rw [s4], fun j hj => ?_⟩, fun h => by cases h⟩
      rw [s5 j hj]
      exact (arrV_read 0 (fun j => Value.int (xs j)) hj).symm
    · obtain ⟨-, ⟨cell, h1, h2, h3, h4, h5⟩, -⟩ := had i w hw
      exact ⟨_, cell, cz_cl8, h1, h2, h3, h4, fun h => absurd h (hA _ (lt h1)), fun k hk h8 => h5 k hk (h8 rfl)⟩
    · obtain ⟨-, -, cell, h1, h2, h3, h4, h5, h6, h7, h8⟩ := had i w hw
      refine ⟨cell, h1, h2.trans a1.symm, h4, h5, fun h => absurd h (hA _ (lt h1)), ⟨fun h => absurd h (hA _ (lt h1)), h6, h7, fun j hj => ?_⟩, fun _ => cz_text_byt w (List.mem_of_getElem? hw)⟩
      rw [h8 j hj]
      exact (arrV_read 0 (fun j => Value.int ((cz_text w.2.2).getD j 0)) hj).symm
    · exact ⟨cT, t2, by rw [u6]; exact (Option.some.inj (u2.symm.trans o4)).trans a4.symm, u5, t4, fun h => absurd h (hA _ (lt t2)), ⟨fun h => absurd h (hA _ (lt t2)), Nat.zero_le _, t6, fun j hj => absurd hj (Nat.not_lt_zero j)⟩, fun h => by cases h⟩
  refine ⟨D, (D.2.2, s.heap.size, 0, M), ?_, hR, rfl, rfl, hcC, hcS, rfl, hbl, Mof _ _ (Or.inl ⟨rfl, rfl⟩), ?_, ⟨t, c27, lt t2, Mof _ _ (Or.inr (Or.inr (Or.inr ⟨rfl, rfl⟩)))⟩, ?_⟩
  · refine ⟨⟨hK, ?_⟩, ?_, fun w hw hk => va_Nw.of (cz_kind_on hk) (ht w hw), fun C hC => va_AO.of (ht _ hC), ?_, ?_, ⟨mi, c31, hmi⟩, hS9, hz2.2, hz3.2⟩
    · intro k q hq
      match k, hq with
      | 0, hq => cases hq; show ArrOfT s (dA 0) .int ∧ va_RA s (dA 0) .int; rw [a0]; exact ⟨cz_arrOf i2 i3, i1⟩
      | 1, hq => cases hq; show ArrOfT s (dA 1) .byte ∧ va_RA s (dA 1) .byte; rw [a1]; exact ⟨cz_arrOf b2 b3, b1⟩
      | 2, hq => cases hq; show ArrOfT s (dA 2) .boolean ∧ va_RA s (dA 2) .boolean; rw [a2]; exact ⟨cz_arrOf z2 z3, z1⟩
      | 3, hq => cases hq; show ArrOfT s (dA 3) .long ∧ va_RA s (dA 3) .long; rw [a3]; exact ⟨cz_arrOf j2 j3, j1⟩
      | 4, hq => cases hq; show ArrOfT s (dA 4) (.object "java/lang/Object") ∧ va_RA s (dA 4) (.object "java/lang/Object"); rw [a4]; exact ⟨cz_arrOf o2 o3, kO, coO, o2, o3, o1, o4⟩
      | 5, hq => cases hq; show ArrOfT s (dA 5) (.object "HeldCoats$Reign") ∧ va_RA s (dA 5) (.object "HeldCoats$Reign"); rw [a5]; exact ⟨cz_arrOf r2 r3, kR, coR, r2, r3, r1, r4⟩
      | 6, hq => cases hq; show ArrOfT s (dA 6) (.object "HeldCoats$Kept") ∧ va_RA s (dA 6) (.object "HeldCoats$Kept"); rw [a6]; exact ⟨cz_arrOf k2 k3, kK, coK, k2, k3, k1, k4⟩
      | k + 7, hq => simp [cz_tys] at hq
    · obtain ⟨-, k, h1, comp, h2⟩ := s2
      show ArrOfT s (dA 7) .int
      rw [a7]
      exact cz_arrOf h1 h2
    · refine List.forall_mem_cons.mpr ⟨hz0, List.forall_mem_cons.mpr ⟨?_, List.forall_mem_cons.mpr ⟨?_, List.forall_mem_cons.mpr ⟨?_, List.forall_mem_cons.mpr ⟨?_, fun _ h => absurd h List.not_mem_nil⟩⟩⟩⟩⟩
      · show va_Z _ _ _ (va_rf (co 27)) _ s s.heap
        rw [c27]; exact hz1
      · show va_Z _ _ _ (va_rf (co 28)) _ s s.heap
        rw [c28]; exact w28
      · show va_Z _ _ _ (va_rf (co 29)) _ s s.heap
        rw [c29]; exact w29
      · show va_Z _ _ _ (va_rf (co 30)) _ s s.heap
        rw [c30]; exact w30
    · intro i q hq
      have hi : i < 27 := (List.getElem?_eq_some_iff.mp hq).1
      exact ⟨(ad i).1, hc i hi, (had i q hq).1⟩
  · intro i q hq
    have hi : i < 27 := (List.getElem?_eq_some_iff.mp hq).1
    obtain ⟨-, ⟨cell, h1, -⟩, cell2, g1, -⟩ := had i q hq
    exact ⟨(ad i).1, (ad i).2, hc i hi, lt h1, lt g1, Mof _ _ (Or.inr (Or.inl ⟨i, q, hq, rfl, rfl⟩)), Mof _ _ (Or.inr (Or.inr (Or.inl ⟨i, q, hq, rfl, rfl⟩)))⟩
  · intro a ha
    cases e : M a with
    | none => exact e
    | some x => exact absurd (hR.2.2.2.2.2 a x e).lt (Nat.not_lt_of_le ha)
theorem cz_room_mono {s : State} {pl : Platform} {r r2 : Room} (h : s.hasRoom pl r = true) (h1 : r2.frames ≤ r.frames) (h2 : r2.cells ≤ r.cells) (h3 : r2.slots ≤ r.slots) (h4 : r2.locals ≤ r.locals) : s.hasRoom pl r2 = true := by
  simp only [State.hasRoom, Bool.and_eq_true, decide_eq_true_eq] at h ⊢
  obtain ⟨⟨⟨⟨a1, a2, a3, a4, a5, a6⟩, a7⟩, a8⟩, a9⟩ := h
  exact ⟨⟨⟨⟨by omega, by omega, by omega, by omega, by omega, a6⟩, by omega⟩, by omega⟩, a9⟩
/-- WHAT IS OWED TO THE PLAIN LAW: the law's function answers 1 -/
def cz_Pure : Prop := ∀ (b L : Nat) (xs : Nat → Int32) (h0 : cz_H), L ≤ 384 → cz_H0 b L xs h0 → ∃ h' : cz_H, fn_L_law (some b) h0 = some (.inl (some (cz_i 1)), h')
set_option maxHeartbeats 4000000 in
theorem cz_whole (pure : cz_Pure) {p : Program} {e : Env} {s : State} {m : MethodId} {below : List Frame} {meth : Method} {c : Code} (l : Launch) (hflags : l.flags = flags0) {b L : Nat} {xs : Nat → Int32} (hL : L ≤ 384) (C0 : lw_At p s m meth c b L xs) : W p l e room_1 s m #[Value.ref b] below meth c s.heap [] 0 0 (lw_Z below #[Value.ref b] s) (entryFrame m ([Value.ref b] : List Value).toArray 7) := by
  obtain ⟨D, h0, hN, hR, hD, hH⟩ := cz_begin C0
  obtain ⟨h', hz⟩ := pure b L xs h0 hL hH
  obtain ⟨hx, hb, hr, hml, hown, ht, hX, hbl, hlk, hg⟩ := C0
  have hfl : l.stackTraces = false := by
    unfold Launch.stackTraces
    rw [hflags]
    decide +kernel
  have S : cz_S (p, l, e, s, m, #[Value.ref b], below, meth, c) D h0 cL_law 7 "HeldCoatsLaw" (Option.some Jvm.ClassFile.FieldType.boolean) meth.name c.exceptionTable.toList := ⟨hx, hb, hml, hown, fun w hw => ht w (lw_all_tbl hw), hN, hlk, hr, rfl, rfl, hR⟩
  have w := wk_L_law (l0 := some b) (h := h0) hfl S hz
  have k := cz_entry (K := (p, l, e, s, m, #[Value.ref b], below, meth, c)) (av := [cz_r (some b)]) (nL := 7) (Nat.le_of_ble_eq_true rfl) rfl hR w
  intro T hT X
  have ec : (cz_rm 73 h0).cells = 601024 := by
    show h0.1.2.1 - h0.2.1 = _
    rw [hH.2.1]; omega
  have es : (cz_rm 73 h0).slots = 7293034 := by
    show h0.1.2.2.1 - h0.2.2.1 = _
    rw [hH.2.2.1, hH.2.2.2.1]
  have X2 : Stand p l e (cz_rm 73 h0) s m #[Value.ref b] below meth c T [] 0 0 := { X with room := cz_room_mono X.room (Nat.le_of_ble_eq_true rfl) (by rw [ec]; decide) (by rw [es]; decide) (Nat.le_of_ble_eq_true rfl) }
  obtain ⟨t, a1, oc, b1, b2, ⟨hP, hW, LL, hs, hLL⟩⟩ := k T hT X2
  refine ⟨t, a1, oc, b1, b2, ?_⟩
  have hoc : oc = .returned (some (.int 1)) := hP.2.2.2
  refine ⟨hoc, ⟨_, hoc⟩, hW, ?_⟩
  obtain ⟨s1, s2, s3, s4, s5, s6⟩ := hs
  have s3 : t.heap.size ≤ s.heap.size + 601024 := Nat.le_trans s3 (Nat.add_le_add_left (Nat.le_of_eq ec) _)
  have s5 := Nat.le_trans s5 (Nat.le_of_eq es)
  refine ⟨s1, s2, s3, s4, s5, fun a cc hc => ?_⟩
  obtain ⟨c', q1, q2, q3, q4⟩ := s6 a cc hc
  refine ⟨c', q1, q2, q3, fun i _ => q4 i fun hin => ?_⟩
  have h9 := hLL _ hin
  have h8 : a < s.heap.size := (Array.getElem?_eq_some_iff.mp hc).1
  rw [hD] at h9
  exact absurd h8 (Nat.not_lt_of_le h9)
