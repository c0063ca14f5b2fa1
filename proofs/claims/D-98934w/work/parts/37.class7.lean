/-! methods of the class, 7 (printed by wip/D-98934w/gen) -/
set_option maxRecDepth 100000
/-! #X21 -/
noncomputable def fn_X21_grp : Nat → Nat → Option Nat → cz_H → cz_Z
  | 0, _, _, _ => none
  | n + 1, j, r, h => if j = 0 then fn_X21_or_b (fn_X21_grp n) r h else if j = 1 then fn_X21_and_b (fn_X21_grp n) r h else if j = 2 then fn_X21_says_b (fn_X21_grp n) r h else if j = 3 then fn_X21_bracket_b (fn_X21_grp n) r h else none
set_option maxHeartbeats 4000000 in
set_option maxRecDepth 100000 in
theorem mt_X21_grp {l : Launch} {D : cz_D} : ∀ n : Nat, (∀ (r : Option Nat) (h : cz_H) (oh : cz_O × cz_H), fn_X21_grp n 0 r h = some oh → cz_M l D yX21_or (ws_ yX21_or cX21_or 2 ((Option.some (Jvm.ClassFile.FieldType.object "HeldCoats$Cond")))) (11 + n) [cz_r r] h oh) ∧ (∀ (r : Option Nat) (h : cz_H) (oh : cz_O × cz_H), fn_X21_grp n 1 r h = some oh → cz_M l D yX21_and (ws_ yX21_and cX21_and 2 ((Option.some (Jvm.ClassFile.FieldType.object "HeldCoats$Cond")))) (11 + n) [cz_r r] h oh) ∧ (∀ (r : Option Nat) (h : cz_H) (oh : cz_O × cz_H), fn_X21_grp n 2 r h = some oh → cz_M l D yX21_says (ws_ yX21_says cX21_says 9 ((Option.some (Jvm.ClassFile.FieldType.object "HeldCoats$Cond")))) (11 + n) [cz_r r] h oh) ∧ (∀ (r : Option Nat) (h : cz_H) (oh : cz_O × cz_H), fn_X21_grp n 3 r h = some oh → cz_M l D yX21_bracket (ws_ yX21_bracket cX21_bracket 2 ((Option.some (Jvm.ClassFile.FieldType.object "HeldCoats$Cond")))) (11 + n) [cz_r r] h oh) := by
  intro n
  induction n with
  | zero => exact ⟨fun _ _ _ hz => (by cases hz), fun _ _ _ hz => (by cases hz), fun _ _ _ hz => (by cases hz), fun _ _ _ hz => (by cases hz)⟩
  | succ n ih =>
    obtain ⟨ih0, ih1, ih2, ih3⟩ := ih
    refine ⟨?_, ?_, ?_, ?_⟩
    · intro r h oh hz
      rw [fn_X21_grp] at hz
      rw [if_pos rfl] at hz
      exact cz_met (plainFor_of_name (by decide)) (Nat.le_of_ble_eq_true rfl) hz (fun K hl S => wk_X21_or (Nat.le_add_right _ _) (by rw [hl]; exact ih0) (by rw [hl]; exact ih1) (by rw [hl]; exact ih2) (by rw [hl]; exact ih3) S)
    · intro r h oh hz
      rw [fn_X21_grp] at hz
      rw [if_neg (by decide)] at hz
      rw [if_pos rfl] at hz
      exact cz_met (plainFor_of_name (by decide)) (Nat.le_of_ble_eq_true rfl) hz (fun K hl S => wk_X21_and (Nat.le_add_right _ _) (by rw [hl]; exact ih0) (by rw [hl]; exact ih1) (by rw [hl]; exact ih2) (by rw [hl]; exact ih3) S)
    · intro r h oh hz
      rw [fn_X21_grp] at hz
      rw [if_neg (by decide)] at hz
      rw [if_neg (by decide)] at hz
      rw [if_pos rfl] at hz
      exact cz_met (plainFor_of_name (by decide)) (Nat.le_of_ble_eq_true rfl) hz (fun K hl S => wk_X21_says (Nat.le_add_right _ _) (by rw [hl]; exact ih0) (by rw [hl]; exact ih1) (by rw [hl]; exact ih2) (by rw [hl]; exact ih3) S)
    · intro r h oh hz
      rw [fn_X21_grp] at hz
      rw [if_neg (by decide)] at hz
      rw [if_neg (by decide)] at hz
      rw [if_neg (by decide)] at hz
      rw [if_pos rfl] at hz
      exact cz_met (plainFor_of_name (by decide)) (Nat.le_of_ble_eq_true rfl) hz (fun K hl S => wk_X21_bracket (Nat.le_add_right _ _) (by rw [hl]; exact ih0) (by rw [hl]; exact ih1) (by rw [hl]; exact ih2) (by rw [hl]; exact ih3) S)
noncomputable def fn_X21_or (l0 : Option Nat) (h : cz_H) : cz_Z := fn_X21_grp 48 0 l0 h
set_option maxHeartbeats 4000000 in
set_option maxRecDepth 100000 in
theorem mt_X21_or {l : Launch} {D : cz_D} {l0 : Option Nat} {h : cz_H} {oh : cz_O × cz_H} (hz : fn_X21_or l0 h = some oh) : cz_M l D yX21_or (ws_ yX21_or cX21_or 2 ((Option.some (Jvm.ClassFile.FieldType.object "HeldCoats$Cond")))) 59 [cz_r l0] h oh := (mt_X21_grp 48).1 _ _ _ hz
noncomputable def fn_X21_and (l0 : Option Nat) (h : cz_H) : cz_Z := fn_X21_grp 48 1 l0 h
set_option maxHeartbeats 4000000 in
set_option maxRecDepth 100000 in
theorem mt_X21_and {l : Launch} {D : cz_D} {l0 : Option Nat} {h : cz_H} {oh : cz_O × cz_H} (hz : fn_X21_and l0 h = some oh) : cz_M l D yX21_and (ws_ yX21_and cX21_and 2 ((Option.some (Jvm.ClassFile.FieldType.object "HeldCoats$Cond")))) 59 [cz_r l0] h oh := (mt_X21_grp 48).2.1 _ _ _ hz
noncomputable def fn_X21_says (l0 : Option Nat) (h : cz_H) : cz_Z := fn_X21_grp 48 2 l0 h
set_option maxHeartbeats 4000000 in
set_option maxRecDepth 100000 in
theorem mt_X21_says {l : Launch} {D : cz_D} {l0 : Option Nat} {h : cz_H} {oh : cz_O × cz_H} (hz : fn_X21_says l0 h = some oh) : cz_M l D yX21_says (ws_ yX21_says cX21_says 9 ((Option.some (Jvm.ClassFile.FieldType.object "HeldCoats$Cond")))) 59 [cz_r l0] h oh := (mt_X21_grp 48).2.2.1 _ _ _ hz
noncomputable def fn_X21_bracket (l0 : Option Nat) (h : cz_H) : cz_Z := fn_X21_grp 48 3 l0 h
set_option maxHeartbeats 4000000 in
set_option maxRecDepth 100000 in
theorem mt_X21_bracket {l : Launch} {D : cz_D} {l0 : Option Nat} {h : cz_H} {oh : cz_O × cz_H} (hz : fn_X21_bracket l0 h = some oh) : cz_M l D yX21_bracket (ws_ yX21_bracket cX21_bracket 2 ((Option.some (Jvm.ClassFile.FieldType.object "HeldCoats$Cond")))) 59 [cz_r l0] h oh := (mt_X21_grp 48).2.2.2 _ _ _ hz
/-! HeldCoats$SentenceReader.read()LHeldCoats$Cond; -/
def dkwX21_read_1 : List UInt8 := [182, 0, 27, 43, 176]
abbrev dktX21_read_1 : List UInt8 := dkwX21_read_1 ++ []
def dkwX21_read_0 : List UInt8 := [42, 182, 0, 15, 42, 182, 0, 19, 76, 42, 42, 180, 0, 23, 154, 0, 7, 4, 167, 0, 4, 3, 4]
abbrev dktX21_read_0 : List UInt8 := dkwX21_read_0 ++ dktX21_read_1
theorem dksX21_read_0 : cX21_read.data.toList.drop 0 = dktX21_read_0 := by decide +kernel
theorem dksX21_read_1 : cX21_read.data.toList.drop 23 = dktX21_read_1 := dk_seg dksX21_read_0 23 rfl rfl
theorem dX21_read_0 : decode cX21_read 0 = .ok (.aload_n 0, 1) := dk_42 (dk_at dksX21_read_0 0 rfl rfl)
theorem dX21_read_1 : decode cX21_read 1 = .ok (.invokevirtual 15, 3) := dk_182 0 15 (dk_at dksX21_read_0 1 rfl rfl)
theorem dX21_read_4 : decode cX21_read 4 = .ok (.aload_n 0, 1) := dk_42 (dk_at dksX21_read_0 4 rfl rfl)
theorem dX21_read_5 : decode cX21_read 5 = .ok (.invokevirtual 19, 3) := dk_182 0 19 (dk_at dksX21_read_0 5 rfl rfl)
theorem dX21_read_8 : decode cX21_read 8 = .ok (.astore_n 1, 1) := dk_76 (dk_at dksX21_read_0 8 rfl rfl)
theorem dX21_read_9 : decode cX21_read 9 = .ok (.aload_n 0, 1) := dk_42 (dk_at dksX21_read_0 9 rfl rfl)
theorem dX21_read_10 : decode cX21_read 10 = .ok (.aload_n 0, 1) := dk_42 (dk_at dksX21_read_0 10 rfl rfl)
theorem dX21_read_11 : decode cX21_read 11 = .ok (.getfield 23, 3) := dk_180 0 23 (dk_at dksX21_read_0 11 rfl rfl)
theorem dX21_read_14 : decode cX21_read 14 = .ok (.ifCond .ne 7, 3) := dk_154 0 7 (dk_at dksX21_read_0 14 rfl rfl)
theorem dX21_read_17 : decode cX21_read 17 = .ok (.iconst 1, 1) := dk_4 (dk_at dksX21_read_0 17 rfl rfl)
theorem dX21_read_18 : decode cX21_read 18 = .ok (.goto 4, 3) := dk_167 0 4 (dk_at dksX21_read_0 18 rfl rfl)
theorem dX21_read_21 : decode cX21_read 21 = .ok (.iconst 0, 1) := dk_3 (dk_at dksX21_read_0 21 rfl rfl)
theorem dX21_read_22 : decode cX21_read 22 = .ok (.iconst 1, 1) := dk_4 (dk_at dksX21_read_0 22 rfl rfl)
theorem dX21_read_23 : decode cX21_read 23 = .ok (.invokevirtual 27, 3) := dk_182 0 27 (dk_at dksX21_read_1 0 rfl rfl)
theorem dX21_read_26 : decode cX21_read 26 = .ok (.aload_n 1, 1) := dk_43 (dk_at dksX21_read_1 3 rfl rfl)
theorem dX21_read_27 : decode cX21_read 27 = .ok (.areturn, 1) := dk_176 (dk_at dksX21_read_1 4 rfl rfl)
set_option maxHeartbeats 4000000 in
set_option maxRecDepth 100000 in
noncomputable def fn_X21_read (l0 : Option Nat) (h : cz_H) : cz_Z := cz_rc h l0 [18] (cz_cV (fn_X6_go l0 h) (fun h7 => cz_rc h7 l0 [18] (cz_xR (fn_X21_or l0 h7) (fun q15 h16 => cz_thr q15 h16) (fun r17 h14 => cz_getI h14 l0 [(18, 4)] (fun x18 => (if x18 = 0 then cz_rc h14 l0 [18] (cz_xV (fn_X6_need l0 1 1 h14) (fun q35 h36 => cz_thr q35 h36) (fun h34 => some (.inl (some (cz_r r17)), h34))) else cz_rc h14 l0 [18] (cz_xV (fn_X6_need l0 0 1 h14) (fun q26 h27 => cz_thr q26 h27) (fun h25 => some (.inl (some (cz_r r17)), h25)))))))))
set_option maxHeartbeats 4000000 in
set_option maxRecDepth 100000 in
theorem wk_X21_read {K : cz_K} {D : cz_D} {h0 : cz_H} {oh : cz_O × cz_H} {l0 : Option Nat} {h : cz_H} (S : cz_S K D h0 cX21_read 2 "HeldCoats$SentenceReader" ((Option.some (Jvm.ClassFile.FieldType.object "HeldCoats$Cond"))) "read" ([])) : cz_T K D 60 h0 oh 2 (fn_X21_read l0 h) h 0 [(0, cz_r l0)] [] := by
  unfold fn_X21_read
  refine ct_aload_n (k := 0) S dX21_read_0 rfl rfl ?_
  refine ct_rc (fun b1 ci2 V3 hb4 hc5 hi6 => ?_)
  refine ct_cV (st := []) (cg_up (owner := "HeldCoats$Reader") (av := []) S hb4 hc5 hi6 (fun _ e => mt_X6_go e) q521 q1656 q1657 (Or.inl q518) ⟨by decide, by decide⟩ q520 q124 nh_HeldCoats_SentenceReader_go___V se_HeldCoats_SentenceReader_go___V_HeldCoats_Reader (by decide) (by decide) (Nat.le_of_ble_eq_true rfl) rfl dX21_read_1) (fun h7 => ?_)
  refine ct_aload_n (k := 0) S dX21_read_4 rfl rfl ?_
  refine ct_rc (fun b8 ci9 V10 hb11 hc12 hi13 => ?_)
  refine ct_xR (st := []) (cg_virtual (av := []) S hb11 hc12 hi13 (fun _ e => mt_X21_or e) md_X21_or q1659 q1661 se_HeldCoats_SentenceReader_or___LHeldCoats_Cond__HeldCoats_SentenceReader (by decide) (Nat.le_of_ble_eq_true rfl) rfl dX21_read_5) (fun q15 h16 => ?_) (fun r17 h14 => ?_)
  · exact ct_out S (fun x hx => by cases hx)
  · refine ct_astore_n (L' := [(1, cz_r r17), (0, cz_r l0)]) S dX21_read_8 rfl (by decide) rfl ?_
    refine ct_aload_n (k := 1) S dX21_read_9 rfl rfl ?_
    refine ct_aload_n (k := 1) S dX21_read_10 rfl rfl ?_
    refine ct_getI S fw_X21_23 dX21_read_11 (fun x18 => ?_)
    refine ct_if_ne (tgt := 21) S dX21_read_14 (by decide) ?_ ?_
    · refine ct_iconst (v := 0) S dX21_read_21 kI_0 ?_
      refine ct_iconst (v := 1) S dX21_read_22 kI_1 ?_
      refine ct_rc (fun b19 ci20 V21 hb22 hc23 hi24 => ?_)
      refine ct_xV (st := []) (cg_up (owner := "HeldCoats$Reader") (av := [cz_i 0, cz_i 1]) S hb22 hc23 hi24 (fun _ e => mt_X6_need e) q750 q1687 q1688 (Or.inl q747) ⟨by decide, by decide⟩ q749 q124 nh_HeldCoats_SentenceReader_need__ZI_V se_HeldCoats_SentenceReader_need__ZI_V_HeldCoats_Reader (by decide) (by decide) (Nat.le_of_ble_eq_true rfl) rfl dX21_read_23) (fun q26 h27 => ?_) (fun h25 => ?_)
      · exact ct_out S (fun x hx => by cases hx)
      · refine ct_aload_n (k := 0) S dX21_read_26 rfl rfl ?_
        exact ct_aret S rfl (Or.inl ⟨_, rfl⟩) dX21_read_27
    · refine ct_iconst (v := 1) S dX21_read_17 kI_1 ?_
      refine ct_goto (tgt := 22) S dX21_read_18 (by decide) ?_
      refine ct_iconst (v := 1) S dX21_read_22 kI_1 ?_
      refine ct_rc (fun b28 ci29 V30 hb31 hc32 hi33 => ?_)
      refine ct_xV (st := []) (cg_up (owner := "HeldCoats$Reader") (av := [cz_i 1, cz_i 1]) S hb31 hc32 hi33 (fun _ e => mt_X6_need e) q750 q1687 q1688 (Or.inl q747) ⟨by decide, by decide⟩ q749 q124 nh_HeldCoats_SentenceReader_need__ZI_V se_HeldCoats_SentenceReader_need__ZI_V_HeldCoats_Reader (by decide) (by decide) (Nat.le_of_ble_eq_true rfl) rfl dX21_read_23) (fun q35 h36 => ?_) (fun h34 => ?_)
      · exact ct_out S (fun x hx => by cases hx)
      · refine ct_aload_n (k := 0) S dX21_read_26 rfl rfl ?_
        exact ct_aret S rfl (Or.inl ⟨_, rfl⟩) dX21_read_27
theorem mt_X21_read {l : Launch} {D : cz_D} {l0 : Option Nat} {h : cz_H} {oh : cz_O × cz_H} (hz : fn_X21_read l0 h = some oh) : cz_M l D yX21_read (ws_ yX21_read cX21_read 2 ((Option.some (Jvm.ClassFile.FieldType.object "HeldCoats$Cond")))) 60 [cz_r l0] h oh := cz_met (plainFor_of_name (by decide)) (Nat.le_of_ble_eq_true rfl) hz (fun K hl S => wk_X21_read S)
/-! HeldCoats.sentence()I -/
def dkwX1_sentence_2 : List UInt8 := [181, 0, 89, 2, 44, 180, 0, 116, 100, 172]
abbrev dktX1_sentence_2 : List UInt8 := dkwX1_sentence_2 ++ []
def dkwX1_sentence_1 : List UInt8 := [183, 1, 93, 77, 42, 44, 182, 1, 94, 181, 0, 101, 44, 180, 1, 97, 172, 77, 42, 44, 180, 0, 113]
abbrev dktX1_sentence_1 : List UInt8 := dkwX1_sentence_1 ++ dktX1_sentence_2
def dkwX1_sentence_0 : List UInt8 := [42, 182, 0, 85, 60, 42, 3, 181, 0, 89, 187, 1, 91, 89, 42, 180, 0, 26, 27, 42, 180, 0, 33]
abbrev dktX1_sentence_0 : List UInt8 := dkwX1_sentence_0 ++ dktX1_sentence_1
theorem dksX1_sentence_0 : cX1_sentence.data.toList.drop 0 = dktX1_sentence_0 := by decide +kernel
theorem dksX1_sentence_1 : cX1_sentence.data.toList.drop 23 = dktX1_sentence_1 := dk_seg dksX1_sentence_0 23 rfl rfl
theorem dksX1_sentence_2 : cX1_sentence.data.toList.drop 46 = dktX1_sentence_2 := dk_seg dksX1_sentence_1 23 rfl rfl
theorem dX1_sentence_0 : decode cX1_sentence 0 = .ok (.aload_n 0, 1) := dk_42 (dk_at dksX1_sentence_0 0 rfl rfl)
theorem dX1_sentence_1 : decode cX1_sentence 1 = .ok (.invokevirtual 85, 3) := dk_182 0 85 (dk_at dksX1_sentence_0 1 rfl rfl)
theorem dX1_sentence_4 : decode cX1_sentence 4 = .ok (.istore_n 1, 1) := dk_60 (dk_at dksX1_sentence_0 4 rfl rfl)
theorem dX1_sentence_5 : decode cX1_sentence 5 = .ok (.aload_n 0, 1) := dk_42 (dk_at dksX1_sentence_0 5 rfl rfl)
theorem dX1_sentence_6 : decode cX1_sentence 6 = .ok (.iconst 0, 1) := dk_3 (dk_at dksX1_sentence_0 6 rfl rfl)
theorem dX1_sentence_7 : decode cX1_sentence 7 = .ok (.putfield 89, 3) := dk_181 0 89 (dk_at dksX1_sentence_0 7 rfl rfl)
theorem dX1_sentence_10 : decode cX1_sentence 10 = .ok (.new 347, 3) := dk_187 1 91 (dk_at dksX1_sentence_0 10 rfl rfl)
theorem dX1_sentence_13 : decode cX1_sentence 13 = .ok (.dup, 1) := dk_89 (dk_at dksX1_sentence_0 13 rfl rfl)
theorem dX1_sentence_14 : decode cX1_sentence 14 = .ok (.aload_n 0, 1) := dk_42 (dk_at dksX1_sentence_0 14 rfl rfl)
theorem dX1_sentence_15 : decode cX1_sentence 15 = .ok (.getfield 26, 3) := dk_180 0 26 (dk_at dksX1_sentence_0 15 rfl rfl)
theorem dX1_sentence_18 : decode cX1_sentence 18 = .ok (.iload_n 1, 1) := dk_27 (dk_at dksX1_sentence_0 18 rfl rfl)
theorem dX1_sentence_19 : decode cX1_sentence 19 = .ok (.aload_n 0, 1) := dk_42 (dk_at dksX1_sentence_0 19 rfl rfl)
theorem dX1_sentence_20 : decode cX1_sentence 20 = .ok (.getfield 33, 3) := dk_180 0 33 (dk_at dksX1_sentence_0 20 rfl rfl)
theorem dX1_sentence_23 : decode cX1_sentence 23 = .ok (.invokespecial 349, 3) := dk_183 1 93 (dk_at dksX1_sentence_1 0 rfl rfl)
theorem dX1_sentence_26 : decode cX1_sentence 26 = .ok (.astore_n 2, 1) := dk_77 (dk_at dksX1_sentence_1 3 rfl rfl)
theorem dX1_sentence_27 : decode cX1_sentence 27 = .ok (.aload_n 0, 1) := dk_42 (dk_at dksX1_sentence_1 4 rfl rfl)
theorem dX1_sentence_28 : decode cX1_sentence 28 = .ok (.aload_n 2, 1) := dk_44 (dk_at dksX1_sentence_1 5 rfl rfl)
theorem dX1_sentence_29 : decode cX1_sentence 29 = .ok (.invokevirtual 350, 3) := dk_182 1 94 (dk_at dksX1_sentence_1 6 rfl rfl)
theorem dX1_sentence_32 : decode cX1_sentence 32 = .ok (.putfield 101, 3) := dk_181 0 101 (dk_at dksX1_sentence_1 9 rfl rfl)
theorem dX1_sentence_35 : decode cX1_sentence 35 = .ok (.aload_n 2, 1) := dk_44 (dk_at dksX1_sentence_1 12 rfl rfl)
theorem dX1_sentence_36 : decode cX1_sentence 36 = .ok (.getfield 353, 3) := dk_180 1 97 (dk_at dksX1_sentence_1 13 rfl rfl)
theorem dX1_sentence_39 : decode cX1_sentence 39 = .ok (.ireturn, 1) := dk_172 (dk_at dksX1_sentence_1 16 rfl rfl)
theorem dX1_sentence_40 : decode cX1_sentence 40 = .ok (.astore_n 2, 1) := dk_77 (dk_at dksX1_sentence_1 17 rfl rfl)
theorem dX1_sentence_41 : decode cX1_sentence 41 = .ok (.aload_n 0, 1) := dk_42 (dk_at dksX1_sentence_1 18 rfl rfl)
theorem dX1_sentence_42 : decode cX1_sentence 42 = .ok (.aload_n 2, 1) := dk_44 (dk_at dksX1_sentence_1 19 rfl rfl)
theorem dX1_sentence_43 : decode cX1_sentence 43 = .ok (.getfield 113, 3) := dk_180 0 113 (dk_at dksX1_sentence_1 20 rfl rfl)
theorem dX1_sentence_46 : decode cX1_sentence 46 = .ok (.putfield 89, 3) := dk_181 0 89 (dk_at dksX1_sentence_2 0 rfl rfl)
theorem dX1_sentence_49 : decode cX1_sentence 49 = .ok (.iconst (-1), 1) := dk_2 (dk_at dksX1_sentence_2 3 rfl rfl)
theorem dX1_sentence_50 : decode cX1_sentence 50 = .ok (.aload_n 2, 1) := dk_44 (dk_at dksX1_sentence_2 4 rfl rfl)
theorem dX1_sentence_51 : decode cX1_sentence 51 = .ok (.getfield 116, 3) := dk_180 0 116 (dk_at dksX1_sentence_2 5 rfl rfl)
theorem dX1_sentence_54 : decode cX1_sentence 54 = .ok (.isub, 1) := dk_100 (dk_at dksX1_sentence_2 8 rfl rfl)
theorem dX1_sentence_55 : decode cX1_sentence 55 = .ok (.ireturn, 1) := dk_172 (dk_at dksX1_sentence_2 9 rfl rfl)
theorem nh_HeldCoats_SentenceReader__init____BILHeldCoats_Capital__V : cz_nh ⟨"HeldCoats$SentenceReader", "<init>", "([BILHeldCoats$Capital;)V"⟩ 3 := ⟨by decide, by decide, by decide +kernel⟩
theorem se_HeldCoats_SentenceReader_read___LHeldCoats_Cond__HeldCoats_SentenceReader : ∀ c ∈ ([18] : List Nat), ∃ q : vw_C, cz_cl[c]? = some q ∧ Cond.selects q.1 (⟨"HeldCoats$SentenceReader", "read", "()LHeldCoats$Cond;"⟩ : MethodName) (⟨"HeldCoats$SentenceReader", "read", "()LHeldCoats$Cond;"⟩ : MethodName) ∈ lw_all := List.forall_mem_cons.mpr ⟨⟨_, cz_cl18, q1654⟩, fun _ h => absurd h List.not_mem_nil⟩
theorem md_X21_read : cz_md yX21_read 2 (ws_ yX21_read cX21_read 2 ((Option.some (Jvm.ClassFile.FieldType.object "HeldCoats$Cond")))) 0 := ⟨cz_ws_code q1655, q152, ⟨by decide, by decide, by decide +kernel⟩, by decide⟩
theorem fw_X1_353 : cz_FW "HeldCoats" 353 [(18, 10)] "I" := ⟨"HeldCoats$SentenceReader", "ones", Or.inr ⟨_, q1634⟩, List.forall_mem_cons.mpr ⟨⟨RX21, TX21, 12, rfl, by decide, rfl, rfl, Or.inl rfl⟩, fun _ h => absurd h List.not_mem_nil⟩, by decide⟩
set_option maxHeartbeats 4000000 in
set_option maxRecDepth 100000 in
noncomputable def fn_X1_sentence (l0 : Option Nat) (h : cz_H) : cz_Z := cz_rc h l0 [0] (cz_cI (fn_X1_take l0 h) (fun x8 h7 => cz_put h7 l0 [(0, 2)] (cz_i 0) (fun h9 => cz_newo h9 18 12 (fun r10 h11 => cz_getR h11 l0 [(0, 0)] (fun r12 => cz_getR h11 l0 [(0, 3)] (fun r13 => cz_nn' r10 (cz_cV (fn_X21_init r10 r12 x8 r13 h11) (fun h16 => cz_rc h16 r10 [18] (cz_xR (fn_X21_read r10 h16) (fun q24 h25 => cz_catch h25 q24 [9] (cz_getI h25 (some q24) [(9, 6)] (fun x26 => cz_put h25 l0 [(0, 2)] (cz_i x26) (fun h27 => cz_getI h27 (some q24) [(9, 7)] (fun x28 => some (.inl (some (cz_i (((-1) : Int32) - x28))), h27)))))) (fun r29 h23 => cz_put h23 l0 [(0, 6)] (cz_r r29) (fun h30 => cz_getI h30 r10 [(18, 10)] (fun x31 => some (.inl (some (cz_i x31)), h30)))))))))))))
set_option maxHeartbeats 4000000 in
set_option maxRecDepth 100000 in
theorem wk_X1_sentence {K : cz_K} {D : cz_D} {h0 : cz_H} {oh : cz_O × cz_H} {l0 : Option Nat} {h : cz_H} (S : cz_S K D h0 cX1_sentence 3 "HeldCoats" ((Option.some Jvm.ClassFile.FieldType.int)) "sentence" (tableOf [(10, 39, 40, 111)])) : cz_T K D 61 h0 oh 3 (fn_X1_sentence l0 h) h 0 [(0, cz_r l0)] [] := by
  unfold fn_X1_sentence
  refine ct_aload_n (k := 0) S dX1_sentence_0 rfl rfl ?_
  refine ct_rc (fun b1 ci2 V3 hb4 hc5 hi6 => ?_)
  refine ct_cI (st := []) (cg_virtual (av := []) S hb4 hc5 hi6 (fun _ e => mt_X1_take e) md_X1_take q452 q454 se_HeldCoats_take___I_HeldCoats (by decide) (Nat.le_of_ble_eq_true rfl) rfl dX1_sentence_1) (fun x8 h7 => ?_)
  refine ct_istore_n (L' := [(1, cz_i x8), (0, cz_r l0)]) S dX1_sentence_4 rfl (by decide) rfl ?_
  refine ct_aload_n (k := 1) S dX1_sentence_5 rfl rfl ?_
  refine ct_iconst (v := 0) S dX1_sentence_6 kI_0 ?_
  refine ct_put S fw_X1_89 fp_X1_m_0_2 (cz_fits_i pd_I) dX1_sentence_7 (fun h9 => ?_)
  refine ct_newo S (by decide) cz_cl18 q1626 dX1_sentence_10 (fun r10 h11 => ?_)
  refine ct_dup S dX1_sentence_13 rfl ?_
  refine ct_aload_n (k := 1) S dX1_sentence_14 rfl rfl ?_
  refine ct_getR S fw_X1_26 dX1_sentence_15 (fun r12 => ?_)
  refine ct_iload_n (k := 0) S dX1_sentence_18 rfl rfl ?_
  refine ct_aload_n (k := 1) S dX1_sentence_19 rfl rfl ?_
  refine ct_getR S fw_X1_33 dX1_sentence_20 (fun r13 => ?_)
  refine ct_nn (fun b14 hb15 => ?_)
  refine ct_cV (st := [cz_r r10]) (cg_init (av := [cz_r r12, cz_i x8, cz_r r13]) S hb15 (fun _ e => mt_X21_init e) q1630 (Or.inl q1628) rfl q1629 q152 nh_HeldCoats_SentenceReader__init____BILHeldCoats_Capital__V (by decide) (by decide) (Nat.le_of_ble_eq_true rfl) rfl dX1_sentence_23) (fun h16 => ?_)
  refine ct_astore_n (L' := [(2, cz_r r10), (1, cz_i x8), (0, cz_r l0)]) S dX1_sentence_26 rfl (by decide) rfl ?_
  refine ct_aload_n (k := 2) S dX1_sentence_27 rfl rfl ?_
  refine ct_aload_n (k := 0) S dX1_sentence_28 rfl rfl ?_
  refine ct_rc (fun b17 ci18 V19 hb20 hc21 hi22 => ?_)
  refine ct_xR (st := [cz_r l0]) (cg_virtual (av := []) S hb20 hc21 hi22 (fun _ e => mt_X21_read e) md_X21_read q1652 q1653 se_HeldCoats_SentenceReader_read___LHeldCoats_Cond__HeldCoats_SentenceReader (by decide) (Nat.le_of_ble_eq_true rfl) rfl dX1_sentence_29) (fun q24 h25 => ?_) (fun r29 h23 => ?_)
  · refine ct_catch (hp := 40) S rfl rfl (by decide) rfl q451 cc_HeldCoats_Fault ?_
    refine ct_astore_n (L' := [(2, cz_r (some q24)), (1, cz_i x8), (0, cz_r l0)]) S dX1_sentence_40 rfl (by decide) rfl ?_
    refine ct_aload_n (k := 2) S dX1_sentence_41 rfl rfl ?_
    refine ct_aload_n (k := 0) S dX1_sentence_42 rfl rfl ?_
    refine ct_getI S fw_X1_113 dX1_sentence_43 (fun x26 => ?_)
    refine ct_put S fw_X1_89 fp_X1_m_0_2 (cz_fits_i pd_I) dX1_sentence_46 (fun h27 => ?_)
    refine ct_iconst (v := (-1)) S dX1_sentence_49 kI_m1 ?_
    refine ct_aload_n (k := 0) S dX1_sentence_50 rfl rfl ?_
    refine ct_getI S fw_X1_116 dX1_sentence_51 (fun x28 => ?_)
    refine ct_isub S dX1_sentence_54 ?_
    exact ct_iret S rfl dX1_sentence_55
  · refine ct_put S fw_X1_101 fp_X1_m_0_6 (cz_fits_r pd_LHeldCoats_Cond_) dX1_sentence_32 (fun h30 => ?_)
    refine ct_aload_n (k := 0) S dX1_sentence_35 rfl rfl ?_
    refine ct_getI S fw_X1_353 dX1_sentence_36 (fun x31 => ?_)
    exact ct_iret S rfl dX1_sentence_39
theorem mt_X1_sentence {l : Launch} {D : cz_D} {l0 : Option Nat} {h : cz_H} {oh : cz_O × cz_H} (hz : fn_X1_sentence l0 h = some oh) : cz_M l D yX1_sentence (wsW_ yX1_sentence cX1_sentence 3 ((Option.some Jvm.ClassFile.FieldType.int)) [(10, 39, 40, 111)]) 61 [cz_r l0] h oh := cz_metW (plainFor_of_name (by decide)) (Nat.le_of_ble_eq_true rfl) hz (fun K hl S => wk_X1_sentence S)
/-! HeldCoats.harmIn(IIZI)I -/
def dkwX1_harmIn_1 : List UInt8 := [153, 0, 12, 21, 5, 4, 28, 120, 128, 167, 0, 5, 21, 5, 21, 4, 182, 0, 173, 184, 1, 20, 172]
abbrev dktX1_harmIn_1 : List UInt8 := dkwX1_harmIn_1 ++ []
def dkwX1_harmIn_0 : List UInt8 := [42, 180, 0, 42, 27, 182, 0, 170, 4, 28, 120, 2, 130, 126, 54, 5, 42, 180, 0, 42, 27, 29]
abbrev dktX1_harmIn_0 : List UInt8 := dkwX1_harmIn_0 ++ dktX1_harmIn_1
theorem dksX1_harmIn_0 : cX1_harmIn.data.toList.drop 0 = dktX1_harmIn_0 := by decide +kernel
theorem dksX1_harmIn_1 : cX1_harmIn.data.toList.drop 22 = dktX1_harmIn_1 := dk_seg dksX1_harmIn_0 22 rfl rfl
theorem dX1_harmIn_0 : decode cX1_harmIn 0 = .ok (.aload_n 0, 1) := dk_42 (dk_at dksX1_harmIn_0 0 rfl rfl)
theorem dX1_harmIn_1 : decode cX1_harmIn 1 = .ok (.getfield 42, 3) := dk_180 0 42 (dk_at dksX1_harmIn_0 1 rfl rfl)
theorem dX1_harmIn_4 : decode cX1_harmIn 4 = .ok (.iload_n 1, 1) := dk_27 (dk_at dksX1_harmIn_0 4 rfl rfl)
theorem dX1_harmIn_5 : decode cX1_harmIn 5 = .ok (.invokevirtual 170, 3) := dk_182 0 170 (dk_at dksX1_harmIn_0 5 rfl rfl)
theorem dX1_harmIn_8 : decode cX1_harmIn 8 = .ok (.iconst 1, 1) := dk_4 (dk_at dksX1_harmIn_0 8 rfl rfl)
theorem dX1_harmIn_9 : decode cX1_harmIn 9 = .ok (.iload_n 2, 1) := dk_28 (dk_at dksX1_harmIn_0 9 rfl rfl)
theorem dX1_harmIn_10 : decode cX1_harmIn 10 = .ok (.ishl, 1) := dk_120 (dk_at dksX1_harmIn_0 10 rfl rfl)
theorem dX1_harmIn_11 : decode cX1_harmIn 11 = .ok (.iconst (-1), 1) := dk_2 (dk_at dksX1_harmIn_0 11 rfl rfl)
theorem dX1_harmIn_12 : decode cX1_harmIn 12 = .ok (.ixor, 1) := dk_130 (dk_at dksX1_harmIn_0 12 rfl rfl)
theorem dX1_harmIn_13 : decode cX1_harmIn 13 = .ok (.iand, 1) := dk_126 (dk_at dksX1_harmIn_0 13 rfl rfl)
theorem dX1_harmIn_14 : decode cX1_harmIn 14 = .ok (.istore 5, 2) := dk_54 5 (dk_at dksX1_harmIn_0 14 rfl rfl)
theorem dX1_harmIn_16 : decode cX1_harmIn 16 = .ok (.aload_n 0, 1) := dk_42 (dk_at dksX1_harmIn_0 16 rfl rfl)
theorem dX1_harmIn_17 : decode cX1_harmIn 17 = .ok (.getfield 42, 3) := dk_180 0 42 (dk_at dksX1_harmIn_0 17 rfl rfl)
theorem dX1_harmIn_20 : decode cX1_harmIn 20 = .ok (.iload_n 1, 1) := dk_27 (dk_at dksX1_harmIn_0 20 rfl rfl)
theorem dX1_harmIn_21 : decode cX1_harmIn 21 = .ok (.iload_n 3, 1) := dk_29 (dk_at dksX1_harmIn_0 21 rfl rfl)
theorem dX1_harmIn_22 : decode cX1_harmIn 22 = .ok (.ifCond .eq 12, 3) := dk_153 0 12 (dk_at dksX1_harmIn_1 0 rfl rfl)
theorem dX1_harmIn_25 : decode cX1_harmIn 25 = .ok (.iload 5, 2) := dk_21 5 (dk_at dksX1_harmIn_1 3 rfl rfl)
theorem dX1_harmIn_27 : decode cX1_harmIn 27 = .ok (.iconst 1, 1) := dk_4 (dk_at dksX1_harmIn_1 5 rfl rfl)
theorem dX1_harmIn_28 : decode cX1_harmIn 28 = .ok (.iload_n 2, 1) := dk_28 (dk_at dksX1_harmIn_1 6 rfl rfl)
theorem dX1_harmIn_29 : decode cX1_harmIn 29 = .ok (.ishl, 1) := dk_120 (dk_at dksX1_harmIn_1 7 rfl rfl)
theorem dX1_harmIn_30 : decode cX1_harmIn 30 = .ok (.ior, 1) := dk_128 (dk_at dksX1_harmIn_1 8 rfl rfl)
theorem dX1_harmIn_31 : decode cX1_harmIn 31 = .ok (.goto 5, 3) := dk_167 0 5 (dk_at dksX1_harmIn_1 9 rfl rfl)
theorem dX1_harmIn_34 : decode cX1_harmIn 34 = .ok (.iload 5, 2) := dk_21 5 (dk_at dksX1_harmIn_1 12 rfl rfl)
theorem dX1_harmIn_36 : decode cX1_harmIn 36 = .ok (.iload 4, 2) := dk_21 4 (dk_at dksX1_harmIn_1 14 rfl rfl)
theorem dX1_harmIn_38 : decode cX1_harmIn 38 = .ok (.invokevirtual 173, 3) := dk_182 0 173 (dk_at dksX1_harmIn_1 16 rfl rfl)
theorem dX1_harmIn_41 : decode cX1_harmIn 41 = .ok (.invokestatic 276, 3) := dk_184 1 20 (dk_at dksX1_harmIn_1 19 rfl rfl)
theorem dX1_harmIn_44 : decode cX1_harmIn 44 = .ok (.ireturn, 1) := dk_172 (dk_at dksX1_harmIn_1 22 rfl rfl)
set_option maxHeartbeats 4000000 in
set_option maxRecDepth 100000 in
noncomputable def fn_X1_harmIn (l0 : Option Nat) (l1 : Int32) (l2 : Int32) (l3 : Int32) (l4 : Int32) (h : cz_H) : cz_Z := cz_getR h l0 [(0, 4)] (fun r1 => cz_rc h r1 [3] (cz_cI (fn_X3_wornBy r1 l1 h) (fun x9 h8 => cz_leti (x9 &&& (((1 : Int32) <<< (l2 &&& 31)) ^^^ (-1))) (fun x10 => cz_getR h8 l0 [(0, 4)] (fun r11 => (if l3 = 0 then cz_rc h8 r11 [3] (cz_cI (fn_X3_chill r11 l1 x10 l4 h8) (fun x19 h18 => cz_cI (fn_X3_square x19 h18) (fun x21 h20 => some (.inl (some (cz_i x21)), h20)))) else cz_rc h8 r11 [3] (cz_cI (fn_X3_chill r11 l1 (x10 ||| ((1 : Int32) <<< (l2 &&& 31))) l4 h8) (fun x29 h28 => cz_cI (fn_X3_square x29 h28) (fun x31 h30 => some (.inl (some (cz_i x31)), h30))))))))))
set_option maxHeartbeats 4000000 in
set_option maxRecDepth 100000 in
theorem wk_X1_harmIn {K : cz_K} {D : cz_D} {h0 : cz_H} {oh : cz_O × cz_H} {l0 : Option Nat} {l1 : Int32} {l2 : Int32} {l3 : Int32} {l4 : Int32} {h : cz_H} (S : cz_S K D h0 cX1_harmIn 6 "HeldCoats" ((Option.some Jvm.ClassFile.FieldType.int)) "harmIn" ([])) : cz_T K D 7 h0 oh 6 (fn_X1_harmIn l0 l1 l2 l3 l4 h) h 0 [(0, cz_r l0), (1, cz_i l1), (2, cz_i l2), (3, cz_i l3), (4, cz_i l4)] [] := by
  unfold fn_X1_harmIn
  refine ct_aload_n (k := 0) S dX1_harmIn_0 rfl rfl ?_
  refine ct_getR S fw_X1_42 dX1_harmIn_1 (fun r1 => ?_)
  refine ct_iload_n (k := 1) S dX1_harmIn_4 rfl rfl ?_
  refine ct_rc (fun b2 ci3 V4 hb5 hc6 hi7 => ?_)
  refine ct_cI (st := []) (cg_virtual (av := [cz_i l1]) S hb5 hc6 hi7 (fun _ e => mt_X3_wornBy e) md_X3_wornBy q1366 q1222 se_HeldCoats_Reign_wornBy__I_I_HeldCoats_Reign (by decide) (Nat.le_of_ble_eq_true rfl) rfl dX1_harmIn_5) (fun x9 h8 => ?_)
  refine ct_iconst (v := 1) S dX1_harmIn_8 kI_1 ?_
  refine ct_iload_n (k := 2) S dX1_harmIn_9 rfl rfl ?_
  refine ct_ishl S dX1_harmIn_10 ?_
  refine ct_iconst (v := (-1)) S dX1_harmIn_11 kI_m1 ?_
  refine ct_ixor S dX1_harmIn_12 ?_
  refine ct_iand S dX1_harmIn_13 ?_
  refine ct_leti (fun x10 => ?_)
  refine ct_istore (L' := [(5, cz_i x10), (0, cz_r l0), (1, cz_i l1), (2, cz_i l2), (3, cz_i l3), (4, cz_i l4)]) S dX1_harmIn_14 (by decide) rfl ?_
  refine ct_aload_n (k := 1) S dX1_harmIn_16 rfl rfl ?_
  refine ct_getR S fw_X1_42 dX1_harmIn_17 (fun r11 => ?_)
  refine ct_iload_n (k := 2) S dX1_harmIn_20 rfl rfl ?_
  refine ct_iload_n (k := 4) S dX1_harmIn_21 rfl rfl ?_
  refine ct_if_eq (tgt := 34) S dX1_harmIn_22 (by decide) ?_ ?_
  · refine ct_iload (k := 0) S dX1_harmIn_34 rfl ?_
    refine ct_iload (k := 5) S dX1_harmIn_36 rfl ?_
    refine ct_rc (fun b12 ci13 V14 hb15 hc16 hi17 => ?_)
    refine ct_cI (st := []) (cg_virtual (av := [cz_i l1, cz_i x10, cz_i l4]) S hb15 hc16 hi17 (fun _ e => mt_X3_chill e) md_X3_chill q1373 q1226 se_HeldCoats_Reign_chill__III_I_HeldCoats_Reign (by decide) (Nat.le_of_ble_eq_true rfl) rfl dX1_harmIn_38) (fun x19 h18 => ?_)
    refine ct_cI (st := []) (cg_static (av := [cz_i x19]) S (fun _ e => mt_X3_square e) md_X3_square (Or.inl q1374) q1237 (by decide) (Nat.le_of_ble_eq_true rfl) rfl dX1_harmIn_41) (fun x21 h20 => ?_)
    exact ct_iret S rfl dX1_harmIn_44
  · refine ct_iload (k := 0) S dX1_harmIn_25 rfl ?_
    refine ct_iconst (v := 1) S dX1_harmIn_27 kI_1 ?_
    refine ct_iload_n (k := 3) S dX1_harmIn_28 rfl rfl ?_
    refine ct_ishl S dX1_harmIn_29 ?_
    refine ct_ior S dX1_harmIn_30 ?_
    refine ct_goto (tgt := 36) S dX1_harmIn_31 (by decide) ?_
    refine ct_iload (k := 5) S dX1_harmIn_36 rfl ?_
    refine ct_rc (fun b22 ci23 V24 hb25 hc26 hi27 => ?_)
    refine ct_cI (st := []) (cg_virtual (av := [cz_i l1, cz_i (x10 ||| ((1 : Int32) <<< (l2 &&& 31))), cz_i l4]) S hb25 hc26 hi27 (fun _ e => mt_X3_chill e) md_X3_chill q1373 q1226 se_HeldCoats_Reign_chill__III_I_HeldCoats_Reign (by decide) (Nat.le_of_ble_eq_true rfl) rfl dX1_harmIn_38) (fun x29 h28 => ?_)
    refine ct_cI (st := []) (cg_static (av := [cz_i x29]) S (fun _ e => mt_X3_square e) md_X3_square (Or.inl q1374) q1237 (by decide) (Nat.le_of_ble_eq_true rfl) rfl dX1_harmIn_41) (fun x31 h30 => ?_)
    exact ct_iret S rfl dX1_harmIn_44
theorem mt_X1_harmIn {l : Launch} {D : cz_D} {l0 : Option Nat} {l1 : Int32} {l2 : Int32} {l3 : Int32} {l4 : Int32} {h : cz_H} {oh : cz_O × cz_H} (hz : fn_X1_harmIn l0 l1 l2 l3 l4 h = some oh) : cz_M l D yX1_harmIn (ws_ yX1_harmIn cX1_harmIn 6 ((Option.some Jvm.ClassFile.FieldType.int))) 7 [cz_r l0, cz_i l1, cz_i l2, cz_i l3, cz_i l4] h oh := cz_met (plainFor_of_name (by decide)) (Nat.le_of_ble_eq_true rfl) hz (fun K hl S => wk_X1_harmIn S)
/-! HeldCoats.share(IIII)I -/
def dkwX1_share_6 : List UInt8 := [132, 7, 1, 167, 255, 164, 42, 21, 6, 181, 0, 56, 21, 5, 172]
abbrev dktX1_share_6 : List UInt8 := dkwX1_share_6 ++ []
def dkwX1_share_5 : List UInt8 := [162, 0, 12, 21, 6, 4, 21, 7, 120, 128, 54, 6, 21, 5, 21, 9, 21, 10, 184, 1, 38, 96, 54, 5]
abbrev dktX1_share_5 : List UInt8 := dkwX1_share_5 ++ dktX1_share_6
def dkwX1_share_4 : List UInt8 := [3, 21, 8, 182, 1, 34, 42, 28, 29, 4, 21, 8, 182, 1, 34, 96, 54, 10, 21, 10, 21, 9]
abbrev dktX1_share_4 : List UInt8 := dkwX1_share_4 ++ dktX1_share_5
def dkwX1_share_3 : List UInt8 := [42, 27, 29, 4, 21, 8, 182, 1, 34, 42, 28, 29, 3, 21, 8, 182, 1, 34, 96, 54, 9, 42, 27, 29]
abbrev dktX1_share_3 : List UInt8 := dkwX1_share_3 ++ dktX1_share_4
def dkwX1_share_2 : List UInt8 := [54, 6, 3, 54, 7, 21, 7, 21, 4, 162, 0, 91, 42, 180, 0, 42, 180, 0, 15, 21, 7, 96, 54, 8]
abbrev dktX1_share_2 : List UInt8 := dkwX1_share_2 ++ dktX1_share_3
def dkwX1_share_1 : List UInt8 := [29, 46, 16, 30, 159, 0, 14, 21, 4, 4, 16, 30, 184, 0, 162, 154, 0, 5, 2, 172, 3, 54, 5, 3]
abbrev dktX1_share_1 : List UInt8 := dkwX1_share_1 ++ dktX1_share_2
def dkwX1_share_0 : List UInt8 := [42, 27, 28, 182, 1, 31, 153, 0, 36, 42, 29, 182, 0, 195, 153, 0, 28, 42, 180, 0, 42, 180, 0, 207]
abbrev dktX1_share_0 : List UInt8 := dkwX1_share_0 ++ dktX1_share_1
theorem dksX1_share_0 : cX1_share.data.toList.drop 0 = dktX1_share_0 := by decide +kernel
theorem dksX1_share_1 : cX1_share.data.toList.drop 24 = dktX1_share_1 := dk_seg dksX1_share_0 24 rfl rfl
theorem dksX1_share_2 : cX1_share.data.toList.drop 48 = dktX1_share_2 := dk_seg dksX1_share_1 24 rfl rfl
theorem dksX1_share_3 : cX1_share.data.toList.drop 72 = dktX1_share_3 := dk_seg dksX1_share_2 24 rfl rfl
theorem dksX1_share_4 : cX1_share.data.toList.drop 96 = dktX1_share_4 := dk_seg dksX1_share_3 24 rfl rfl
theorem dksX1_share_5 : cX1_share.data.toList.drop 118 = dktX1_share_5 := dk_seg dksX1_share_4 22 rfl rfl
theorem dksX1_share_6 : cX1_share.data.toList.drop 142 = dktX1_share_6 := dk_seg dksX1_share_5 24 rfl rfl
theorem dX1_share_0 : decode cX1_share 0 = .ok (.aload_n 0, 1) := dk_42 (dk_at dksX1_share_0 0 rfl rfl)
theorem dX1_share_1 : decode cX1_share 1 = .ok (.iload_n 1, 1) := dk_27 (dk_at dksX1_share_0 1 rfl rfl)
theorem dX1_share_2 : decode cX1_share 2 = .ok (.iload_n 2, 1) := dk_28 (dk_at dksX1_share_0 2 rfl rfl)
theorem dX1_share_3 : decode cX1_share 3 = .ok (.invokevirtual 287, 3) := dk_182 1 31 (dk_at dksX1_share_0 3 rfl rfl)
theorem dX1_share_6 : decode cX1_share 6 = .ok (.ifCond .eq 36, 3) := dk_153 0 36 (dk_at dksX1_share_0 6 rfl rfl)
theorem dX1_share_9 : decode cX1_share 9 = .ok (.aload_n 0, 1) := dk_42 (dk_at dksX1_share_0 9 rfl rfl)
theorem dX1_share_10 : decode cX1_share 10 = .ok (.iload_n 3, 1) := dk_29 (dk_at dksX1_share_0 10 rfl rfl)
theorem dX1_share_11 : decode cX1_share 11 = .ok (.invokevirtual 195, 3) := dk_182 0 195 (dk_at dksX1_share_0 11 rfl rfl)
theorem dX1_share_14 : decode cX1_share 14 = .ok (.ifCond .eq 28, 3) := dk_153 0 28 (dk_at dksX1_share_0 14 rfl rfl)
theorem dX1_share_17 : decode cX1_share 17 = .ok (.aload_n 0, 1) := dk_42 (dk_at dksX1_share_0 17 rfl rfl)
theorem dX1_share_18 : decode cX1_share 18 = .ok (.getfield 42, 3) := dk_180 0 42 (dk_at dksX1_share_0 18 rfl rfl)
theorem dX1_share_21 : decode cX1_share 21 = .ok (.getfield 207, 3) := dk_180 0 207 (dk_at dksX1_share_0 21 rfl rfl)
theorem dX1_share_24 : decode cX1_share 24 = .ok (.iload_n 3, 1) := dk_29 (dk_at dksX1_share_1 0 rfl rfl)
theorem dX1_share_25 : decode cX1_share 25 = .ok (.iaload, 1) := dk_46 (dk_at dksX1_share_1 1 rfl rfl)
theorem dX1_share_26 : decode cX1_share 26 = .ok (.bipush 30, 2) := dk_16 30 (dk_at dksX1_share_1 2 rfl rfl)
theorem dX1_share_28 : decode cX1_share 28 = .ok (.if_icmp .eq 14, 3) := dk_159 0 14 (dk_at dksX1_share_1 4 rfl rfl)
theorem dX1_share_31 : decode cX1_share 31 = .ok (.iload 4, 2) := dk_21 4 (dk_at dksX1_share_1 7 rfl rfl)
theorem dX1_share_33 : decode cX1_share 33 = .ok (.iconst 1, 1) := dk_4 (dk_at dksX1_share_1 9 rfl rfl)
theorem dX1_share_34 : decode cX1_share 34 = .ok (.bipush 30, 2) := dk_16 30 (dk_at dksX1_share_1 10 rfl rfl)
theorem dX1_share_36 : decode cX1_share 36 = .ok (.invokestatic 162, 3) := dk_184 0 162 (dk_at dksX1_share_1 12 rfl rfl)
theorem dX1_share_39 : decode cX1_share 39 = .ok (.ifCond .ne 5, 3) := dk_154 0 5 (dk_at dksX1_share_1 15 rfl rfl)
theorem dX1_share_42 : decode cX1_share 42 = .ok (.iconst (-1), 1) := dk_2 (dk_at dksX1_share_1 18 rfl rfl)
theorem dX1_share_43 : decode cX1_share 43 = .ok (.ireturn, 1) := dk_172 (dk_at dksX1_share_1 19 rfl rfl)
theorem dX1_share_44 : decode cX1_share 44 = .ok (.iconst 0, 1) := dk_3 (dk_at dksX1_share_1 20 rfl rfl)
theorem dX1_share_45 : decode cX1_share 45 = .ok (.istore 5, 2) := dk_54 5 (dk_at dksX1_share_1 21 rfl rfl)
theorem dX1_share_47 : decode cX1_share 47 = .ok (.iconst 0, 1) := dk_3 (dk_at dksX1_share_1 23 rfl rfl)
theorem dX1_share_48 : decode cX1_share 48 = .ok (.istore 6, 2) := dk_54 6 (dk_at dksX1_share_2 0 rfl rfl)
theorem dX1_share_50 : decode cX1_share 50 = .ok (.iconst 0, 1) := dk_3 (dk_at dksX1_share_2 2 rfl rfl)
theorem dX1_share_51 : decode cX1_share 51 = .ok (.istore 7, 2) := dk_54 7 (dk_at dksX1_share_2 3 rfl rfl)
theorem dX1_share_53 : decode cX1_share 53 = .ok (.iload 7, 2) := dk_21 7 (dk_at dksX1_share_2 5 rfl rfl)
theorem dX1_share_55 : decode cX1_share 55 = .ok (.iload 4, 2) := dk_21 4 (dk_at dksX1_share_2 7 rfl rfl)
theorem dX1_share_57 : decode cX1_share 57 = .ok (.if_icmp .ge 91, 3) := dk_162 0 91 (dk_at dksX1_share_2 9 rfl rfl)
theorem dX1_share_60 : decode cX1_share 60 = .ok (.aload_n 0, 1) := dk_42 (dk_at dksX1_share_2 12 rfl rfl)
theorem dX1_share_61 : decode cX1_share 61 = .ok (.getfield 42, 3) := dk_180 0 42 (dk_at dksX1_share_2 13 rfl rfl)
theorem dX1_share_64 : decode cX1_share 64 = .ok (.getfield 15, 3) := dk_180 0 15 (dk_at dksX1_share_2 16 rfl rfl)
theorem dX1_share_67 : decode cX1_share 67 = .ok (.iload 7, 2) := dk_21 7 (dk_at dksX1_share_2 19 rfl rfl)
theorem dX1_share_69 : decode cX1_share 69 = .ok (.iadd, 1) := dk_96 (dk_at dksX1_share_2 21 rfl rfl)
theorem dX1_share_70 : decode cX1_share 70 = .ok (.istore 8, 2) := dk_54 8 (dk_at dksX1_share_2 22 rfl rfl)
theorem dX1_share_72 : decode cX1_share 72 = .ok (.aload_n 0, 1) := dk_42 (dk_at dksX1_share_3 0 rfl rfl)
theorem dX1_share_73 : decode cX1_share 73 = .ok (.iload_n 1, 1) := dk_27 (dk_at dksX1_share_3 1 rfl rfl)
theorem dX1_share_74 : decode cX1_share 74 = .ok (.iload_n 3, 1) := dk_29 (dk_at dksX1_share_3 2 rfl rfl)
theorem dX1_share_75 : decode cX1_share 75 = .ok (.iconst 1, 1) := dk_4 (dk_at dksX1_share_3 3 rfl rfl)
theorem dX1_share_76 : decode cX1_share 76 = .ok (.iload 8, 2) := dk_21 8 (dk_at dksX1_share_3 4 rfl rfl)
theorem dX1_share_78 : decode cX1_share 78 = .ok (.invokevirtual 290, 3) := dk_182 1 34 (dk_at dksX1_share_3 6 rfl rfl)
theorem dX1_share_81 : decode cX1_share 81 = .ok (.aload_n 0, 1) := dk_42 (dk_at dksX1_share_3 9 rfl rfl)
theorem dX1_share_82 : decode cX1_share 82 = .ok (.iload_n 2, 1) := dk_28 (dk_at dksX1_share_3 10 rfl rfl)
theorem dX1_share_83 : decode cX1_share 83 = .ok (.iload_n 3, 1) := dk_29 (dk_at dksX1_share_3 11 rfl rfl)
theorem dX1_share_84 : decode cX1_share 84 = .ok (.iconst 0, 1) := dk_3 (dk_at dksX1_share_3 12 rfl rfl)
theorem dX1_share_85 : decode cX1_share 85 = .ok (.iload 8, 2) := dk_21 8 (dk_at dksX1_share_3 13 rfl rfl)
theorem dX1_share_87 : decode cX1_share 87 = .ok (.invokevirtual 290, 3) := dk_182 1 34 (dk_at dksX1_share_3 15 rfl rfl)
theorem dX1_share_90 : decode cX1_share 90 = .ok (.iadd, 1) := dk_96 (dk_at dksX1_share_3 18 rfl rfl)
theorem dX1_share_91 : decode cX1_share 91 = .ok (.istore 9, 2) := dk_54 9 (dk_at dksX1_share_3 19 rfl rfl)
theorem dX1_share_93 : decode cX1_share 93 = .ok (.aload_n 0, 1) := dk_42 (dk_at dksX1_share_3 21 rfl rfl)
theorem dX1_share_94 : decode cX1_share 94 = .ok (.iload_n 1, 1) := dk_27 (dk_at dksX1_share_3 22 rfl rfl)
theorem dX1_share_95 : decode cX1_share 95 = .ok (.iload_n 3, 1) := dk_29 (dk_at dksX1_share_3 23 rfl rfl)
theorem dX1_share_96 : decode cX1_share 96 = .ok (.iconst 0, 1) := dk_3 (dk_at dksX1_share_4 0 rfl rfl)
theorem dX1_share_97 : decode cX1_share 97 = .ok (.iload 8, 2) := dk_21 8 (dk_at dksX1_share_4 1 rfl rfl)
theorem dX1_share_99 : decode cX1_share 99 = .ok (.invokevirtual 290, 3) := dk_182 1 34 (dk_at dksX1_share_4 3 rfl rfl)
theorem dX1_share_102 : decode cX1_share 102 = .ok (.aload_n 0, 1) := dk_42 (dk_at dksX1_share_4 6 rfl rfl)
theorem dX1_share_103 : decode cX1_share 103 = .ok (.iload_n 2, 1) := dk_28 (dk_at dksX1_share_4 7 rfl rfl)
theorem dX1_share_104 : decode cX1_share 104 = .ok (.iload_n 3, 1) := dk_29 (dk_at dksX1_share_4 8 rfl rfl)
theorem dX1_share_105 : decode cX1_share 105 = .ok (.iconst 1, 1) := dk_4 (dk_at dksX1_share_4 9 rfl rfl)
theorem dX1_share_106 : decode cX1_share 106 = .ok (.iload 8, 2) := dk_21 8 (dk_at dksX1_share_4 10 rfl rfl)
theorem dX1_share_108 : decode cX1_share 108 = .ok (.invokevirtual 290, 3) := dk_182 1 34 (dk_at dksX1_share_4 12 rfl rfl)
theorem dX1_share_111 : decode cX1_share 111 = .ok (.iadd, 1) := dk_96 (dk_at dksX1_share_4 15 rfl rfl)
theorem dX1_share_112 : decode cX1_share 112 = .ok (.istore 10, 2) := dk_54 10 (dk_at dksX1_share_4 16 rfl rfl)
theorem dX1_share_114 : decode cX1_share 114 = .ok (.iload 10, 2) := dk_21 10 (dk_at dksX1_share_4 18 rfl rfl)
theorem dX1_share_116 : decode cX1_share 116 = .ok (.iload 9, 2) := dk_21 9 (dk_at dksX1_share_4 20 rfl rfl)
theorem dX1_share_118 : decode cX1_share 118 = .ok (.if_icmp .ge 12, 3) := dk_162 0 12 (dk_at dksX1_share_5 0 rfl rfl)
theorem dX1_share_121 : decode cX1_share 121 = .ok (.iload 6, 2) := dk_21 6 (dk_at dksX1_share_5 3 rfl rfl)
theorem dX1_share_123 : decode cX1_share 123 = .ok (.iconst 1, 1) := dk_4 (dk_at dksX1_share_5 5 rfl rfl)
theorem dX1_share_124 : decode cX1_share 124 = .ok (.iload 7, 2) := dk_21 7 (dk_at dksX1_share_5 6 rfl rfl)
theorem dX1_share_126 : decode cX1_share 126 = .ok (.ishl, 1) := dk_120 (dk_at dksX1_share_5 8 rfl rfl)
theorem dX1_share_127 : decode cX1_share 127 = .ok (.ior, 1) := dk_128 (dk_at dksX1_share_5 9 rfl rfl)
theorem dX1_share_128 : decode cX1_share 128 = .ok (.istore 6, 2) := dk_54 6 (dk_at dksX1_share_5 10 rfl rfl)
theorem dX1_share_130 : decode cX1_share 130 = .ok (.iload 5, 2) := dk_21 5 (dk_at dksX1_share_5 12 rfl rfl)
theorem dX1_share_132 : decode cX1_share 132 = .ok (.iload 9, 2) := dk_21 9 (dk_at dksX1_share_5 14 rfl rfl)
theorem dX1_share_134 : decode cX1_share 134 = .ok (.iload 10, 2) := dk_21 10 (dk_at dksX1_share_5 16 rfl rfl)
theorem dX1_share_136 : decode cX1_share 136 = .ok (.invokestatic 294, 3) := dk_184 1 38 (dk_at dksX1_share_5 18 rfl rfl)
theorem dX1_share_139 : decode cX1_share 139 = .ok (.iadd, 1) := dk_96 (dk_at dksX1_share_5 21 rfl rfl)
theorem dX1_share_140 : decode cX1_share 140 = .ok (.istore 5, 2) := dk_54 5 (dk_at dksX1_share_5 22 rfl rfl)
theorem dX1_share_142 : decode cX1_share 142 = .ok (.iinc 7 1, 3) := dk_132 7 1 (dk_at dksX1_share_6 0 rfl rfl)
theorem dX1_share_145 : decode cX1_share 145 = .ok (.goto (-92), 3) := dk_167 255 164 (dk_at dksX1_share_6 3 rfl rfl)
theorem dX1_share_148 : decode cX1_share 148 = .ok (.aload_n 0, 1) := dk_42 (dk_at dksX1_share_6 6 rfl rfl)
theorem dX1_share_149 : decode cX1_share 149 = .ok (.iload 6, 2) := dk_21 6 (dk_at dksX1_share_6 7 rfl rfl)
theorem dX1_share_151 : decode cX1_share 151 = .ok (.putfield 56, 3) := dk_181 0 56 (dk_at dksX1_share_6 9 rfl rfl)
theorem dX1_share_154 : decode cX1_share 154 = .ok (.iload 5, 2) := dk_21 5 (dk_at dksX1_share_6 12 rfl rfl)
theorem dX1_share_156 : decode cX1_share 156 = .ok (.ireturn, 1) := dk_172 (dk_at dksX1_share_6 14 rfl rfl)
theorem se_HeldCoats_harmIn__IIZI_I_HeldCoats : ∀ c ∈ ([0] : List Nat), ∃ q : vw_C, cz_cl[c]? = some q ∧ Cond.selects q.1 (⟨"HeldCoats", "harmIn", "(IIZI)I"⟩ : MethodName) (⟨"HeldCoats", "harmIn", "(IIZI)I"⟩ : MethodName) ∈ lw_all := List.forall_mem_cons.mpr ⟨⟨_, cz_cl0, qs25⟩, fun _ h => absurd h List.not_mem_nil⟩
theorem md_X1_harmIn : cz_md yX1_harmIn 6 (ws_ yX1_harmIn cX1_harmIn 6 ((Option.some Jvm.ClassFile.FieldType.int))) 4 := ⟨cz_ws_code q1406, q113, ⟨by decide, by decide, by decide +kernel⟩, by decide⟩
theorem fp_X1_m_0_10 {nm : String} : cz_FP "HeldCoats" nm [(0, 10)] := List.forall_mem_cons.mpr ⟨⟨RX1, TX1, 18, rfl, Or.inl rfl⟩, fun _ h => absurd h List.not_mem_nil⟩
set_option maxHeartbeats 4000000 in
set_option maxRecDepth 100000 in
noncomputable def fn_X1_share_53 (l0 : Option Nat) (l1 : Int32) (l2 : Int32) (l3 : Int32) (l4 : Int32) (k0 : Int32 → Int32 → cz_H → cz_Z) : Nat → Int32 → Int32 → Int32 → cz_H → cz_Z
  | 0, _, _, _, _ => none
  | n + 1, l5, l6, l7, h => (if l4 ≤ l7 then k0 l5 l6 h else cz_getR h l0 [(0, 4)] (fun r22 => cz_getI h r22 [(3, 1)] (fun x23 => cz_leti (x23 + l7) (fun x24 => cz_rc h l0 [0] (cz_cI (fn_X1_harmIn l0 l1 l3 1 x24 h) (fun x32 h31 => cz_rc h31 l0 [0] (cz_cI (fn_X1_harmIn l0 l2 l3 0 x24 h31) (fun x40 h39 => cz_leti (x32 + x40) (fun x41 => cz_rc h39 l0 [0] (cz_cI (fn_X1_harmIn l0 l1 l3 0 x24 h39) (fun x49 h48 => cz_rc h48 l0 [0] (cz_cI (fn_X1_harmIn l0 l2 l3 1 x24 h48) (fun x57 h56 => cz_leti (x49 + x57) (fun x58 => cz_jn (fun (v59 : Int32) (h60 : cz_H) => cz_cI (fn_J11_min x41 x58 h60) (fun x62 h61 => cz_leti (l5 + x62) (fun x63 => cz_leti (l7 + 1) (fun x64 => fn_X1_share_53 l0 l1 l2 l3 l4 k0 n x63 v59 x64 h61)))) (fun j65 => (if x41 ≤ x58 then j65 l6 h56 else cz_leti (l6 ||| ((1 : Int32) <<< (l7 &&& 31))) (fun x66 => j65 x66 h56)))))))))))))))))
set_option maxHeartbeats 4000000 in
set_option maxRecDepth 100000 in
theorem wk_X1_share_53 {K : cz_K} {D : cz_D} {h0 : cz_H} {oh : cz_O × cz_H} {l0 : Option Nat} {l1 : Int32} {l2 : Int32} {l3 : Int32} {l4 : Int32} {k0 : Int32 → Int32 → cz_H → cz_Z} (S : cz_S K D h0 cX1_share 11 "HeldCoats" ((Option.some Jvm.ClassFile.FieldType.int)) "share" ([])) (hk0 : ∀ (e5 : Int32) (e6 : Int32) (h : cz_H), cz_T K D 8 h0 oh 11 (k0 e5 e6 h) h 148 [(0, cz_r l0), (5, cz_i e5), (6, cz_i e6)] []) : ∀ (n : Nat) (l5 : Int32) (l6 : Int32) (l7 : Int32) (h : cz_H), cz_T K D 8 h0 oh 11 (fn_X1_share_53 l0 l1 l2 l3 l4 k0 n l5 l6 l7 h) h 53 [(0, cz_r l0), (1, cz_i l1), (2, cz_i l2), (3, cz_i l3), (4, cz_i l4), (5, cz_i l5), (6, cz_i l6), (7, cz_i l7)] [] := by
  intro n
  induction n with
  | zero => intros; exact ct_none
  | succ n ih =>
    intro l5 l6 l7 h
    rw [fn_X1_share_53]
    refine ct_iload (k := 7) S dX1_share_53 rfl ?_
    refine ct_iload (k := 4) S dX1_share_55 rfl ?_
    refine ct_icmp_ge (tgt := 148) S dX1_share_57 (by decide) ?_ ?_
    · exact ct_sub [0, 5, 6] rfl (hk0 l5 l6 h)
    · refine ct_aload_n (k := 0) S dX1_share_60 rfl rfl ?_
      refine ct_getR S fw_X1_42 dX1_share_61 (fun r22 => ?_)
      refine ct_getI S fw_X1_15 dX1_share_64 (fun x23 => ?_)
      refine ct_iload (k := 7) S dX1_share_67 rfl ?_
      refine ct_iadd S dX1_share_69 ?_
      refine ct_leti (fun x24 => ?_)
      refine ct_istore (L' := [(8, cz_i x24), (0, cz_r l0), (1, cz_i l1), (2, cz_i l2), (3, cz_i l3), (4, cz_i l4), (5, cz_i l5), (6, cz_i l6), (7, cz_i l7)]) S dX1_share_70 (by decide) rfl ?_
      refine ct_aload_n (k := 1) S dX1_share_72 rfl rfl ?_
      refine ct_iload_n (k := 2) S dX1_share_73 rfl rfl ?_
      refine ct_iload_n (k := 4) S dX1_share_74 rfl rfl ?_
      refine ct_iconst (v := 1) S dX1_share_75 kI_1 ?_
      refine ct_iload (k := 0) S dX1_share_76 rfl ?_
      refine ct_rc (fun b25 ci26 V27 hb28 hc29 hi30 => ?_)
      refine ct_cI (st := []) (cg_virtual (av := [cz_i l1, cz_i l3, cz_i 1, cz_i x24]) S hb28 hc29 hi30 (fun _ e => mt_X1_harmIn e) md_X1_harmIn q1403 q1405 se_HeldCoats_harmIn__IIZI_I_HeldCoats (by decide) (Nat.le_of_ble_eq_true rfl) rfl dX1_share_78) (fun x32 h31 => ?_)
      refine ct_aload_n (k := 1) S dX1_share_81 rfl rfl ?_
      refine ct_iload_n (k := 3) S dX1_share_82 rfl rfl ?_
      refine ct_iload_n (k := 4) S dX1_share_83 rfl rfl ?_
      refine ct_iconst (v := 0) S dX1_share_84 kI_0 ?_
      refine ct_iload (k := 0) S dX1_share_85 rfl ?_
      refine ct_rc (fun b33 ci34 V35 hb36 hc37 hi38 => ?_)
      refine ct_cI (st := [cz_i x32]) (cg_virtual (av := [cz_i l2, cz_i l3, cz_i 0, cz_i x24]) S hb36 hc37 hi38 (fun _ e => mt_X1_harmIn e) md_X1_harmIn q1403 q1405 se_HeldCoats_harmIn__IIZI_I_HeldCoats (by decide) (Nat.le_of_ble_eq_true rfl) rfl dX1_share_87) (fun x40 h39 => ?_)
      refine ct_iadd S dX1_share_90 ?_
      refine ct_leti (fun x41 => ?_)
      refine ct_istore (L' := [(9, cz_i x41), (8, cz_i x24), (0, cz_r l0), (1, cz_i l1), (2, cz_i l2), (3, cz_i l3), (4, cz_i l4), (5, cz_i l5), (6, cz_i l6), (7, cz_i l7)]) S dX1_share_91 (by decide) rfl ?_
      refine ct_aload_n (k := 2) S dX1_share_93 rfl rfl ?_
      refine ct_iload_n (k := 3) S dX1_share_94 rfl rfl ?_
      refine ct_iload_n (k := 5) S dX1_share_95 rfl rfl ?_
      refine ct_iconst (v := 0) S dX1_share_96 kI_0 ?_
      refine ct_iload (k := 1) S dX1_share_97 rfl ?_
      refine ct_rc (fun b42 ci43 V44 hb45 hc46 hi47 => ?_)
      refine ct_cI (st := []) (cg_virtual (av := [cz_i l1, cz_i l3, cz_i 0, cz_i x24]) S hb45 hc46 hi47 (fun _ e => mt_X1_harmIn e) md_X1_harmIn q1403 q1405 se_HeldCoats_harmIn__IIZI_I_HeldCoats (by decide) (Nat.le_of_ble_eq_true rfl) rfl dX1_share_99) (fun x49 h48 => ?_)
      refine ct_aload_n (k := 2) S dX1_share_102 rfl rfl ?_
      refine ct_iload_n (k := 4) S dX1_share_103 rfl rfl ?_
      refine ct_iload_n (k := 5) S dX1_share_104 rfl rfl ?_
      refine ct_iconst (v := 1) S dX1_share_105 kI_1 ?_
      refine ct_iload (k := 1) S dX1_share_106 rfl ?_
      refine ct_rc (fun b50 ci51 V52 hb53 hc54 hi55 => ?_)
      refine ct_cI (st := [cz_i x49]) (cg_virtual (av := [cz_i l2, cz_i l3, cz_i 1, cz_i x24]) S hb53 hc54 hi55 (fun _ e => mt_X1_harmIn e) md_X1_harmIn q1403 q1405 se_HeldCoats_harmIn__IIZI_I_HeldCoats (by decide) (Nat.le_of_ble_eq_true rfl) rfl dX1_share_108) (fun x57 h56 => ?_)
      refine ct_iadd S dX1_share_111 ?_
      refine ct_leti (fun x58 => ?_)
      refine ct_istore (L' := [(10, cz_i x58), (9, cz_i x41), (8, cz_i x24), (0, cz_r l0), (1, cz_i l1), (2, cz_i l2), (3, cz_i l3), (4, cz_i l4), (5, cz_i l5), (6, cz_i l6), (7, cz_i l7)]) S dX1_share_112 (by decide) rfl ?_
      refine ct_iload (k := 0) S dX1_share_114 rfl ?_
      refine ct_iload (k := 1) S dX1_share_116 rfl ?_
      refine ct_jnP (fun j65 => ∀ (v59 : Int32) (h60 : cz_H), cz_T K D 8 h0 oh 11 (j65 v59 h60) h60 130 [(0, cz_r l0), (1, cz_i l1), (2, cz_i l2), (3, cz_i l3), (4, cz_i l4), (5, cz_i l5), (6, cz_i v59), (7, cz_i l7), (9, cz_i x41), (10, cz_i x58)] []) (fun v59 h60 => ?_) (fun j65 Hj65 => ?_)
      · refine ct_iload (k := 5) S dX1_share_130 rfl ?_
        refine ct_iload (k := 8) S dX1_share_132 rfl ?_
        refine ct_iload (k := 9) S dX1_share_134 rfl ?_
        refine ct_cI (st := [cz_i l5]) (cg_static (av := [cz_i x41, cz_i x58]) S (fun _ e => mt_J11_min e) md_J11_min (Or.inl q1407) q600 (by decide) (Nat.le_of_ble_eq_true rfl) rfl dX1_share_136) (fun x62 h61 => ?_)
        refine ct_iadd S dX1_share_139 ?_
        refine ct_leti (fun x63 => ?_)
        refine ct_istore (L' := [(5, cz_i x63), (0, cz_r l0), (1, cz_i l1), (2, cz_i l2), (3, cz_i l3), (4, cz_i l4), (6, cz_i v59), (7, cz_i l7), (9, cz_i x41), (10, cz_i x58)]) S dX1_share_140 (by decide) rfl ?_
        refine ct_iincL (j := 7) (L2 := fun x64 => [(7, cz_i x64), (5, cz_i x63), (0, cz_r l0), (1, cz_i l1), (2, cz_i l2), (3, cz_i l3), (4, cz_i l4), (6, cz_i v59), (9, cz_i x41), (10, cz_i x58)]) S dX1_share_142 rfl kI_1 (by decide) (fun _ => rfl) (fun x64 => ?_)
        refine ct_goto (tgt := 53) S dX1_share_145 (by decide) ?_
        exact ct_sub [2, 3, 4, 5, 6, 1, 7, 0] rfl (ih x63 v59 x64 h61)
      · refine ct_icmp_ge (tgt := 130) S dX1_share_118 (by decide) ?_ ?_
        · exact ct_sub [3, 4, 5, 6, 7, 8, 9, 10, 1, 0] rfl (Hj65 l6 h56)
        · refine ct_iload (k := 9) S dX1_share_121 rfl ?_
          refine ct_iconst (v := 1) S dX1_share_123 kI_1 ?_
          refine ct_iload (k := 10) S dX1_share_124 rfl ?_
          refine ct_ishl S dX1_share_126 ?_
          refine ct_ior S dX1_share_127 ?_
          refine ct_leti (fun x66 => ?_)
          refine ct_istore (L' := [(6, cz_i x66), (10, cz_i x58), (9, cz_i x41), (8, cz_i x24), (0, cz_r l0), (1, cz_i l1), (2, cz_i l2), (3, cz_i l3), (4, cz_i l4), (5, cz_i l5), (7, cz_i l7)]) S dX1_share_128 (by decide) rfl ?_
          exact ct_sub [4, 5, 6, 7, 8, 9, 0, 10, 2, 1] rfl (Hj65 x66 h56)
set_option maxHeartbeats 4000000 in
set_option maxRecDepth 100000 in
noncomputable def fn_X1_share (l0 : Option Nat) (l1 : Int32) (l2 : Int32) (l3 : Int32) (l4 : Int32) (h : cz_H) : cz_Z := cz_rc h l0 [0] (cz_cI (fn_X1_areTwo l0 l1 l2 h) (fun x8 h7 => (if x8 = 0 then some (.inl (some (cz_i (-1))), h7) else cz_rc h7 l0 [0] (cz_cI (fn_X1_isCoat l0 l3 h7) (fun x16 h15 => (if x16 = 0 then some (.inl (some (cz_i (-1))), h15) else cz_getR h15 l0 [(0, 4)] (fun r17 => cz_getR h15 r17 [(3, 6)] (fun r18 => cz_iald h15 r18 l3 (fun x19 => (if x19 = 30 then some (.inl (some (cz_i (-1))), h15) else cz_cI (fn_X1_isIn l4 1 30 h15) (fun x21 h20 => (if x21 = 0 then some (.inl (some (cz_i (-1))), h20) else fn_X1_share_53 l0 l1 l2 l3 l4 (fun (e67 : Int32) (e68 : Int32) (h69 : cz_H) => cz_put h69 l0 [(0, 10)] (cz_i e68) (fun h70 => some (.inl (some (cz_i e67)), h70))) 1000 0 0 0 h20))))))))))))
set_option maxHeartbeats 4000000 in
set_option maxRecDepth 100000 in
theorem wk_X1_share {K : cz_K} {D : cz_D} {h0 : cz_H} {oh : cz_O × cz_H} {l0 : Option Nat} {l1 : Int32} {l2 : Int32} {l3 : Int32} {l4 : Int32} {h : cz_H} (S : cz_S K D h0 cX1_share 11 "HeldCoats" ((Option.some Jvm.ClassFile.FieldType.int)) "share" ([])) : cz_T K D 8 h0 oh 11 (fn_X1_share l0 l1 l2 l3 l4 h) h 0 [(0, cz_r l0), (1, cz_i l1), (2, cz_i l2), (3, cz_i l3), (4, cz_i l4)] [] := by
  unfold fn_X1_share
  refine ct_aload_n (k := 0) S dX1_share_0 rfl rfl ?_
  refine ct_iload_n (k := 1) S dX1_share_1 rfl rfl ?_
  refine ct_iload_n (k := 2) S dX1_share_2 rfl rfl ?_
  refine ct_rc (fun b1 ci2 V3 hb4 hc5 hi6 => ?_)
  refine ct_cI (st := []) (cg_virtual (av := [cz_i l1, cz_i l2]) S hb4 hc5 hi6 (fun _ e => mt_X1_areTwo e) md_X1_areTwo q1399 q1401 se_HeldCoats_areTwo__II_Z_HeldCoats (by decide) (Nat.le_of_ble_eq_true rfl) rfl dX1_share_3) (fun x8 h7 => ?_)
  refine ct_if_eq (tgt := 42) S dX1_share_6 (by decide) ?_ ?_
  · refine ct_iconst (v := (-1)) S dX1_share_42 kI_m1 ?_
    exact ct_iret S rfl dX1_share_43
  · refine ct_aload_n (k := 0) S dX1_share_9 rfl rfl ?_
    refine ct_iload_n (k := 3) S dX1_share_10 rfl rfl ?_
    refine ct_rc (fun b9 ci10 V11 hb12 hc13 hi14 => ?_)
    refine ct_cI (st := []) (cg_virtual (av := [cz_i l3]) S hb12 hc13 hi14 (fun _ e => mt_X1_isCoat e) md_X1_isCoat q1142 q1144 se_HeldCoats_isCoat__I_Z_HeldCoats (by decide) (Nat.le_of_ble_eq_true rfl) rfl dX1_share_11) (fun x16 h15 => ?_)
    refine ct_if_eq (tgt := 42) S dX1_share_14 (by decide) ?_ ?_
    · refine ct_iconst (v := (-1)) S dX1_share_42 kI_m1 ?_
      exact ct_iret S rfl dX1_share_43
    · refine ct_aload_n (k := 0) S dX1_share_17 rfl rfl ?_
      refine ct_getR S fw_X1_42 dX1_share_18 (fun r17 => ?_)
      refine ct_getR S fw_X1_207 dX1_share_21 (fun r18 => ?_)
      refine ct_iload_n (k := 3) S dX1_share_24 rfl rfl ?_
      refine ct_iald S dX1_share_25 (fun x19 => ?_)
      refine ct_bipush (v := 30) S dX1_share_26 kB_30 ?_
      refine ct_icmp_eq (tgt := 42) S dX1_share_28 (by decide) ?_ ?_
      · refine ct_iconst (v := (-1)) S dX1_share_42 kI_m1 ?_
        exact ct_iret S rfl dX1_share_43
      · refine ct_iload (k := 4) S dX1_share_31 rfl ?_
        refine ct_iconst (v := 1) S dX1_share_33 kI_1 ?_
        refine ct_bipush (v := 30) S dX1_share_34 kB_30 ?_
        refine ct_cI (st := []) (cg_static (av := [cz_i l4, cz_i 1, cz_i 30]) S (fun _ e => mt_X1_isIn e) md_X1_isIn (Or.inl q1355) q929 (by decide) (Nat.le_of_ble_eq_true rfl) rfl dX1_share_36) (fun x21 h20 => ?_)
        refine ct_if_ne (tgt := 44) S dX1_share_39 (by decide) ?_ ?_
        · refine ct_iconst (v := 0) S dX1_share_44 kI_0 ?_
          refine ct_istore (L' := [(5, cz_i 0), (0, cz_r l0), (1, cz_i l1), (2, cz_i l2), (3, cz_i l3), (4, cz_i l4)]) S dX1_share_45 (by decide) rfl ?_
          refine ct_iconst (v := 0) S dX1_share_47 kI_0 ?_
          refine ct_istore (L' := [(6, cz_i 0), (5, cz_i 0), (0, cz_r l0), (1, cz_i l1), (2, cz_i l2), (3, cz_i l3), (4, cz_i l4)]) S dX1_share_48 (by decide) rfl ?_
          refine ct_iconst (v := 0) S dX1_share_50 kI_0 ?_
          refine ct_istore (L' := [(7, cz_i 0), (6, cz_i 0), (5, cz_i 0), (0, cz_r l0), (1, cz_i l1), (2, cz_i l2), (3, cz_i l3), (4, cz_i l4)]) S dX1_share_51 (by decide) rfl ?_
          refine ct_sub [3, 4, 5, 6, 7, 2, 1, 0] (L' := [(0, cz_r l0), (1, cz_i l1), (2, cz_i l2), (3, cz_i l3), (4, cz_i l4), (5, cz_i 0), (6, cz_i 0), (7, cz_i 0)]) rfl (wk_X1_share_53 S ?_ 1000 0 0 0 h20)
          · intro e67 e68 h69
            refine ct_aload_n (k := 0) S dX1_share_148 rfl rfl ?_
            refine ct_iload (k := 2) S dX1_share_149 rfl ?_
            refine ct_put S fw_X1_56 fp_X1_m_0_10 (cz_fits_i pd_I) dX1_share_151 (fun h70 => ?_)
            refine ct_iload (k := 1) S dX1_share_154 rfl ?_
            exact ct_iret S rfl dX1_share_156
        · refine ct_iconst (v := (-1)) S dX1_share_42 kI_m1 ?_
          exact ct_iret S rfl dX1_share_43
theorem mt_X1_share {l : Launch} {D : cz_D} {l0 : Option Nat} {l1 : Int32} {l2 : Int32} {l3 : Int32} {l4 : Int32} {h : cz_H} {oh : cz_O × cz_H} (hz : fn_X1_share l0 l1 l2 l3 l4 h = some oh) : cz_M l D yX1_share (ws_ yX1_share cX1_share 11 ((Option.some Jvm.ClassFile.FieldType.int))) 8 [cz_r l0, cz_i l1, cz_i l2, cz_i l3, cz_i l4] h oh := cz_met (plainFor_of_name (by decide)) (Nat.le_of_ble_eq_true rfl) hz (fun K hl S => wk_X1_share S)
/-! HeldCoats.surely()I -/
theorem dX1_surely_0 : decode cX1_surely 0 = .ok (.aload_n 0, 1) := by decide +kernel
theorem dX1_surely_1 : decode cX1_surely 1 = .ok (.getfield 59, 3) := by decide +kernel
theorem dX1_surely_4 : decode cX1_surely 4 = .ok (.ireturn, 1) := by decide +kernel
set_option maxHeartbeats 4000000 in
set_option maxRecDepth 100000 in
noncomputable def fn_X1_surely (l0 : Option Nat) (h : cz_H) : cz_Z := cz_getI h l0 [(0, 13)] (fun x1 => some (.inl (some (cz_i x1)), h))
set_option maxHeartbeats 4000000 in
set_option maxRecDepth 100000 in
theorem wk_X1_surely {K : cz_K} {D : cz_D} {h0 : cz_H} {oh : cz_O × cz_H} {l0 : Option Nat} {h : cz_H} (S : cz_S K D h0 cX1_surely 1 "HeldCoats" ((Option.some Jvm.ClassFile.FieldType.int)) "surely" ([])) : cz_T K D 2 h0 oh 1 (fn_X1_surely l0 h) h 0 [(0, cz_r l0)] [] := by
  unfold fn_X1_surely
  refine ct_aload_n (k := 0) S dX1_surely_0 rfl rfl ?_
  refine ct_getI S fw_X1_59 dX1_surely_1 (fun x1 => ?_)
  exact ct_iret S rfl dX1_surely_4
theorem mt_X1_surely {l : Launch} {D : cz_D} {l0 : Option Nat} {h : cz_H} {oh : cz_O × cz_H} (hz : fn_X1_surely l0 h = some oh) : cz_M l D yX1_surely (ws_ yX1_surely cX1_surely 1 ((Option.some Jvm.ClassFile.FieldType.int))) 2 [cz_r l0] h oh := cz_met (plainFor_of_name (by decide)) (Nat.le_of_ble_eq_true rfl) hz (fun K hl S => wk_X1_surely S)
/-! HeldCoats.told(I)I -/
def dkwX1_told_0 : List UInt8 := [27, 3, 6, 184, 0, 162, 153, 0, 12, 42, 180, 0, 68, 27, 46, 167, 0, 4, 2, 172]
abbrev dktX1_told_0 : List UInt8 := dkwX1_told_0 ++ []
theorem dksX1_told_0 : cX1_told.data.toList.drop 0 = dktX1_told_0 := by decide +kernel
theorem dX1_told_0 : decode cX1_told 0 = .ok (.iload_n 1, 1) := dk_27 (dk_at dksX1_told_0 0 rfl rfl)
theorem dX1_told_1 : decode cX1_told 1 = .ok (.iconst 0, 1) := dk_3 (dk_at dksX1_told_0 1 rfl rfl)
theorem dX1_told_2 : decode cX1_told 2 = .ok (.iconst 3, 1) := dk_6 (dk_at dksX1_told_0 2 rfl rfl)
theorem dX1_told_3 : decode cX1_told 3 = .ok (.invokestatic 162, 3) := dk_184 0 162 (dk_at dksX1_told_0 3 rfl rfl)
theorem dX1_told_6 : decode cX1_told 6 = .ok (.ifCond .eq 12, 3) := dk_153 0 12 (dk_at dksX1_told_0 6 rfl rfl)
theorem dX1_told_9 : decode cX1_told 9 = .ok (.aload_n 0, 1) := dk_42 (dk_at dksX1_told_0 9 rfl rfl)
theorem dX1_told_10 : decode cX1_told 10 = .ok (.getfield 68, 3) := dk_180 0 68 (dk_at dksX1_told_0 10 rfl rfl)
theorem dX1_told_13 : decode cX1_told 13 = .ok (.iload_n 1, 1) := dk_27 (dk_at dksX1_told_0 13 rfl rfl)
theorem dX1_told_14 : decode cX1_told 14 = .ok (.iaload, 1) := dk_46 (dk_at dksX1_told_0 14 rfl rfl)
theorem dX1_told_15 : decode cX1_told 15 = .ok (.goto 4, 3) := dk_167 0 4 (dk_at dksX1_told_0 15 rfl rfl)
theorem dX1_told_18 : decode cX1_told 18 = .ok (.iconst (-1), 1) := dk_2 (dk_at dksX1_told_0 18 rfl rfl)
theorem dX1_told_19 : decode cX1_told 19 = .ok (.ireturn, 1) := dk_172 (dk_at dksX1_told_0 19 rfl rfl)
set_option maxHeartbeats 4000000 in
set_option maxRecDepth 100000 in
noncomputable def fn_X1_told (l0 : Option Nat) (l1 : Int32) (h : cz_H) : cz_Z := cz_cI (fn_X1_isIn l1 0 3 h) (fun x2 h1 => (if x2 = 0 then some (.inl (some (cz_i (-1))), h1) else cz_getR h1 l0 [(0, 16)] (fun r3 => cz_iald h1 r3 l1 (fun x4 => some (.inl (some (cz_i x4)), h1)))))
set_option maxHeartbeats 4000000 in
set_option maxRecDepth 100000 in
theorem wk_X1_told {K : cz_K} {D : cz_D} {h0 : cz_H} {oh : cz_O × cz_H} {l0 : Option Nat} {l1 : Int32} {h : cz_H} (S : cz_S K D h0 cX1_told 2 "HeldCoats" ((Option.some Jvm.ClassFile.FieldType.int)) "told" ([])) : cz_T K D 3 h0 oh 2 (fn_X1_told l0 l1 h) h 0 [(0, cz_r l0), (1, cz_i l1)] [] := by
  unfold fn_X1_told
  refine ct_iload_n (k := 1) S dX1_told_0 rfl rfl ?_
  refine ct_iconst (v := 0) S dX1_told_1 kI_0 ?_
  refine ct_iconst (v := 3) S dX1_told_2 kI_3 ?_
  refine ct_cI (st := []) (cg_static (av := [cz_i l1, cz_i 0, cz_i 3]) S (fun _ e => mt_X1_isIn e) md_X1_isIn (Or.inl q1355) q929 (by decide) (Nat.le_of_ble_eq_true rfl) rfl dX1_told_3) (fun x2 h1 => ?_)
  refine ct_if_eq (tgt := 18) S dX1_told_6 (by decide) ?_ ?_
  · refine ct_iconst (v := (-1)) S dX1_told_18 kI_m1 ?_
    exact ct_iret S rfl dX1_told_19
  · refine ct_aload_n (k := 0) S dX1_told_9 rfl rfl ?_
    refine ct_getR S fw_X1_68 dX1_told_10 (fun r3 => ?_)
    refine ct_iload_n (k := 1) S dX1_told_13 rfl rfl ?_
    refine ct_iald S dX1_told_14 (fun x4 => ?_)
    refine ct_goto (tgt := 19) S dX1_told_15 (by decide) ?_
    exact ct_iret S rfl dX1_told_19
theorem mt_X1_told {l : Launch} {D : cz_D} {l0 : Option Nat} {l1 : Int32} {h : cz_H} {oh : cz_O × cz_H} (hz : fn_X1_told l0 l1 h = some oh) : cz_M l D yX1_told (ws_ yX1_told cX1_told 2 ((Option.some Jvm.ClassFile.FieldType.int))) 3 [cz_r l0, cz_i l1] h oh := cz_met (plainFor_of_name (by decide)) (Nat.le_of_ble_eq_true rfl) hz (fun K hl S => wk_X1_told S)
/-! HeldCoats.turns()I -/
theorem dX1_turns_0 : decode cX1_turns 0 = .ok (.aload_n 0, 1) := by decide +kernel
theorem dX1_turns_1 : decode cX1_turns 1 = .ok (.getfield 56, 3) := by decide +kernel
theorem dX1_turns_4 : decode cX1_turns 4 = .ok (.ireturn, 1) := by decide +kernel
set_option maxHeartbeats 4000000 in
set_option maxRecDepth 100000 in
noncomputable def fn_X1_turns (l0 : Option Nat) (h : cz_H) : cz_Z := cz_getI h l0 [(0, 10)] (fun x1 => some (.inl (some (cz_i x1)), h))
set_option maxHeartbeats 4000000 in
set_option maxRecDepth 100000 in
theorem wk_X1_turns {K : cz_K} {D : cz_D} {h0 : cz_H} {oh : cz_O × cz_H} {l0 : Option Nat} {h : cz_H} (S : cz_S K D h0 cX1_turns 1 "HeldCoats" ((Option.some Jvm.ClassFile.FieldType.int)) "turns" ([])) : cz_T K D 2 h0 oh 1 (fn_X1_turns l0 h) h 0 [(0, cz_r l0)] [] := by
  unfold fn_X1_turns
  refine ct_aload_n (k := 0) S dX1_turns_0 rfl rfl ?_
  refine ct_getI S fw_X1_56 dX1_turns_1 (fun x1 => ?_)
  exact ct_iret S rfl dX1_turns_4
theorem mt_X1_turns {l : Launch} {D : cz_D} {l0 : Option Nat} {h : cz_H} {oh : cz_O × cz_H} (hz : fn_X1_turns l0 h = some oh) : cz_M l D yX1_turns (ws_ yX1_turns cX1_turns 1 ((Option.some Jvm.ClassFile.FieldType.int))) 2 [cz_r l0] h oh := cz_met (plainFor_of_name (by decide)) (Nat.le_of_ble_eq_true rfl) hz (fun K hl S => wk_X1_turns S)
/-! HeldCoats.undo()I -/
def dkwX1_undo_1 : List UInt8 := [180, 0, 49, 42, 180, 0, 105, 50, 182, 0, 232, 87, 42, 180, 0, 105, 172]
abbrev dktX1_undo_1 : List UInt8 := dkwX1_undo_1 ++ []
def dkwX1_undo_0 : List UInt8 := [42, 180, 0, 105, 154, 0, 5, 2, 172, 42, 89, 180, 0, 105, 4, 100, 181, 0, 105, 42, 180, 0, 42, 42]
abbrev dktX1_undo_0 : List UInt8 := dkwX1_undo_0 ++ dktX1_undo_1
theorem dksX1_undo_0 : cX1_undo.data.toList.drop 0 = dktX1_undo_0 := by decide +kernel
theorem dksX1_undo_1 : cX1_undo.data.toList.drop 24 = dktX1_undo_1 := dk_seg dksX1_undo_0 24 rfl rfl
theorem dX1_undo_0 : decode cX1_undo 0 = .ok (.aload_n 0, 1) := dk_42 (dk_at dksX1_undo_0 0 rfl rfl)
theorem dX1_undo_1 : decode cX1_undo 1 = .ok (.getfield 105, 3) := dk_180 0 105 (dk_at dksX1_undo_0 1 rfl rfl)
theorem dX1_undo_4 : decode cX1_undo 4 = .ok (.ifCond .ne 5, 3) := dk_154 0 5 (dk_at dksX1_undo_0 4 rfl rfl)
theorem dX1_undo_7 : decode cX1_undo 7 = .ok (.iconst (-1), 1) := dk_2 (dk_at dksX1_undo_0 7 rfl rfl)
theorem dX1_undo_8 : decode cX1_undo 8 = .ok (.ireturn, 1) := dk_172 (dk_at dksX1_undo_0 8 rfl rfl)
theorem dX1_undo_9 : decode cX1_undo 9 = .ok (.aload_n 0, 1) := dk_42 (dk_at dksX1_undo_0 9 rfl rfl)
theorem dX1_undo_10 : decode cX1_undo 10 = .ok (.dup, 1) := dk_89 (dk_at dksX1_undo_0 10 rfl rfl)
theorem dX1_undo_11 : decode cX1_undo 11 = .ok (.getfield 105, 3) := dk_180 0 105 (dk_at dksX1_undo_0 11 rfl rfl)
theorem dX1_undo_14 : decode cX1_undo 14 = .ok (.iconst 1, 1) := dk_4 (dk_at dksX1_undo_0 14 rfl rfl)
theorem dX1_undo_15 : decode cX1_undo 15 = .ok (.isub, 1) := dk_100 (dk_at dksX1_undo_0 15 rfl rfl)
theorem dX1_undo_16 : decode cX1_undo 16 = .ok (.putfield 105, 3) := dk_181 0 105 (dk_at dksX1_undo_0 16 rfl rfl)
theorem dX1_undo_19 : decode cX1_undo 19 = .ok (.aload_n 0, 1) := dk_42 (dk_at dksX1_undo_0 19 rfl rfl)
theorem dX1_undo_20 : decode cX1_undo 20 = .ok (.getfield 42, 3) := dk_180 0 42 (dk_at dksX1_undo_0 20 rfl rfl)
theorem dX1_undo_23 : decode cX1_undo 23 = .ok (.aload_n 0, 1) := dk_42 (dk_at dksX1_undo_0 23 rfl rfl)
theorem dX1_undo_24 : decode cX1_undo 24 = .ok (.getfield 49, 3) := dk_180 0 49 (dk_at dksX1_undo_1 0 rfl rfl)
theorem dX1_undo_27 : decode cX1_undo 27 = .ok (.aload_n 0, 1) := dk_42 (dk_at dksX1_undo_1 3 rfl rfl)
theorem dX1_undo_28 : decode cX1_undo 28 = .ok (.getfield 105, 3) := dk_180 0 105 (dk_at dksX1_undo_1 4 rfl rfl)
theorem dX1_undo_31 : decode cX1_undo 31 = .ok (.aaload, 1) := dk_50 (dk_at dksX1_undo_1 7 rfl rfl)
theorem dX1_undo_32 : decode cX1_undo 32 = .ok (.invokevirtual 232, 3) := dk_182 0 232 (dk_at dksX1_undo_1 8 rfl rfl)
theorem dX1_undo_35 : decode cX1_undo 35 = .ok (.pop, 1) := dk_87 (dk_at dksX1_undo_1 11 rfl rfl)
theorem dX1_undo_36 : decode cX1_undo 36 = .ok (.aload_n 0, 1) := dk_42 (dk_at dksX1_undo_1 12 rfl rfl)
theorem dX1_undo_37 : decode cX1_undo 37 = .ok (.getfield 105, 3) := dk_180 0 105 (dk_at dksX1_undo_1 13 rfl rfl)
theorem dX1_undo_40 : decode cX1_undo 40 = .ok (.ireturn, 1) := dk_172 (dk_at dksX1_undo_1 16 rfl rfl)
set_option maxHeartbeats 4000000 in
set_option maxRecDepth 100000 in
noncomputable def fn_X1_undo (l0 : Option Nat) (h : cz_H) : cz_Z := cz_getI h l0 [(0, 8)] (fun x1 => (if x1 = 0 then some (.inl (some (cz_i (-1))), h) else cz_getI h l0 [(0, 8)] (fun x2 => cz_put h l0 [(0, 8)] (cz_i (x2 - 1)) (fun h3 => cz_getR h3 l0 [(0, 4)] (fun r4 => cz_getR h3 l0 [(0, 7)] (fun r5 => cz_getI h3 l0 [(0, 8)] (fun x6 => cz_aald h3 r5 x6 (fun r7 => cz_rc h3 r4 [3] (cz_cR (fn_X3_as r4 r7 h3) (fun r15 h14 => cz_getI h14 l0 [(0, 8)] (fun x16 => some (.inl (some (cz_i x16)), h14))))))))))))
set_option maxHeartbeats 4000000 in
set_option maxRecDepth 100000 in
theorem wk_X1_undo {K : cz_K} {D : cz_D} {h0 : cz_H} {oh : cz_O × cz_H} {l0 : Option Nat} {h : cz_H} (S : cz_S K D h0 cX1_undo 1 "HeldCoats" ((Option.some Jvm.ClassFile.FieldType.int)) "undo" ([])) : cz_T K D 4 h0 oh 1 (fn_X1_undo l0 h) h 0 [(0, cz_r l0)] [] := by
  unfold fn_X1_undo
  refine ct_aload_n (k := 0) S dX1_undo_0 rfl rfl ?_
  refine ct_getI S fw_X1_105 dX1_undo_1 (fun x1 => ?_)
  refine ct_if_ne (tgt := 9) S dX1_undo_4 (by decide) ?_ ?_
  · refine ct_aload_n (k := 0) S dX1_undo_9 rfl rfl ?_
    refine ct_dup S dX1_undo_10 rfl ?_
    refine ct_getI S fw_X1_105 dX1_undo_11 (fun x2 => ?_)
    refine ct_iconst (v := 1) S dX1_undo_14 kI_1 ?_
    refine ct_isub S dX1_undo_15 ?_
    refine ct_put S fw_X1_105 fp_X1_m_0_8 (cz_fits_i pd_I) dX1_undo_16 (fun h3 => ?_)
    refine ct_aload_n (k := 0) S dX1_undo_19 rfl rfl ?_
    refine ct_getR S fw_X1_42 dX1_undo_20 (fun r4 => ?_)
    refine ct_aload_n (k := 0) S dX1_undo_23 rfl rfl ?_
    refine ct_getR S fw_X1_49 dX1_undo_24 (fun r5 => ?_)
    refine ct_aload_n (k := 0) S dX1_undo_27 rfl rfl ?_
    refine ct_getI S fw_X1_105 dX1_undo_28 (fun x6 => ?_)
    refine ct_aald S dX1_undo_31 (fun r7 => ?_)
    refine ct_rc (fun b8 ci9 V10 hb11 hc12 hi13 => ?_)
    refine ct_cR (st := []) (cg_virtual (av := [cz_r r7]) S hb11 hc12 hi13 (fun _ e => mt_X3_as e) md_X3_as q1190 q1191 se_HeldCoats_Reign_as__LHeldCoats_Reign__LHeldCoats_Reign__HeldCoats_Reign (by decide) (Nat.le_of_ble_eq_true rfl) rfl dX1_undo_32) (fun r15 h14 => ?_)
    refine ct_pop S dX1_undo_35 rfl ?_
    refine ct_aload_n (k := 0) S dX1_undo_36 rfl rfl ?_
    refine ct_getI S fw_X1_105 dX1_undo_37 (fun x16 => ?_)
    exact ct_iret S rfl dX1_undo_40
  · refine ct_iconst (v := (-1)) S dX1_undo_7 kI_m1 ?_
    exact ct_iret S rfl dX1_undo_8
theorem mt_X1_undo {l : Launch} {D : cz_D} {l0 : Option Nat} {h : cz_H} {oh : cz_O × cz_H} (hz : fn_X1_undo l0 h = some oh) : cz_M l D yX1_undo (ws_ yX1_undo cX1_undo 1 ((Option.some Jvm.ClassFile.FieldType.int))) 4 [cz_r l0] h oh := cz_met (plainFor_of_name (by decide)) (Nat.le_of_ble_eq_true rfl) hz (fun K hl S => wk_X1_undo S)
/-! HeldCoats.wear(II)I -/
def dkwX1_wear_1 : List UInt8 := [183, 0, 255, 182, 0, 250, 167, 0, 4, 2, 172]
abbrev dktX1_wear_1 : List UInt8 := dkwX1_wear_1 ++ []
def dkwX1_wear_0 : List UInt8 := [42, 27, 182, 0, 129, 153, 0, 27, 42, 28, 182, 0, 195, 153, 0, 19, 42, 187, 0, 253, 89, 28, 27]
abbrev dktX1_wear_0 : List UInt8 := dkwX1_wear_0 ++ dktX1_wear_1
theorem dksX1_wear_0 : cX1_wear.data.toList.drop 0 = dktX1_wear_0 := by decide +kernel
theorem dksX1_wear_1 : cX1_wear.data.toList.drop 23 = dktX1_wear_1 := dk_seg dksX1_wear_0 23 rfl rfl
theorem dX1_wear_0 : decode cX1_wear 0 = .ok (.aload_n 0, 1) := dk_42 (dk_at dksX1_wear_0 0 rfl rfl)
theorem dX1_wear_1 : decode cX1_wear 1 = .ok (.iload_n 1, 1) := dk_27 (dk_at dksX1_wear_0 1 rfl rfl)
theorem dX1_wear_2 : decode cX1_wear 2 = .ok (.invokevirtual 129, 3) := dk_182 0 129 (dk_at dksX1_wear_0 2 rfl rfl)
theorem dX1_wear_5 : decode cX1_wear 5 = .ok (.ifCond .eq 27, 3) := dk_153 0 27 (dk_at dksX1_wear_0 5 rfl rfl)
theorem dX1_wear_8 : decode cX1_wear 8 = .ok (.aload_n 0, 1) := dk_42 (dk_at dksX1_wear_0 8 rfl rfl)
theorem dX1_wear_9 : decode cX1_wear 9 = .ok (.iload_n 2, 1) := dk_28 (dk_at dksX1_wear_0 9 rfl rfl)
theorem dX1_wear_10 : decode cX1_wear 10 = .ok (.invokevirtual 195, 3) := dk_182 0 195 (dk_at dksX1_wear_0 10 rfl rfl)
theorem dX1_wear_13 : decode cX1_wear 13 = .ok (.ifCond .eq 19, 3) := dk_153 0 19 (dk_at dksX1_wear_0 13 rfl rfl)
theorem dX1_wear_16 : decode cX1_wear 16 = .ok (.aload_n 0, 1) := dk_42 (dk_at dksX1_wear_0 16 rfl rfl)
theorem dX1_wear_17 : decode cX1_wear 17 = .ok (.new 253, 3) := dk_187 0 253 (dk_at dksX1_wear_0 17 rfl rfl)
theorem dX1_wear_20 : decode cX1_wear 20 = .ok (.dup, 1) := dk_89 (dk_at dksX1_wear_0 20 rfl rfl)
theorem dX1_wear_21 : decode cX1_wear 21 = .ok (.iload_n 2, 1) := dk_28 (dk_at dksX1_wear_0 21 rfl rfl)
theorem dX1_wear_22 : decode cX1_wear 22 = .ok (.iload_n 1, 1) := dk_27 (dk_at dksX1_wear_0 22 rfl rfl)
theorem dX1_wear_23 : decode cX1_wear 23 = .ok (.invokespecial 255, 3) := dk_183 0 255 (dk_at dksX1_wear_1 0 rfl rfl)
theorem dX1_wear_26 : decode cX1_wear 26 = .ok (.invokevirtual 250, 3) := dk_182 0 250 (dk_at dksX1_wear_1 3 rfl rfl)
theorem dX1_wear_29 : decode cX1_wear 29 = .ok (.goto 4, 3) := dk_167 0 4 (dk_at dksX1_wear_1 6 rfl rfl)
theorem dX1_wear_32 : decode cX1_wear 32 = .ok (.iconst (-1), 1) := dk_2 (dk_at dksX1_wear_1 9 rfl rfl)
theorem dX1_wear_33 : decode cX1_wear 33 = .ok (.ireturn, 1) := dk_172 (dk_at dksX1_wear_1 10 rfl rfl)
set_option maxHeartbeats 4000000 in
set_option maxRecDepth 100000 in
noncomputable def fn_X1_wear (l0 : Option Nat) (l1 : Int32) (l2 : Int32) (h : cz_H) : cz_Z := cz_rc h l0 [0] (cz_cI (fn_X1_isMan l0 l1 h) (fun x8 h7 => (if x8 = 0 then some (.inl (some (cz_i (-1))), h7) else cz_rc h7 l0 [0] (cz_cI (fn_X1_isCoat l0 l2 h7) (fun x16 h15 => (if x16 = 0 then some (.inl (some (cz_i (-1))), h15) else cz_newo h15 13 2 (fun r17 h18 => cz_nn' r17 (cz_cV (fn_X18_init r17 l2 l1 h18) (fun h21 => cz_rc h21 l0 [0] (cz_cI (fn_X1_does l0 r17 h21) (fun x29 h28 => some (.inl (some (cz_i x29)), h28))))))))))))
set_option maxHeartbeats 4000000 in
set_option maxRecDepth 100000 in
theorem wk_X1_wear {K : cz_K} {D : cz_D} {h0 : cz_H} {oh : cz_O × cz_H} {l0 : Option Nat} {l1 : Int32} {l2 : Int32} {h : cz_H} (S : cz_S K D h0 cX1_wear 3 "HeldCoats" ((Option.some Jvm.ClassFile.FieldType.int)) "wear" ([])) : cz_T K D 13 h0 oh 3 (fn_X1_wear l0 l1 l2 h) h 0 [(0, cz_r l0), (1, cz_i l1), (2, cz_i l2)] [] := by
  unfold fn_X1_wear
  refine ct_aload_n (k := 0) S dX1_wear_0 rfl rfl ?_
  refine ct_iload_n (k := 1) S dX1_wear_1 rfl rfl ?_
  refine ct_rc (fun b1 ci2 V3 hb4 hc5 hi6 => ?_)
  refine ct_cI (st := []) (cg_virtual (av := [cz_i l1]) S hb4 hc5 hi6 (fun _ e => mt_X1_isMan e) md_X1_isMan q1309 q1311 se_HeldCoats_isMan__I_Z_HeldCoats (by decide) (Nat.le_of_ble_eq_true rfl) rfl dX1_wear_2) (fun x8 h7 => ?_)
  refine ct_if_eq (tgt := 32) S dX1_wear_5 (by decide) ?_ ?_
  · refine ct_iconst (v := (-1)) S dX1_wear_32 kI_m1 ?_
    exact ct_iret S rfl dX1_wear_33
  · refine ct_aload_n (k := 0) S dX1_wear_8 rfl rfl ?_
    refine ct_iload_n (k := 2) S dX1_wear_9 rfl rfl ?_
    refine ct_rc (fun b9 ci10 V11 hb12 hc13 hi14 => ?_)
    refine ct_cI (st := []) (cg_virtual (av := [cz_i l2]) S hb12 hc13 hi14 (fun _ e => mt_X1_isCoat e) md_X1_isCoat q1142 q1144 se_HeldCoats_isCoat__I_Z_HeldCoats (by decide) (Nat.le_of_ble_eq_true rfl) rfl dX1_wear_10) (fun x16 h15 => ?_)
    refine ct_if_eq (tgt := 32) S dX1_wear_13 (by decide) ?_ ?_
    · refine ct_iconst (v := (-1)) S dX1_wear_32 kI_m1 ?_
      exact ct_iret S rfl dX1_wear_33
    · refine ct_aload_n (k := 0) S dX1_wear_16 rfl rfl ?_
      refine ct_newo S (by decide) cz_cl13 q1317 dX1_wear_17 (fun r17 h18 => ?_)
      refine ct_dup S dX1_wear_20 rfl ?_
      refine ct_iload_n (k := 2) S dX1_wear_21 rfl rfl ?_
      refine ct_iload_n (k := 1) S dX1_wear_22 rfl rfl ?_
      refine ct_nn (fun b19 hb20 => ?_)
      refine ct_cV (st := [cz_r r17, cz_r l0]) (cg_init (av := [cz_i l2, cz_i l1]) S hb20 (fun _ e => mt_X18_init e) q1321 (Or.inl q1319) rfl q1320 q148 nh_HeldCoats_Wears__init___II_V (by decide) (by decide) (Nat.le_of_ble_eq_true rfl) rfl dX1_wear_23) (fun h21 => ?_)
      refine ct_rc (fun b22 ci23 V24 hb25 hc26 hi27 => ?_)
      refine ct_cI (st := []) (cg_virtual (av := [cz_r r17]) S hb25 hc26 hi27 (fun _ e => mt_X1_does e) md_X1_does q1186 q1188 se_HeldCoats_does__LHeldCoats_Act__I_HeldCoats (by decide) (Nat.le_of_ble_eq_true rfl) rfl dX1_wear_26) (fun x29 h28 => ?_)
      refine ct_goto (tgt := 33) S dX1_wear_29 (by decide) ?_
      exact ct_iret S rfl dX1_wear_33
theorem mt_X1_wear {l : Launch} {D : cz_D} {l0 : Option Nat} {l1 : Int32} {l2 : Int32} {h : cz_H} {oh : cz_O × cz_H} (hz : fn_X1_wear l0 l1 l2 h = some oh) : cz_M l D yX1_wear (ws_ yX1_wear cX1_wear 3 ((Option.some Jvm.ClassFile.FieldType.int))) 13 [cz_r l0, cz_i l1, cz_i l2] h oh := cz_met (plainFor_of_name (by decide)) (Nat.le_of_ble_eq_true rfl) hz (fun K hl S => wk_X1_wear S)
/-! HeldCoats.word(I)I -/
def dkwX1_word_3 : List UInt8 := [87, 132, 3, 1, 167, 255, 208, 28, 172]
abbrev dktX1_word_3 : List UInt8 := dkwX1_word_3 ++ []
def dkwX1_word_2 : List UInt8 := [182, 0, 219, 42, 180, 0, 46, 3, 182, 0, 219, 159, 0, 6, 132, 2, 1, 42, 180, 0, 46, 182, 1, 61]
abbrev dktX1_word_2 : List UInt8 := dkwX1_word_2 ++ dktX1_word_3
def dkwX1_word_1 : List UInt8 := [3, 61, 3, 62, 29, 27, 162, 0, 49, 42, 180, 0, 46, 182, 1, 7, 154, 0, 39, 42, 180, 0, 46, 4]
abbrev dktX1_word_1 : List UInt8 := dkwX1_word_1 ++ dktX1_word_2
def dkwX1_word_0 : List UInt8 := [27, 4, 16, 60, 184, 0, 162, 154, 0, 5, 2, 172, 42, 180, 0, 46, 42, 180, 0, 42, 182, 0, 232, 87]
abbrev dktX1_word_0 : List UInt8 := dkwX1_word_0 ++ dktX1_word_1
theorem dksX1_word_0 : cX1_word.data.toList.drop 0 = dktX1_word_0 := by decide +kernel
theorem dksX1_word_1 : cX1_word.data.toList.drop 24 = dktX1_word_1 := dk_seg dksX1_word_0 24 rfl rfl
theorem dksX1_word_2 : cX1_word.data.toList.drop 48 = dktX1_word_2 := dk_seg dksX1_word_1 24 rfl rfl
theorem dksX1_word_3 : cX1_word.data.toList.drop 72 = dktX1_word_3 := dk_seg dksX1_word_2 24 rfl rfl
theorem dX1_word_0 : decode cX1_word 0 = .ok (.iload_n 1, 1) := dk_27 (dk_at dksX1_word_0 0 rfl rfl)
theorem dX1_word_1 : decode cX1_word 1 = .ok (.iconst 1, 1) := dk_4 (dk_at dksX1_word_0 1 rfl rfl)
theorem dX1_word_2 : decode cX1_word 2 = .ok (.bipush 60, 2) := dk_16 60 (dk_at dksX1_word_0 2 rfl rfl)
theorem dX1_word_4 : decode cX1_word 4 = .ok (.invokestatic 162, 3) := dk_184 0 162 (dk_at dksX1_word_0 4 rfl rfl)
theorem dX1_word_7 : decode cX1_word 7 = .ok (.ifCond .ne 5, 3) := dk_154 0 5 (dk_at dksX1_word_0 7 rfl rfl)
theorem dX1_word_10 : decode cX1_word 10 = .ok (.iconst (-1), 1) := dk_2 (dk_at dksX1_word_0 10 rfl rfl)
theorem dX1_word_11 : decode cX1_word 11 = .ok (.ireturn, 1) := dk_172 (dk_at dksX1_word_0 11 rfl rfl)
theorem dX1_word_12 : decode cX1_word 12 = .ok (.aload_n 0, 1) := dk_42 (dk_at dksX1_word_0 12 rfl rfl)
theorem dX1_word_13 : decode cX1_word 13 = .ok (.getfield 46, 3) := dk_180 0 46 (dk_at dksX1_word_0 13 rfl rfl)
theorem dX1_word_16 : decode cX1_word 16 = .ok (.aload_n 0, 1) := dk_42 (dk_at dksX1_word_0 16 rfl rfl)
theorem dX1_word_17 : decode cX1_word 17 = .ok (.getfield 42, 3) := dk_180 0 42 (dk_at dksX1_word_0 17 rfl rfl)
theorem dX1_word_20 : decode cX1_word 20 = .ok (.invokevirtual 232, 3) := dk_182 0 232 (dk_at dksX1_word_0 20 rfl rfl)
theorem dX1_word_23 : decode cX1_word 23 = .ok (.pop, 1) := dk_87 (dk_at dksX1_word_0 23 rfl rfl)
theorem dX1_word_24 : decode cX1_word 24 = .ok (.iconst 0, 1) := dk_3 (dk_at dksX1_word_1 0 rfl rfl)
theorem dX1_word_25 : decode cX1_word 25 = .ok (.istore_n 2, 1) := dk_61 (dk_at dksX1_word_1 1 rfl rfl)
theorem dX1_word_26 : decode cX1_word 26 = .ok (.iconst 0, 1) := dk_3 (dk_at dksX1_word_1 2 rfl rfl)
theorem dX1_word_27 : decode cX1_word 27 = .ok (.istore_n 3, 1) := dk_62 (dk_at dksX1_word_1 3 rfl rfl)
theorem dX1_word_28 : decode cX1_word 28 = .ok (.iload_n 3, 1) := dk_29 (dk_at dksX1_word_1 4 rfl rfl)
theorem dX1_word_29 : decode cX1_word 29 = .ok (.iload_n 1, 1) := dk_27 (dk_at dksX1_word_1 5 rfl rfl)
theorem dX1_word_30 : decode cX1_word 30 = .ok (.if_icmp .ge 49, 3) := dk_162 0 49 (dk_at dksX1_word_1 6 rfl rfl)
theorem dX1_word_33 : decode cX1_word 33 = .ok (.aload_n 0, 1) := dk_42 (dk_at dksX1_word_1 9 rfl rfl)
theorem dX1_word_34 : decode cX1_word 34 = .ok (.getfield 46, 3) := dk_180 0 46 (dk_at dksX1_word_1 10 rfl rfl)
theorem dX1_word_37 : decode cX1_word 37 = .ok (.invokevirtual 263, 3) := dk_182 1 7 (dk_at dksX1_word_1 13 rfl rfl)
theorem dX1_word_40 : decode cX1_word 40 = .ok (.ifCond .ne 39, 3) := dk_154 0 39 (dk_at dksX1_word_1 16 rfl rfl)
theorem dX1_word_43 : decode cX1_word 43 = .ok (.aload_n 0, 1) := dk_42 (dk_at dksX1_word_1 19 rfl rfl)
theorem dX1_word_44 : decode cX1_word 44 = .ok (.getfield 46, 3) := dk_180 0 46 (dk_at dksX1_word_1 20 rfl rfl)
theorem dX1_word_47 : decode cX1_word 47 = .ok (.iconst 1, 1) := dk_4 (dk_at dksX1_word_1 23 rfl rfl)
theorem dX1_word_48 : decode cX1_word 48 = .ok (.invokevirtual 219, 3) := dk_182 0 219 (dk_at dksX1_word_2 0 rfl rfl)
theorem dX1_word_51 : decode cX1_word 51 = .ok (.aload_n 0, 1) := dk_42 (dk_at dksX1_word_2 3 rfl rfl)
theorem dX1_word_52 : decode cX1_word 52 = .ok (.getfield 46, 3) := dk_180 0 46 (dk_at dksX1_word_2 4 rfl rfl)
theorem dX1_word_55 : decode cX1_word 55 = .ok (.iconst 0, 1) := dk_3 (dk_at dksX1_word_2 7 rfl rfl)
theorem dX1_word_56 : decode cX1_word 56 = .ok (.invokevirtual 219, 3) := dk_182 0 219 (dk_at dksX1_word_2 8 rfl rfl)
theorem dX1_word_59 : decode cX1_word 59 = .ok (.if_icmp .eq 6, 3) := dk_159 0 6 (dk_at dksX1_word_2 11 rfl rfl)
theorem dX1_word_62 : decode cX1_word 62 = .ok (.iinc 2 1, 3) := dk_132 2 1 (dk_at dksX1_word_2 14 rfl rfl)
theorem dX1_word_65 : decode cX1_word 65 = .ok (.aload_n 0, 1) := dk_42 (dk_at dksX1_word_2 17 rfl rfl)
theorem dX1_word_66 : decode cX1_word 66 = .ok (.getfield 46, 3) := dk_180 0 46 (dk_at dksX1_word_2 18 rfl rfl)
theorem dX1_word_69 : decode cX1_word 69 = .ok (.invokevirtual 317, 3) := dk_182 1 61 (dk_at dksX1_word_2 21 rfl rfl)
theorem dX1_word_72 : decode cX1_word 72 = .ok (.pop, 1) := dk_87 (dk_at dksX1_word_3 0 rfl rfl)
theorem dX1_word_73 : decode cX1_word 73 = .ok (.iinc 3 1, 3) := dk_132 3 1 (dk_at dksX1_word_3 1 rfl rfl)
theorem dX1_word_76 : decode cX1_word 76 = .ok (.goto (-48), 3) := dk_167 255 208 (dk_at dksX1_word_3 4 rfl rfl)
theorem dX1_word_79 : decode cX1_word 79 = .ok (.iload_n 2, 1) := dk_28 (dk_at dksX1_word_3 7 rfl rfl)
theorem dX1_word_80 : decode cX1_word 80 = .ok (.ireturn, 1) := dk_172 (dk_at dksX1_word_3 8 rfl rfl)
set_option maxHeartbeats 4000000 in
set_option maxRecDepth 100000 in
noncomputable def fn_X1_word_28 (l0 : Option Nat) (l1 : Int32) (k0 : Int32 → cz_H → cz_Z) : Nat → Int32 → Int32 → cz_H → cz_Z
  | 0, _, _, _ => none
  | n + 1, l2, l3, h => (if l1 ≤ l3 then k0 l2 h else cz_getR h l0 [(0, 5)] (fun r13 => cz_rc h r13 [3] (cz_cI (fn_X3_isOver r13 h) (fun x21 h20 => (if x21 = 0 then cz_getR h20 l0 [(0, 5)] (fun r22 => cz_rc h20 r22 [3] (cz_cI (fn_X3_ruler r22 1 h20) (fun x30 h29 => cz_getR h29 l0 [(0, 5)] (fun r31 => cz_rc h29 r31 [3] (cz_cI (fn_X3_ruler r31 0 h29) (fun x39 h38 => (if x30 = x39 then cz_getR h38 l0 [(0, 5)] (fun r40 => cz_rc h38 r40 [3] (cz_cI (fn_X3_pass r40 h38) (fun x48 h47 => cz_leti (l3 + 1) (fun x49 => fn_X1_word_28 l0 l1 k0 n l2 x49 h47)))) else cz_leti (l2 + 1) (fun x50 => cz_getR h38 l0 [(0, 5)] (fun r51 => cz_rc h38 r51 [3] (cz_cI (fn_X3_pass r51 h38) (fun x59 h58 => cz_leti (l3 + 1) (fun x60 => fn_X1_word_28 l0 l1 k0 n x50 x60 h58)))))))))))) else k0 l2 h20)))))
set_option maxHeartbeats 4000000 in
set_option maxRecDepth 100000 in
theorem wk_X1_word_28 {K : cz_K} {D : cz_D} {h0 : cz_H} {oh : cz_O × cz_H} {l0 : Option Nat} {l1 : Int32} {k0 : Int32 → cz_H → cz_Z} (S : cz_S K D h0 cX1_word 4 "HeldCoats" ((Option.some Jvm.ClassFile.FieldType.int)) "word" ([])) (hk0 : ∀ (e2 : Int32) (h : cz_H), cz_T K D 10 h0 oh 4 (k0 e2 h) h 79 [(2, cz_i e2)] []) : ∀ (n : Nat) (l2 : Int32) (l3 : Int32) (h : cz_H), cz_T K D 10 h0 oh 4 (fn_X1_word_28 l0 l1 k0 n l2 l3 h) h 28 [(0, cz_r l0), (1, cz_i l1), (2, cz_i l2), (3, cz_i l3)] [] := by
  intro n
  induction n with
  | zero => intros; exact ct_none
  | succ n ih =>
    intro l2 l3 h
    rw [fn_X1_word_28]
    refine ct_iload_n (k := 3) S dX1_word_28 rfl rfl ?_
    refine ct_iload_n (k := 1) S dX1_word_29 rfl rfl ?_
    refine ct_icmp_ge (tgt := 79) S dX1_word_30 (by decide) ?_ ?_
    · exact ct_sub [2] rfl (hk0 l2 h)
    · refine ct_aload_n (k := 0) S dX1_word_33 rfl rfl ?_
      refine ct_getR S fw_X1_46 dX1_word_34 (fun r13 => ?_)
      refine ct_rc (fun b14 ci15 V16 hb17 hc18 hi19 => ?_)
      refine ct_cI (st := []) (cg_virtual (av := []) S hb17 hc18 hi19 (fun _ e => mt_X3_isOver e) md_X3_isOver q1356 q1213 se_HeldCoats_Reign_isOver___Z_HeldCoats_Reign (by decide) (Nat.le_of_ble_eq_true rfl) rfl dX1_word_37) (fun x21 h20 => ?_)
      refine ct_if_ne (tgt := 79) S dX1_word_40 (by decide) ?_ ?_
      · exact ct_sub [2] rfl (hk0 l2 h20)
      · refine ct_aload_n (k := 0) S dX1_word_43 rfl rfl ?_
        refine ct_getR S fw_X1_46 dX1_word_44 (fun r22 => ?_)
        refine ct_iconst (v := 1) S dX1_word_47 kI_1 ?_
        refine ct_rc (fun b23 ci24 V25 hb26 hc27 hi28 => ?_)
        refine ct_cI (st := []) (cg_virtual (av := [cz_i 1]) S hb26 hc27 hi28 (fun _ e => mt_X3_ruler e) md_X3_ruler q1124 q1125 se_HeldCoats_Reign_ruler__Z_I_HeldCoats_Reign (by decide) (Nat.le_of_ble_eq_true rfl) rfl dX1_word_48) (fun x30 h29 => ?_)
        refine ct_aload_n (k := 0) S dX1_word_51 rfl rfl ?_
        refine ct_getR S fw_X1_46 dX1_word_52 (fun r31 => ?_)
        refine ct_iconst (v := 0) S dX1_word_55 kI_0 ?_
        refine ct_rc (fun b32 ci33 V34 hb35 hc36 hi37 => ?_)
        refine ct_cI (st := [cz_i x30]) (cg_virtual (av := [cz_i 0]) S hb35 hc36 hi37 (fun _ e => mt_X3_ruler e) md_X3_ruler q1124 q1125 se_HeldCoats_Reign_ruler__Z_I_HeldCoats_Reign (by decide) (Nat.le_of_ble_eq_true rfl) rfl dX1_word_56) (fun x39 h38 => ?_)
        refine ct_icmp_eq (tgt := 65) S dX1_word_59 (by decide) ?_ ?_
        · refine ct_aload_n (k := 0) S dX1_word_65 rfl rfl ?_
          refine ct_getR S fw_X1_46 dX1_word_66 (fun r40 => ?_)
          refine ct_rc (fun b41 ci42 V43 hb44 hc45 hi46 => ?_)
          refine ct_cI (st := []) (cg_virtual (av := []) S hb44 hc45 hi46 (fun _ e => mt_X3_pass e) md_X3_pass q1444 q1209 se_HeldCoats_Reign_pass___Z_HeldCoats_Reign (by decide) (Nat.le_of_ble_eq_true rfl) rfl dX1_word_69) (fun x48 h47 => ?_)
          refine ct_pop S dX1_word_72 rfl ?_
          refine ct_iincL (j := 3) (L2 := fun x49 => [(3, cz_i x49), (0, cz_r l0), (1, cz_i l1), (2, cz_i l2)]) S dX1_word_73 rfl kI_1 (by decide) (fun _ => rfl) (fun x49 => ?_)
          refine ct_goto (tgt := 28) S dX1_word_76 (by decide) ?_
          exact ct_sub [1, 2, 3, 0] rfl (ih l2 x49 h47)
        · refine ct_iincL (j := 2) (L2 := fun x50 => [(2, cz_i x50), (0, cz_r l0), (1, cz_i l1), (3, cz_i l3)]) S dX1_word_62 rfl kI_1 (by decide) (fun _ => rfl) (fun x50 => ?_)
          refine ct_aload_n (k := 1) S dX1_word_65 rfl rfl ?_
          refine ct_getR S fw_X1_46 dX1_word_66 (fun r51 => ?_)
          refine ct_rc (fun b52 ci53 V54 hb55 hc56 hi57 => ?_)
          refine ct_cI (st := []) (cg_virtual (av := []) S hb55 hc56 hi57 (fun _ e => mt_X3_pass e) md_X3_pass q1444 q1209 se_HeldCoats_Reign_pass___Z_HeldCoats_Reign (by decide) (Nat.le_of_ble_eq_true rfl) rfl dX1_word_69) (fun x59 h58 => ?_)
          refine ct_pop S dX1_word_72 rfl ?_
          refine ct_iincL (j := 3) (L2 := fun x60 => [(3, cz_i x60), (2, cz_i x50), (0, cz_r l0), (1, cz_i l1)]) S dX1_word_73 rfl kI_1 (by decide) (fun _ => rfl) (fun x60 => ?_)
          refine ct_goto (tgt := 28) S dX1_word_76 (by decide) ?_
          exact ct_sub [2, 3, 1, 0] rfl (ih x50 x60 h58)
set_option maxHeartbeats 4000000 in
set_option maxRecDepth 100000 in
noncomputable def fn_X1_word (l0 : Option Nat) (l1 : Int32) (h : cz_H) : cz_Z := cz_cI (fn_X1_isIn l1 1 60 h) (fun x2 h1 => (if x2 = 0 then some (.inl (some (cz_i (-1))), h1) else cz_getR h1 l0 [(0, 5)] (fun r3 => cz_getR h1 l0 [(0, 4)] (fun r4 => cz_rc h1 r3 [3] (cz_cR (fn_X3_as r3 r4 h1) (fun r12 h11 => fn_X1_word_28 l0 l1 (fun (e61 : Int32) (h62 : cz_H) => some (.inl (some (cz_i e61)), h62)) 1000 0 0 h11))))))
set_option maxHeartbeats 4000000 in
set_option maxRecDepth 100000 in
theorem wk_X1_word {K : cz_K} {D : cz_D} {h0 : cz_H} {oh : cz_O × cz_H} {l0 : Option Nat} {l1 : Int32} {h : cz_H} (S : cz_S K D h0 cX1_word 4 "HeldCoats" ((Option.some Jvm.ClassFile.FieldType.int)) "word" ([])) : cz_T K D 10 h0 oh 4 (fn_X1_word l0 l1 h) h 0 [(0, cz_r l0), (1, cz_i l1)] [] := by
  unfold fn_X1_word
  refine ct_iload_n (k := 1) S dX1_word_0 rfl rfl ?_
  refine ct_iconst (v := 1) S dX1_word_1 kI_1 ?_
  refine ct_bipush (v := 60) S dX1_word_2 kB_60 ?_
  refine ct_cI (st := []) (cg_static (av := [cz_i l1, cz_i 1, cz_i 60]) S (fun _ e => mt_X1_isIn e) md_X1_isIn (Or.inl q1355) q929 (by decide) (Nat.le_of_ble_eq_true rfl) rfl dX1_word_4) (fun x2 h1 => ?_)
  refine ct_if_ne (tgt := 12) S dX1_word_7 (by decide) ?_ ?_
  · refine ct_aload_n (k := 0) S dX1_word_12 rfl rfl ?_
    refine ct_getR S fw_X1_46 dX1_word_13 (fun r3 => ?_)
    refine ct_aload_n (k := 0) S dX1_word_16 rfl rfl ?_
    refine ct_getR S fw_X1_42 dX1_word_17 (fun r4 => ?_)
    refine ct_rc (fun b5 ci6 V7 hb8 hc9 hi10 => ?_)
    refine ct_cR (st := []) (cg_virtual (av := [cz_r r4]) S hb8 hc9 hi10 (fun _ e => mt_X3_as e) md_X3_as q1190 q1191 se_HeldCoats_Reign_as__LHeldCoats_Reign__LHeldCoats_Reign__HeldCoats_Reign (by decide) (Nat.le_of_ble_eq_true rfl) rfl dX1_word_20) (fun r12 h11 => ?_)
    refine ct_pop S dX1_word_23 rfl ?_
    refine ct_iconst (v := 0) S dX1_word_24 kI_0 ?_
    refine ct_istore_n (L' := [(2, cz_i 0), (0, cz_r l0), (1, cz_i l1)]) S dX1_word_25 rfl (by decide) rfl ?_
    refine ct_iconst (v := 0) S dX1_word_26 kI_0 ?_
    refine ct_istore_n (L' := [(3, cz_i 0), (2, cz_i 0), (0, cz_r l0), (1, cz_i l1)]) S dX1_word_27 rfl (by decide) rfl ?_
    refine ct_sub [2, 3, 1, 0] (L' := [(0, cz_r l0), (1, cz_i l1), (2, cz_i 0), (3, cz_i 0)]) rfl (wk_X1_word_28 S ?_ 1000 0 0 h11)
    · intro e61 h62
      refine ct_iload_n (k := 0) S dX1_word_79 rfl rfl ?_
      exact ct_iret S rfl dX1_word_80
  · refine ct_iconst (v := (-1)) S dX1_word_10 kI_m1 ?_
    exact ct_iret S rfl dX1_word_11
theorem mt_X1_word {l : Launch} {D : cz_D} {l0 : Option Nat} {l1 : Int32} {h : cz_H} {oh : cz_O × cz_H} (hz : fn_X1_word l0 l1 h = some oh) : cz_M l D yX1_word (ws_ yX1_word cX1_word 4 ((Option.some Jvm.ClassFile.FieldType.int))) 10 [cz_r l0, cz_i l1] h oh := cz_met (plainFor_of_name (by decide)) (Nat.le_of_ble_eq_true rfl) hz (fun K hl S => wk_X1_word S)
/-! HeldCoatsLaw.law([I)Z -/
def dkwL_law_53 : List UInt8 := [182, 0, 195, 159, 0, 5, 3, 172, 132, 4, 6, 167, 250, 153, 4, 172]
abbrev dktL_law_53 : List UInt8 := dkwL_law_53 ++ []
def dkwL_law_52 : List UInt8 := [159, 0, 30, 3, 172, 43, 42, 21, 4, 4, 96, 46, 182, 0, 192, 44, 42, 21, 4, 4, 96, 46]
abbrev dktL_law_52 : List UInt8 := dkwL_law_52 ++ dktL_law_53
def dkwL_law_51 : List UInt8 := [3, 172, 43, 42, 21, 4, 4, 96, 46, 182, 0, 188, 44, 42, 21, 4, 4, 96, 46, 182, 0, 191]
abbrev dktL_law_51 : List UInt8 := dkwL_law_51 ++ dktL_law_52
def dkwL_law_50 : List UInt8 := [172, 43, 42, 21, 4, 4, 96, 46, 182, 0, 184, 44, 42, 21, 4, 4, 96, 46, 182, 0, 187, 159, 0, 55]
abbrev dktL_law_50 : List UInt8 := dkwL_law_50 ++ dktL_law_51
def dkwL_law_49 : List UInt8 := [43, 42, 21, 4, 4, 96, 46, 182, 0, 180, 44, 42, 21, 4, 4, 96, 46, 182, 0, 183, 159, 0, 80, 3]
abbrev dktL_law_49 : List UInt8 := dkwL_law_49 ++ dktL_law_50
def dkwL_law_48 : List UInt8 := [4, 96, 46, 182, 0, 175, 159, 0, 118, 3, 172, 43, 182, 0, 176, 44, 182, 0, 179, 159, 0, 105, 3, 172]
abbrev dktL_law_48 : List UInt8 := dkwL_law_48 ++ dktL_law_49
def dkwL_law_47 : List UInt8 := [96, 46, 182, 0, 171, 159, 0, 143, 3, 172, 43, 42, 21, 4, 4, 96, 46, 182, 0, 172, 44, 42, 21, 4]
abbrev dktL_law_47 : List UInt8 := dkwL_law_47 ++ dktL_law_48
def dkwL_law_46 : List UInt8 := [46, 182, 0, 167, 159, 0, 168, 3, 172, 43, 42, 21, 4, 4, 96, 46, 182, 0, 168, 44, 42, 21, 4, 4]
abbrev dktL_law_46 : List UInt8 := dkwL_law_46 ++ dktL_law_47
def dkwL_law_45 : List UInt8 := [6, 96, 46, 182, 0, 163, 44, 42, 21, 4, 4, 96, 46, 42, 21, 4, 5, 96, 46, 42, 21, 4, 6, 96]
abbrev dktL_law_45 : List UInt8 := dkwL_law_45 ++ dktL_law_46
def dkwL_law_44 : List UInt8 := [182, 0, 162, 159, 0, 217, 3, 172, 43, 42, 21, 4, 4, 96, 46, 42, 21, 4, 5, 96, 46, 42, 21, 4]
abbrev dktL_law_44 : List UInt8 := dkwL_law_44 ++ dktL_law_45
def dkwL_law_43 : List UInt8 := [46, 42, 21, 4, 5, 96, 46, 182, 0, 159, 44, 42, 21, 4, 4, 96, 46, 42, 21, 4, 5, 96, 46]
abbrev dktL_law_43 : List UInt8 := dkwL_law_43 ++ dktL_law_44
def dkwL_law_42 : List UInt8 := [159, 1, 11, 3, 172, 43, 182, 0, 155, 44, 182, 0, 158, 159, 0, 254, 3, 172, 43, 42, 21, 4, 4, 96]
abbrev dktL_law_42 : List UInt8 := dkwL_law_42 ++ dktL_law_43
def dkwL_law_41 : List UInt8 := [172, 43, 182, 0, 147, 44, 182, 0, 150, 159, 1, 24, 3, 172, 43, 182, 0, 151, 44, 182, 0, 154]
abbrev dktL_law_41 : List UInt8 := dkwL_law_41 ++ dktL_law_42
def dkwL_law_40 : List UInt8 := [182, 0, 139, 44, 182, 0, 142, 159, 1, 50, 3, 172, 43, 182, 0, 143, 44, 182, 0, 146, 159, 1, 37, 3]
abbrev dktL_law_40 : List UInt8 := dkwL_law_40 ++ dktL_law_41
def dkwL_law_39 : List UInt8 := [44, 42, 21, 4, 4, 96, 46, 42, 21, 4, 5, 96, 46, 182, 0, 138, 159, 1, 63, 3, 172, 43]
abbrev dktL_law_39 : List UInt8 := dkwL_law_39 ++ dktL_law_40
def dkwL_law_38 : List UInt8 := [182, 0, 134, 159, 1, 100, 3, 172, 43, 42, 21, 4, 4, 96, 46, 42, 21, 4, 5, 96, 46, 182, 0, 135]
abbrev dktL_law_38 : List UInt8 := dkwL_law_38 ++ dktL_law_39
def dkwL_law_37 : List UInt8 := [159, 1, 125, 3, 172, 43, 42, 21, 4, 4, 96, 46, 182, 0, 131, 44, 42, 21, 4, 4, 96, 46]
abbrev dktL_law_37 : List UInt8 := dkwL_law_37 ++ dktL_law_38
def dkwL_law_36 : List UInt8 := [42, 21, 4, 4, 96, 46, 182, 0, 126, 159, 1, 138, 3, 172, 43, 182, 0, 127, 44, 182, 0, 130]
abbrev dktL_law_36 : List UInt8 := dkwL_law_36 ++ dktL_law_37
def dkwL_law_35 : List UInt8 := [21, 4, 5, 96, 46, 182, 0, 122, 159, 1, 163, 3, 172, 43, 42, 21, 4, 4, 96, 46, 182, 0, 123, 44]
abbrev dktL_law_35 : List UInt8 := dkwL_law_35 ++ dktL_law_36
def dkwL_law_34 : List UInt8 := [43, 42, 21, 4, 4, 96, 46, 42, 21, 4, 5, 96, 46, 182, 0, 119, 44, 42, 21, 4, 4, 96, 46, 42]
abbrev dktL_law_34 : List UInt8 := dkwL_law_34 ++ dktL_law_35
def dkwL_law_33 : List UInt8 := [182, 0, 115, 44, 42, 21, 4, 4, 96, 46, 42, 21, 4, 5, 96, 46, 182, 0, 118, 159, 1, 200, 3, 172]
abbrev dktL_law_33 : List UInt8 := dkwL_law_33 ++ dktL_law_34
def dkwL_law_32 : List UInt8 := [46, 182, 0, 114, 159, 1, 237, 3, 172, 43, 42, 21, 4, 4, 96, 46, 42, 21, 4, 5, 96, 46]
abbrev dktL_law_32 : List UInt8 := dkwL_law_32 ++ dktL_law_33
def dkwL_law_31 : List UInt8 := [182, 0, 110, 159, 2, 6, 3, 172, 43, 42, 21, 4, 4, 96, 46, 182, 0, 111, 44, 42, 21, 4, 4, 96]
abbrev dktL_law_31 : List UInt8 := dkwL_law_31 ++ dktL_law_32
def dkwL_law_30 : List UInt8 := [159, 2, 31, 3, 172, 43, 42, 21, 4, 4, 96, 46, 182, 0, 107, 44, 42, 21, 4, 4, 96, 46]
abbrev dktL_law_30 : List UInt8 := dkwL_law_30 ++ dktL_law_31
def dkwL_law_29 : List UInt8 := [3, 172, 43, 42, 21, 4, 4, 96, 46, 182, 0, 103, 44, 42, 21, 4, 4, 96, 46, 182, 0, 106]
abbrev dktL_law_29 : List UInt8 := dkwL_law_29 ++ dktL_law_30
def dkwL_law_28 : List UInt8 := [21, 4, 7, 96, 46, 182, 0, 98, 159, 2, 69, 3, 172, 43, 182, 0, 99, 44, 182, 0, 102, 159, 2, 56]
abbrev dktL_law_28 : List UInt8 := dkwL_law_28 ++ dktL_law_29
def dkwL_law_27 : List UInt8 := [46, 182, 0, 94, 44, 42, 21, 4, 4, 96, 46, 42, 21, 4, 5, 96, 46, 42, 21, 4, 6, 96, 46, 42]
abbrev dktL_law_27 : List UInt8 := dkwL_law_27 ++ dktL_law_28
def dkwL_law_26 : List UInt8 := [43, 42, 21, 4, 4, 96, 46, 42, 21, 4, 5, 96, 46, 42, 21, 4, 6, 96, 46, 42, 21, 4, 7, 96]
abbrev dktL_law_26 : List UInt8 := dkwL_law_26 ++ dktL_law_27
def dkwL_law_25 : List UInt8 := [5, 96, 46, 182, 0, 89, 159, 2, 143, 3, 172, 43, 182, 0, 90, 44, 182, 0, 93, 159, 2, 130, 3, 172]
abbrev dktL_law_25 : List UInt8 := dkwL_law_25 ++ dktL_law_26
def dkwL_law_24 : List UInt8 := [21, 4, 4, 96, 46, 42, 21, 4, 5, 96, 46, 182, 0, 86, 44, 42, 21, 4, 4, 96, 46, 42, 21, 4]
abbrev dktL_law_24 : List UInt8 := dkwL_law_24 ++ dktL_law_25
def dkwL_law_23 : List UInt8 := [46, 182, 0, 81, 159, 2, 193, 3, 172, 43, 182, 0, 82, 44, 182, 0, 85, 159, 2, 180, 3, 172, 43, 42]
abbrev dktL_law_23 : List UInt8 := dkwL_law_23 ++ dktL_law_24
def dkwL_law_22 : List UInt8 := [182, 0, 77, 159, 2, 218, 3, 172, 43, 42, 21, 4, 4, 96, 46, 182, 0, 78, 44, 42, 21, 4, 4, 96]
abbrev dktL_law_22 : List UInt8 := dkwL_law_22 ++ dktL_law_23
def dkwL_law_21 : List UInt8 := [159, 2, 243, 3, 172, 43, 42, 21, 4, 4, 96, 46, 182, 0, 74, 44, 42, 21, 4, 4, 96, 46]
abbrev dktL_law_21 : List UInt8 := dkwL_law_21 ++ dktL_law_22
def dkwL_law_20 : List UInt8 := [21, 4, 5, 96, 46, 182, 0, 70, 44, 42, 21, 4, 4, 96, 46, 42, 21, 4, 5, 96, 46, 182, 0, 73]
abbrev dktL_law_20 : List UInt8 := dkwL_law_20 ++ dktL_law_21
def dkwL_law_19 : List UInt8 := [46, 42, 21, 4, 5, 96, 46, 182, 0, 69, 159, 3, 24, 3, 172, 43, 42, 21, 4, 4, 96, 46, 42]
abbrev dktL_law_19 : List UInt8 := dkwL_law_19 ++ dktL_law_20
def dkwL_law_18 : List UInt8 := [3, 172, 43, 42, 21, 4, 4, 96, 46, 42, 21, 4, 5, 96, 46, 182, 0, 66, 44, 42, 21, 4, 4, 96]
abbrev dktL_law_18 : List UInt8 := dkwL_law_18 ++ dktL_law_19
def dkwL_law_17 : List UInt8 := [96, 46, 182, 0, 62, 44, 42, 21, 4, 4, 96, 46, 42, 21, 4, 5, 96, 46, 182, 0, 65, 159, 3, 61]
abbrev dktL_law_17 : List UInt8 := dkwL_law_17 ++ dktL_law_18
def dkwL_law_16 : List UInt8 := [21, 4, 4, 96, 46, 182, 0, 61, 159, 3, 98, 3, 172, 43, 42, 21, 4, 4, 96, 46, 42, 21, 4, 5]
abbrev dktL_law_16 : List UInt8 := dkwL_law_16 ++ dktL_law_17
def dkwL_law_15 : List UInt8 := [21, 6, 133, 148, 153, 0, 5, 3, 172, 167, 3, 121, 43, 42, 21, 4, 4, 96, 46, 182, 0, 57, 44, 42]
abbrev dktL_law_15 : List UInt8 := dkwL_law_15 ++ dktL_law_16
def dkwL_law_14 : List UInt8 := [182, 0, 56, 54, 6, 44, 182, 0, 51, 21, 5, 159, 0, 5, 3, 172, 21, 5, 154, 0, 15, 45, 3, 47]
abbrev dktL_law_14 : List UInt8 := dkwL_law_14 ++ dktL_law_15
def dkwL_law_13 : List UInt8 := [21, 4, 5, 96, 46, 45, 184, 0, 54, 54, 5, 44, 42, 21, 4, 4, 96, 46, 42, 21, 4, 5, 96, 46]
abbrev dktL_law_13 : List UInt8 := dkwL_law_13 ++ dktL_law_14
def dkwL_law_12 : List UInt8 := [45, 3, 47, 21, 6, 133, 148, 153, 0, 5, 3, 172, 167, 3, 189, 43, 42, 21, 4, 4, 96, 46, 42]
abbrev dktL_law_12 : List UInt8 := dkwL_law_12 ++ dktL_law_13
def dkwL_law_11 : List UInt8 := [5, 96, 46, 182, 0, 50, 54, 6, 44, 182, 0, 51, 21, 5, 159, 0, 5, 3, 172, 21, 5, 154, 0, 15]
abbrev dktL_law_11 : List UInt8 := dkwL_law_11 ++ dktL_law_12
def dkwL_law_10 : List UInt8 := [96, 46, 42, 21, 4, 5, 96, 46, 45, 184, 0, 45, 54, 5, 44, 42, 21, 4, 4, 96, 46, 42, 21, 4]
abbrev dktL_law_10 : List UInt8 := dkwL_law_10 ++ dktL_law_11
def dkwL_law_9 : List UInt8 := [21, 4, 4, 96, 46, 42, 21, 4, 5, 96, 46, 182, 0, 44, 159, 4, 3, 3, 172, 43, 42, 21, 4, 4]
abbrev dktL_law_9 : List UInt8 := dkwL_law_9 ++ dktL_law_10
def dkwL_law_8 : List UInt8 := [159, 4, 40, 3, 172, 43, 42, 21, 4, 4, 96, 46, 42, 21, 4, 5, 96, 46, 182, 0, 41, 44, 42]
abbrev dktL_law_8 : List UInt8 := dkwL_law_8 ++ dktL_law_9
def dkwL_law_7 : List UInt8 := [3, 172, 43, 182, 0, 32, 44, 182, 0, 36, 159, 4, 53, 3, 172, 43, 182, 0, 37, 44, 182, 0, 40]
abbrev dktL_law_7 : List UInt8 := dkwL_law_7 ++ dktL_law_8
def dkwL_law_6 : List UInt8 := [172, 43, 42, 21, 4, 4, 96, 46, 182, 0, 27, 44, 42, 21, 4, 4, 96, 46, 182, 0, 31, 159, 4, 66]
abbrev dktL_law_6 : List UInt8 := dkwL_law_6 ++ dktL_law_7
def dkwL_law_5 : List UInt8 := [21, 4, 6, 96, 46, 42, 21, 4, 7, 96, 46, 42, 21, 4, 8, 96, 46, 182, 0, 26, 159, 4, 91, 3]
abbrev dktL_law_5 : List UInt8 := dkwL_law_5 ++ dktL_law_6
def dkwL_law_4 : List UInt8 := [46, 42, 21, 4, 8, 96, 46, 182, 0, 22, 44, 42, 21, 4, 4, 96, 46, 42, 21, 4, 5, 96, 46, 42]
abbrev dktL_law_4 : List UInt8 := dkwL_law_4 ++ dktL_law_5
def dkwL_law_3 : List UInt8 := [43, 42, 21, 4, 4, 96, 46, 42, 21, 4, 5, 96, 46, 42, 21, 4, 6, 96, 46, 42, 21, 4, 7, 96]
abbrev dktL_law_3 : List UInt8 := dkwL_law_3 ++ dktL_law_4
def dkwL_law_2 : List UInt8 := [170, 0, 0, 0, 0, 0, 5, 83, 0, 0, 0, 0, 0, 0, 0, 40, 0, 0, 0, 180, 0, 0, 0, 253, 0, 0, 1, 22, 0, 0, 1, 35, 0, 0, 1, 48, 0, 0, 1, 85, 0, 0, 1, 153, 0, 0, 1, 221, 0, 0, 1, 246, 0, 0, 2, 27, 0, 0, 2, 64, 0, 0, 2, 101, 0, 0, 2, 126, 0, 0, 2, 151, 0, 0, 2, 164, 0, 0, 2, 201, 0, 0, 2, 214, 0, 0, 3, 19, 0, 0, 3, 32, 0, 0, 3, 57, 0, 0, 3, 82, 0, 0, 3, 107, 0, 0, 3, 144, 0, 0, 3, 181, 0, 0, 3, 206, 0, 0, 3, 219, 0, 0, 3, 244, 0, 0, 4, 25, 0, 0, 4, 38, 0, 0, 4, 51, 0, 0, 4, 64, 0, 0, 4, 77, 0, 0, 4, 90, 0, 0, 4, 127, 0, 0, 4, 176, 0, 0, 4, 201, 0, 0, 4, 226, 0, 0, 4, 239, 0, 0, 5, 8, 0, 0, 5, 33, 0, 0, 5, 58]
abbrev dktL_law_2 : List UInt8 := dkwL_law_2 ++ dktL_law_3
def dkwL_law_1 : List UInt8 := [21, 4, 42, 190, 16, 6, 100, 163, 5, 99, 42, 21, 4, 46, 16, 63, 126]
abbrev dktL_law_1 : List UInt8 := dkwL_law_1 ++ dktL_law_2
def dkwL_law_0 : List UInt8 := [187, 0, 8, 89, 183, 0, 18, 76, 187, 0, 19, 89, 183, 0, 21, 77, 4, 188, 11, 78, 3, 54, 4]
abbrev dktL_law_0 : List UInt8 := dkwL_law_0 ++ dktL_law_1
theorem dksL_law_0 : cL_law.data.toList.drop 0 = dktL_law_0 := by decide +kernel
theorem dksL_law_1 : cL_law.data.toList.drop 23 = dktL_law_1 := dk_seg dksL_law_0 23 rfl rfl
theorem dksL_law_2 : cL_law.data.toList.drop 40 = dktL_law_2 := dk_seg dksL_law_1 17 rfl rfl
theorem dksL_law_3 : cL_law.data.toList.drop 220 = dktL_law_3 := dk_seg dksL_law_2 180 rfl rfl
theorem dksL_law_4 : cL_law.data.toList.drop 244 = dktL_law_4 := dk_seg dksL_law_3 24 rfl rfl
theorem dksL_law_5 : cL_law.data.toList.drop 268 = dktL_law_5 := dk_seg dksL_law_4 24 rfl rfl
theorem dksL_law_6 : cL_law.data.toList.drop 292 = dktL_law_6 := dk_seg dksL_law_5 24 rfl rfl
theorem dksL_law_7 : cL_law.data.toList.drop 316 = dktL_law_7 := dk_seg dksL_law_6 24 rfl rfl
theorem dksL_law_8 : cL_law.data.toList.drop 339 = dktL_law_8 := dk_seg dksL_law_7 23 rfl rfl
theorem dksL_law_9 : cL_law.data.toList.drop 362 = dktL_law_9 := dk_seg dksL_law_8 23 rfl rfl
theorem dksL_law_10 : cL_law.data.toList.drop 386 = dktL_law_10 := dk_seg dksL_law_9 24 rfl rfl
theorem dksL_law_11 : cL_law.data.toList.drop 410 = dktL_law_11 := dk_seg dksL_law_10 24 rfl rfl
theorem dksL_law_12 : cL_law.data.toList.drop 434 = dktL_law_12 := dk_seg dksL_law_11 24 rfl rfl
theorem dksL_law_13 : cL_law.data.toList.drop 457 = dktL_law_13 := dk_seg dksL_law_12 23 rfl rfl
theorem dksL_law_14 : cL_law.data.toList.drop 481 = dktL_law_14 := dk_seg dksL_law_13 24 rfl rfl
theorem dksL_law_15 : cL_law.data.toList.drop 505 = dktL_law_15 := dk_seg dksL_law_14 24 rfl rfl
theorem dksL_law_16 : cL_law.data.toList.drop 529 = dktL_law_16 := dk_seg dksL_law_15 24 rfl rfl
theorem dksL_law_17 : cL_law.data.toList.drop 553 = dktL_law_17 := dk_seg dksL_law_16 24 rfl rfl
theorem dksL_law_18 : cL_law.data.toList.drop 577 = dktL_law_18 := dk_seg dksL_law_17 24 rfl rfl
theorem dksL_law_19 : cL_law.data.toList.drop 601 = dktL_law_19 := dk_seg dksL_law_18 24 rfl rfl
theorem dksL_law_20 : cL_law.data.toList.drop 624 = dktL_law_20 := dk_seg dksL_law_19 23 rfl rfl
theorem dksL_law_21 : cL_law.data.toList.drop 648 = dktL_law_21 := dk_seg dksL_law_20 24 rfl rfl
theorem dksL_law_22 : cL_law.data.toList.drop 670 = dktL_law_22 := dk_seg dksL_law_21 22 rfl rfl
theorem dksL_law_23 : cL_law.data.toList.drop 694 = dktL_law_23 := dk_seg dksL_law_22 24 rfl rfl
theorem dksL_law_24 : cL_law.data.toList.drop 718 = dktL_law_24 := dk_seg dksL_law_23 24 rfl rfl
theorem dksL_law_25 : cL_law.data.toList.drop 742 = dktL_law_25 := dk_seg dksL_law_24 24 rfl rfl
theorem dksL_law_26 : cL_law.data.toList.drop 766 = dktL_law_26 := dk_seg dksL_law_25 24 rfl rfl
theorem dksL_law_27 : cL_law.data.toList.drop 790 = dktL_law_27 := dk_seg dksL_law_26 24 rfl rfl
theorem dksL_law_28 : cL_law.data.toList.drop 814 = dktL_law_28 := dk_seg dksL_law_27 24 rfl rfl
theorem dksL_law_29 : cL_law.data.toList.drop 838 = dktL_law_29 := dk_seg dksL_law_28 24 rfl rfl
theorem dksL_law_30 : cL_law.data.toList.drop 860 = dktL_law_30 := dk_seg dksL_law_29 22 rfl rfl
theorem dksL_law_31 : cL_law.data.toList.drop 882 = dktL_law_31 := dk_seg dksL_law_30 22 rfl rfl
theorem dksL_law_32 : cL_law.data.toList.drop 906 = dktL_law_32 := dk_seg dksL_law_31 24 rfl rfl
theorem dksL_law_33 : cL_law.data.toList.drop 928 = dktL_law_33 := dk_seg dksL_law_32 22 rfl rfl
theorem dksL_law_34 : cL_law.data.toList.drop 952 = dktL_law_34 := dk_seg dksL_law_33 24 rfl rfl
theorem dksL_law_35 : cL_law.data.toList.drop 976 = dktL_law_35 := dk_seg dksL_law_34 24 rfl rfl
theorem dksL_law_36 : cL_law.data.toList.drop 1000 = dktL_law_36 := dk_seg dksL_law_35 24 rfl rfl
theorem dksL_law_37 : cL_law.data.toList.drop 1022 = dktL_law_37 := dk_seg dksL_law_36 22 rfl rfl
theorem dksL_law_38 : cL_law.data.toList.drop 1044 = dktL_law_38 := dk_seg dksL_law_37 22 rfl rfl
theorem dksL_law_39 : cL_law.data.toList.drop 1068 = dktL_law_39 := dk_seg dksL_law_38 24 rfl rfl
theorem dksL_law_40 : cL_law.data.toList.drop 1090 = dktL_law_40 := dk_seg dksL_law_39 22 rfl rfl
theorem dksL_law_41 : cL_law.data.toList.drop 1114 = dktL_law_41 := dk_seg dksL_law_40 24 rfl rfl
theorem dksL_law_42 : cL_law.data.toList.drop 1136 = dktL_law_42 := dk_seg dksL_law_41 22 rfl rfl
theorem dksL_law_43 : cL_law.data.toList.drop 1160 = dktL_law_43 := dk_seg dksL_law_42 24 rfl rfl
theorem dksL_law_44 : cL_law.data.toList.drop 1183 = dktL_law_44 := dk_seg dksL_law_43 23 rfl rfl
theorem dksL_law_45 : cL_law.data.toList.drop 1207 = dktL_law_45 := dk_seg dksL_law_44 24 rfl rfl
theorem dksL_law_46 : cL_law.data.toList.drop 1231 = dktL_law_46 := dk_seg dksL_law_45 24 rfl rfl
theorem dksL_law_47 : cL_law.data.toList.drop 1255 = dktL_law_47 := dk_seg dksL_law_46 24 rfl rfl
theorem dksL_law_48 : cL_law.data.toList.drop 1279 = dktL_law_48 := dk_seg dksL_law_47 24 rfl rfl
theorem dksL_law_49 : cL_law.data.toList.drop 1303 = dktL_law_49 := dk_seg dksL_law_48 24 rfl rfl
theorem dksL_law_50 : cL_law.data.toList.drop 1327 = dktL_law_50 := dk_seg dksL_law_49 24 rfl rfl
theorem dksL_law_51 : cL_law.data.toList.drop 1351 = dktL_law_51 := dk_seg dksL_law_50 24 rfl rfl
theorem dksL_law_52 : cL_law.data.toList.drop 1373 = dktL_law_52 := dk_seg dksL_law_51 22 rfl rfl
theorem dksL_law_53 : cL_law.data.toList.drop 1395 = dktL_law_53 := dk_seg dksL_law_52 22 rfl rfl
theorem dL_law_0 : decode cL_law 0 = .ok (.new 8, 3) := dk_187 0 8 (dk_at dksL_law_0 0 rfl rfl)
theorem dL_law_3 : decode cL_law 3 = .ok (.dup, 1) := dk_89 (dk_at dksL_law_0 3 rfl rfl)
theorem dL_law_4 : decode cL_law 4 = .ok (.invokespecial 18, 3) := dk_183 0 18 (dk_at dksL_law_0 4 rfl rfl)
theorem dL_law_7 : decode cL_law 7 = .ok (.astore_n 1, 1) := dk_76 (dk_at dksL_law_0 7 rfl rfl)
theorem dL_law_8 : decode cL_law 8 = .ok (.new 19, 3) := dk_187 0 19 (dk_at dksL_law_0 8 rfl rfl)
theorem dL_law_11 : decode cL_law 11 = .ok (.dup, 1) := dk_89 (dk_at dksL_law_0 11 rfl rfl)
theorem dL_law_12 : decode cL_law 12 = .ok (.invokespecial 21, 3) := dk_183 0 21 (dk_at dksL_law_0 12 rfl rfl)
theorem dL_law_15 : decode cL_law 15 = .ok (.astore_n 2, 1) := dk_77 (dk_at dksL_law_0 15 rfl rfl)
theorem dL_law_16 : decode cL_law 16 = .ok (.iconst 1, 1) := dk_4 (dk_at dksL_law_0 16 rfl rfl)
theorem dL_law_17 : decode cL_law 17 = .ok (.newarray .long, 2) := dk_188_11 (dk_at dksL_law_0 17 rfl rfl)
theorem dL_law_19 : decode cL_law 19 = .ok (.astore_n 3, 1) := dk_78 (dk_at dksL_law_0 19 rfl rfl)
theorem dL_law_20 : decode cL_law 20 = .ok (.iconst 0, 1) := dk_3 (dk_at dksL_law_0 20 rfl rfl)
theorem dL_law_21 : decode cL_law 21 = .ok (.istore 4, 2) := dk_54 4 (dk_at dksL_law_0 21 rfl rfl)
theorem dL_law_23 : decode cL_law 23 = .ok (.iload 4, 2) := dk_21 4 (dk_at dksL_law_1 0 rfl rfl)
theorem dL_law_25 : decode cL_law 25 = .ok (.aload_n 0, 1) := dk_42 (dk_at dksL_law_1 2 rfl rfl)
theorem dL_law_26 : decode cL_law 26 = .ok (.arraylength, 1) := dk_190 (dk_at dksL_law_1 3 rfl rfl)
theorem dL_law_27 : decode cL_law 27 = .ok (.bipush 6, 2) := dk_16 6 (dk_at dksL_law_1 4 rfl rfl)
theorem dL_law_29 : decode cL_law 29 = .ok (.isub, 1) := dk_100 (dk_at dksL_law_1 6 rfl rfl)
theorem dL_law_30 : decode cL_law 30 = .ok (.if_icmp .gt 1379, 3) := dk_163 5 99 (dk_at dksL_law_1 7 rfl rfl)
theorem dL_law_33 : decode cL_law 33 = .ok (.aload_n 0, 1) := dk_42 (dk_at dksL_law_1 10 rfl rfl)
theorem dL_law_34 : decode cL_law 34 = .ok (.iload 4, 2) := dk_21 4 (dk_at dksL_law_1 11 rfl rfl)
theorem dL_law_36 : decode cL_law 36 = .ok (.iaload, 1) := dk_46 (dk_at dksL_law_1 13 rfl rfl)
theorem dL_law_37 : decode cL_law 37 = .ok (.bipush 63, 2) := dk_16 63 (dk_at dksL_law_1 14 rfl rfl)
theorem dL_law_39 : decode cL_law 39 = .ok (.iand, 1) := dk_126 (dk_at dksL_law_1 16 rfl rfl)
theorem dL_law_40 : decode cL_law 40 = .ok (.tableswitch 1363 0 40 #[180, 253, 278, 291, 304, 341, 409, 477, 502, 539, 576, 613, 638, 663, 676, 713, 726, 787, 800, 825, 850, 875, 912, 949, 974, 987, 1012, 1049, 1062, 1075, 1088, 1101, 1114, 1151, 1200, 1225, 1250, 1263, 1288, 1313, 1338], 180) := by decide +kernel
theorem dL_law_220 : decode cL_law 220 = .ok (.aload_n 1, 1) := dk_43 (dk_at dksL_law_3 0 rfl rfl)
theorem dL_law_221 : decode cL_law 221 = .ok (.aload_n 0, 1) := dk_42 (dk_at dksL_law_3 1 rfl rfl)
theorem dL_law_222 : decode cL_law 222 = .ok (.iload 4, 2) := dk_21 4 (dk_at dksL_law_3 2 rfl rfl)
theorem dL_law_224 : decode cL_law 224 = .ok (.iconst 1, 1) := dk_4 (dk_at dksL_law_3 4 rfl rfl)
theorem dL_law_225 : decode cL_law 225 = .ok (.iadd, 1) := dk_96 (dk_at dksL_law_3 5 rfl rfl)
theorem dL_law_226 : decode cL_law 226 = .ok (.iaload, 1) := dk_46 (dk_at dksL_law_3 6 rfl rfl)
theorem dL_law_227 : decode cL_law 227 = .ok (.aload_n 0, 1) := dk_42 (dk_at dksL_law_3 7 rfl rfl)
theorem dL_law_228 : decode cL_law 228 = .ok (.iload 4, 2) := dk_21 4 (dk_at dksL_law_3 8 rfl rfl)
theorem dL_law_230 : decode cL_law 230 = .ok (.iconst 2, 1) := dk_5 (dk_at dksL_law_3 10 rfl rfl)
theorem dL_law_231 : decode cL_law 231 = .ok (.iadd, 1) := dk_96 (dk_at dksL_law_3 11 rfl rfl)
theorem dL_law_232 : decode cL_law 232 = .ok (.iaload, 1) := dk_46 (dk_at dksL_law_3 12 rfl rfl)
theorem dL_law_233 : decode cL_law 233 = .ok (.aload_n 0, 1) := dk_42 (dk_at dksL_law_3 13 rfl rfl)
theorem dL_law_234 : decode cL_law 234 = .ok (.iload 4, 2) := dk_21 4 (dk_at dksL_law_3 14 rfl rfl)
theorem dL_law_236 : decode cL_law 236 = .ok (.iconst 3, 1) := dk_6 (dk_at dksL_law_3 16 rfl rfl)
theorem dL_law_237 : decode cL_law 237 = .ok (.iadd, 1) := dk_96 (dk_at dksL_law_3 17 rfl rfl)
theorem dL_law_238 : decode cL_law 238 = .ok (.iaload, 1) := dk_46 (dk_at dksL_law_3 18 rfl rfl)
theorem dL_law_239 : decode cL_law 239 = .ok (.aload_n 0, 1) := dk_42 (dk_at dksL_law_3 19 rfl rfl)
theorem dL_law_240 : decode cL_law 240 = .ok (.iload 4, 2) := dk_21 4 (dk_at dksL_law_3 20 rfl rfl)
theorem dL_law_242 : decode cL_law 242 = .ok (.iconst 4, 1) := dk_7 (dk_at dksL_law_3 22 rfl rfl)
theorem dL_law_243 : decode cL_law 243 = .ok (.iadd, 1) := dk_96 (dk_at dksL_law_3 23 rfl rfl)
theorem dL_law_244 : decode cL_law 244 = .ok (.iaload, 1) := dk_46 (dk_at dksL_law_4 0 rfl rfl)
theorem dL_law_245 : decode cL_law 245 = .ok (.aload_n 0, 1) := dk_42 (dk_at dksL_law_4 1 rfl rfl)
theorem dL_law_246 : decode cL_law 246 = .ok (.iload 4, 2) := dk_21 4 (dk_at dksL_law_4 2 rfl rfl)
theorem dL_law_248 : decode cL_law 248 = .ok (.iconst 5, 1) := dk_8 (dk_at dksL_law_4 4 rfl rfl)
theorem dL_law_249 : decode cL_law 249 = .ok (.iadd, 1) := dk_96 (dk_at dksL_law_4 5 rfl rfl)
theorem dL_law_250 : decode cL_law 250 = .ok (.iaload, 1) := dk_46 (dk_at dksL_law_4 6 rfl rfl)
theorem dL_law_251 : decode cL_law 251 = .ok (.invokevirtual 22, 3) := dk_182 0 22 (dk_at dksL_law_4 7 rfl rfl)
theorem dL_law_254 : decode cL_law 254 = .ok (.aload_n 2, 1) := dk_44 (dk_at dksL_law_4 10 rfl rfl)
theorem dL_law_255 : decode cL_law 255 = .ok (.aload_n 0, 1) := dk_42 (dk_at dksL_law_4 11 rfl rfl)
theorem dL_law_256 : decode cL_law 256 = .ok (.iload 4, 2) := dk_21 4 (dk_at dksL_law_4 12 rfl rfl)
theorem dL_law_258 : decode cL_law 258 = .ok (.iconst 1, 1) := dk_4 (dk_at dksL_law_4 14 rfl rfl)
theorem dL_law_259 : decode cL_law 259 = .ok (.iadd, 1) := dk_96 (dk_at dksL_law_4 15 rfl rfl)
theorem dL_law_260 : decode cL_law 260 = .ok (.iaload, 1) := dk_46 (dk_at dksL_law_4 16 rfl rfl)
theorem dL_law_261 : decode cL_law 261 = .ok (.aload_n 0, 1) := dk_42 (dk_at dksL_law_4 17 rfl rfl)
theorem dL_law_262 : decode cL_law 262 = .ok (.iload 4, 2) := dk_21 4 (dk_at dksL_law_4 18 rfl rfl)
theorem dL_law_264 : decode cL_law 264 = .ok (.iconst 2, 1) := dk_5 (dk_at dksL_law_4 20 rfl rfl)
theorem dL_law_265 : decode cL_law 265 = .ok (.iadd, 1) := dk_96 (dk_at dksL_law_4 21 rfl rfl)
theorem dL_law_266 : decode cL_law 266 = .ok (.iaload, 1) := dk_46 (dk_at dksL_law_4 22 rfl rfl)
theorem dL_law_267 : decode cL_law 267 = .ok (.aload_n 0, 1) := dk_42 (dk_at dksL_law_4 23 rfl rfl)
theorem dL_law_268 : decode cL_law 268 = .ok (.iload 4, 2) := dk_21 4 (dk_at dksL_law_5 0 rfl rfl)
theorem dL_law_270 : decode cL_law 270 = .ok (.iconst 3, 1) := dk_6 (dk_at dksL_law_5 2 rfl rfl)
theorem dL_law_271 : decode cL_law 271 = .ok (.iadd, 1) := dk_96 (dk_at dksL_law_5 3 rfl rfl)
theorem dL_law_272 : decode cL_law 272 = .ok (.iaload, 1) := dk_46 (dk_at dksL_law_5 4 rfl rfl)
theorem dL_law_273 : decode cL_law 273 = .ok (.aload_n 0, 1) := dk_42 (dk_at dksL_law_5 5 rfl rfl)
theorem dL_law_274 : decode cL_law 274 = .ok (.iload 4, 2) := dk_21 4 (dk_at dksL_law_5 6 rfl rfl)
theorem dL_law_276 : decode cL_law 276 = .ok (.iconst 4, 1) := dk_7 (dk_at dksL_law_5 8 rfl rfl)
theorem dL_law_277 : decode cL_law 277 = .ok (.iadd, 1) := dk_96 (dk_at dksL_law_5 9 rfl rfl)
theorem dL_law_278 : decode cL_law 278 = .ok (.iaload, 1) := dk_46 (dk_at dksL_law_5 10 rfl rfl)
theorem dL_law_279 : decode cL_law 279 = .ok (.aload_n 0, 1) := dk_42 (dk_at dksL_law_5 11 rfl rfl)
theorem dL_law_280 : decode cL_law 280 = .ok (.iload 4, 2) := dk_21 4 (dk_at dksL_law_5 12 rfl rfl)
theorem dL_law_282 : decode cL_law 282 = .ok (.iconst 5, 1) := dk_8 (dk_at dksL_law_5 14 rfl rfl)
theorem dL_law_283 : decode cL_law 283 = .ok (.iadd, 1) := dk_96 (dk_at dksL_law_5 15 rfl rfl)
theorem dL_law_284 : decode cL_law 284 = .ok (.iaload, 1) := dk_46 (dk_at dksL_law_5 16 rfl rfl)
theorem dL_law_285 : decode cL_law 285 = .ok (.invokevirtual 26, 3) := dk_182 0 26 (dk_at dksL_law_5 17 rfl rfl)
theorem dL_law_288 : decode cL_law 288 = .ok (.if_icmp .eq 1115, 3) := dk_159 4 91 (dk_at dksL_law_5 20 rfl rfl)
theorem dL_law_291 : decode cL_law 291 = .ok (.iconst 0, 1) := dk_3 (dk_at dksL_law_5 23 rfl rfl)
theorem dL_law_292 : decode cL_law 292 = .ok (.ireturn, 1) := dk_172 (dk_at dksL_law_6 0 rfl rfl)
theorem dL_law_293 : decode cL_law 293 = .ok (.aload_n 1, 1) := dk_43 (dk_at dksL_law_6 1 rfl rfl)
theorem dL_law_294 : decode cL_law 294 = .ok (.aload_n 0, 1) := dk_42 (dk_at dksL_law_6 2 rfl rfl)
theorem dL_law_295 : decode cL_law 295 = .ok (.iload 4, 2) := dk_21 4 (dk_at dksL_law_6 3 rfl rfl)
theorem dL_law_297 : decode cL_law 297 = .ok (.iconst 1, 1) := dk_4 (dk_at dksL_law_6 5 rfl rfl)
theorem dL_law_298 : decode cL_law 298 = .ok (.iadd, 1) := dk_96 (dk_at dksL_law_6 6 rfl rfl)
theorem dL_law_299 : decode cL_law 299 = .ok (.iaload, 1) := dk_46 (dk_at dksL_law_6 7 rfl rfl)
theorem dL_law_300 : decode cL_law 300 = .ok (.invokevirtual 27, 3) := dk_182 0 27 (dk_at dksL_law_6 8 rfl rfl)
theorem dL_law_303 : decode cL_law 303 = .ok (.aload_n 2, 1) := dk_44 (dk_at dksL_law_6 11 rfl rfl)
theorem dL_law_304 : decode cL_law 304 = .ok (.aload_n 0, 1) := dk_42 (dk_at dksL_law_6 12 rfl rfl)
theorem dL_law_305 : decode cL_law 305 = .ok (.iload 4, 2) := dk_21 4 (dk_at dksL_law_6 13 rfl rfl)
theorem dL_law_307 : decode cL_law 307 = .ok (.iconst 1, 1) := dk_4 (dk_at dksL_law_6 15 rfl rfl)
theorem dL_law_308 : decode cL_law 308 = .ok (.iadd, 1) := dk_96 (dk_at dksL_law_6 16 rfl rfl)
theorem dL_law_309 : decode cL_law 309 = .ok (.iaload, 1) := dk_46 (dk_at dksL_law_6 17 rfl rfl)
theorem dL_law_310 : decode cL_law 310 = .ok (.invokevirtual 31, 3) := dk_182 0 31 (dk_at dksL_law_6 18 rfl rfl)
theorem dL_law_313 : decode cL_law 313 = .ok (.if_icmp .eq 1090, 3) := dk_159 4 66 (dk_at dksL_law_6 21 rfl rfl)
theorem dL_law_316 : decode cL_law 316 = .ok (.iconst 0, 1) := dk_3 (dk_at dksL_law_7 0 rfl rfl)
theorem dL_law_317 : decode cL_law 317 = .ok (.ireturn, 1) := dk_172 (dk_at dksL_law_7 1 rfl rfl)
theorem dL_law_318 : decode cL_law 318 = .ok (.aload_n 1, 1) := dk_43 (dk_at dksL_law_7 2 rfl rfl)
theorem dL_law_319 : decode cL_law 319 = .ok (.invokevirtual 32, 3) := dk_182 0 32 (dk_at dksL_law_7 3 rfl rfl)
theorem dL_law_322 : decode cL_law 322 = .ok (.aload_n 2, 1) := dk_44 (dk_at dksL_law_7 6 rfl rfl)
theorem dL_law_323 : decode cL_law 323 = .ok (.invokevirtual 36, 3) := dk_182 0 36 (dk_at dksL_law_7 7 rfl rfl)
theorem dL_law_326 : decode cL_law 326 = .ok (.if_icmp .eq 1077, 3) := dk_159 4 53 (dk_at dksL_law_7 10 rfl rfl)
theorem dL_law_329 : decode cL_law 329 = .ok (.iconst 0, 1) := dk_3 (dk_at dksL_law_7 13 rfl rfl)
theorem dL_law_330 : decode cL_law 330 = .ok (.ireturn, 1) := dk_172 (dk_at dksL_law_7 14 rfl rfl)
theorem dL_law_331 : decode cL_law 331 = .ok (.aload_n 1, 1) := dk_43 (dk_at dksL_law_7 15 rfl rfl)
theorem dL_law_332 : decode cL_law 332 = .ok (.invokevirtual 37, 3) := dk_182 0 37 (dk_at dksL_law_7 16 rfl rfl)
theorem dL_law_335 : decode cL_law 335 = .ok (.aload_n 2, 1) := dk_44 (dk_at dksL_law_7 19 rfl rfl)
theorem dL_law_336 : decode cL_law 336 = .ok (.invokevirtual 40, 3) := dk_182 0 40 (dk_at dksL_law_7 20 rfl rfl)
theorem dL_law_339 : decode cL_law 339 = .ok (.if_icmp .eq 1064, 3) := dk_159 4 40 (dk_at dksL_law_8 0 rfl rfl)
theorem dL_law_342 : decode cL_law 342 = .ok (.iconst 0, 1) := dk_3 (dk_at dksL_law_8 3 rfl rfl)
theorem dL_law_343 : decode cL_law 343 = .ok (.ireturn, 1) := dk_172 (dk_at dksL_law_8 4 rfl rfl)
theorem dL_law_344 : decode cL_law 344 = .ok (.aload_n 1, 1) := dk_43 (dk_at dksL_law_8 5 rfl rfl)
theorem dL_law_345 : decode cL_law 345 = .ok (.aload_n 0, 1) := dk_42 (dk_at dksL_law_8 6 rfl rfl)
theorem dL_law_346 : decode cL_law 346 = .ok (.iload 4, 2) := dk_21 4 (dk_at dksL_law_8 7 rfl rfl)
theorem dL_law_348 : decode cL_law 348 = .ok (.iconst 1, 1) := dk_4 (dk_at dksL_law_8 9 rfl rfl)
theorem dL_law_349 : decode cL_law 349 = .ok (.iadd, 1) := dk_96 (dk_at dksL_law_8 10 rfl rfl)
theorem dL_law_350 : decode cL_law 350 = .ok (.iaload, 1) := dk_46 (dk_at dksL_law_8 11 rfl rfl)
theorem dL_law_351 : decode cL_law 351 = .ok (.aload_n 0, 1) := dk_42 (dk_at dksL_law_8 12 rfl rfl)
theorem dL_law_352 : decode cL_law 352 = .ok (.iload 4, 2) := dk_21 4 (dk_at dksL_law_8 13 rfl rfl)
theorem dL_law_354 : decode cL_law 354 = .ok (.iconst 2, 1) := dk_5 (dk_at dksL_law_8 15 rfl rfl)
theorem dL_law_355 : decode cL_law 355 = .ok (.iadd, 1) := dk_96 (dk_at dksL_law_8 16 rfl rfl)
theorem dL_law_356 : decode cL_law 356 = .ok (.iaload, 1) := dk_46 (dk_at dksL_law_8 17 rfl rfl)
theorem dL_law_357 : decode cL_law 357 = .ok (.invokevirtual 41, 3) := dk_182 0 41 (dk_at dksL_law_8 18 rfl rfl)
theorem dL_law_360 : decode cL_law 360 = .ok (.aload_n 2, 1) := dk_44 (dk_at dksL_law_8 21 rfl rfl)
theorem dL_law_361 : decode cL_law 361 = .ok (.aload_n 0, 1) := dk_42 (dk_at dksL_law_8 22 rfl rfl)
theorem dL_law_362 : decode cL_law 362 = .ok (.iload 4, 2) := dk_21 4 (dk_at dksL_law_9 0 rfl rfl)
theorem dL_law_364 : decode cL_law 364 = .ok (.iconst 1, 1) := dk_4 (dk_at dksL_law_9 2 rfl rfl)
theorem dL_law_365 : decode cL_law 365 = .ok (.iadd, 1) := dk_96 (dk_at dksL_law_9 3 rfl rfl)
theorem dL_law_366 : decode cL_law 366 = .ok (.iaload, 1) := dk_46 (dk_at dksL_law_9 4 rfl rfl)
theorem dL_law_367 : decode cL_law 367 = .ok (.aload_n 0, 1) := dk_42 (dk_at dksL_law_9 5 rfl rfl)
theorem dL_law_368 : decode cL_law 368 = .ok (.iload 4, 2) := dk_21 4 (dk_at dksL_law_9 6 rfl rfl)
theorem dL_law_370 : decode cL_law 370 = .ok (.iconst 2, 1) := dk_5 (dk_at dksL_law_9 8 rfl rfl)
theorem dL_law_371 : decode cL_law 371 = .ok (.iadd, 1) := dk_96 (dk_at dksL_law_9 9 rfl rfl)
theorem dL_law_372 : decode cL_law 372 = .ok (.iaload, 1) := dk_46 (dk_at dksL_law_9 10 rfl rfl)
theorem dL_law_373 : decode cL_law 373 = .ok (.invokevirtual 44, 3) := dk_182 0 44 (dk_at dksL_law_9 11 rfl rfl)
theorem dL_law_376 : decode cL_law 376 = .ok (.if_icmp .eq 1027, 3) := dk_159 4 3 (dk_at dksL_law_9 14 rfl rfl)
theorem dL_law_379 : decode cL_law 379 = .ok (.iconst 0, 1) := dk_3 (dk_at dksL_law_9 17 rfl rfl)
theorem dL_law_380 : decode cL_law 380 = .ok (.ireturn, 1) := dk_172 (dk_at dksL_law_9 18 rfl rfl)
theorem dL_law_381 : decode cL_law 381 = .ok (.aload_n 1, 1) := dk_43 (dk_at dksL_law_9 19 rfl rfl)
theorem dL_law_382 : decode cL_law 382 = .ok (.aload_n 0, 1) := dk_42 (dk_at dksL_law_9 20 rfl rfl)
theorem dL_law_383 : decode cL_law 383 = .ok (.iload 4, 2) := dk_21 4 (dk_at dksL_law_9 21 rfl rfl)
theorem dL_law_385 : decode cL_law 385 = .ok (.iconst 1, 1) := dk_4 (dk_at dksL_law_9 23 rfl rfl)
theorem dL_law_386 : decode cL_law 386 = .ok (.iadd, 1) := dk_96 (dk_at dksL_law_10 0 rfl rfl)
theorem dL_law_387 : decode cL_law 387 = .ok (.iaload, 1) := dk_46 (dk_at dksL_law_10 1 rfl rfl)
theorem dL_law_388 : decode cL_law 388 = .ok (.aload_n 0, 1) := dk_42 (dk_at dksL_law_10 2 rfl rfl)
theorem dL_law_389 : decode cL_law 389 = .ok (.iload 4, 2) := dk_21 4 (dk_at dksL_law_10 3 rfl rfl)
theorem dL_law_391 : decode cL_law 391 = .ok (.iconst 2, 1) := dk_5 (dk_at dksL_law_10 5 rfl rfl)
theorem dL_law_392 : decode cL_law 392 = .ok (.iadd, 1) := dk_96 (dk_at dksL_law_10 6 rfl rfl)
theorem dL_law_393 : decode cL_law 393 = .ok (.iaload, 1) := dk_46 (dk_at dksL_law_10 7 rfl rfl)
theorem dL_law_394 : decode cL_law 394 = .ok (.aload_n 3, 1) := dk_45 (dk_at dksL_law_10 8 rfl rfl)
theorem dL_law_395 : decode cL_law 395 = .ok (.invokestatic 45, 3) := dk_184 0 45 (dk_at dksL_law_10 9 rfl rfl)
theorem dL_law_398 : decode cL_law 398 = .ok (.istore 5, 2) := dk_54 5 (dk_at dksL_law_10 12 rfl rfl)
theorem dL_law_400 : decode cL_law 400 = .ok (.aload_n 2, 1) := dk_44 (dk_at dksL_law_10 14 rfl rfl)
theorem dL_law_401 : decode cL_law 401 = .ok (.aload_n 0, 1) := dk_42 (dk_at dksL_law_10 15 rfl rfl)
theorem dL_law_402 : decode cL_law 402 = .ok (.iload 4, 2) := dk_21 4 (dk_at dksL_law_10 16 rfl rfl)
theorem dL_law_404 : decode cL_law 404 = .ok (.iconst 1, 1) := dk_4 (dk_at dksL_law_10 18 rfl rfl)
theorem dL_law_405 : decode cL_law 405 = .ok (.iadd, 1) := dk_96 (dk_at dksL_law_10 19 rfl rfl)
theorem dL_law_406 : decode cL_law 406 = .ok (.iaload, 1) := dk_46 (dk_at dksL_law_10 20 rfl rfl)
theorem dL_law_407 : decode cL_law 407 = .ok (.aload_n 0, 1) := dk_42 (dk_at dksL_law_10 21 rfl rfl)
theorem dL_law_408 : decode cL_law 408 = .ok (.iload 4, 2) := dk_21 4 (dk_at dksL_law_10 22 rfl rfl)
theorem dL_law_410 : decode cL_law 410 = .ok (.iconst 2, 1) := dk_5 (dk_at dksL_law_11 0 rfl rfl)
theorem dL_law_411 : decode cL_law 411 = .ok (.iadd, 1) := dk_96 (dk_at dksL_law_11 1 rfl rfl)
theorem dL_law_412 : decode cL_law 412 = .ok (.iaload, 1) := dk_46 (dk_at dksL_law_11 2 rfl rfl)
theorem dL_law_413 : decode cL_law 413 = .ok (.invokevirtual 50, 3) := dk_182 0 50 (dk_at dksL_law_11 3 rfl rfl)
theorem dL_law_416 : decode cL_law 416 = .ok (.istore 6, 2) := dk_54 6 (dk_at dksL_law_11 6 rfl rfl)
theorem dL_law_418 : decode cL_law 418 = .ok (.aload_n 2, 1) := dk_44 (dk_at dksL_law_11 8 rfl rfl)
theorem dL_law_419 : decode cL_law 419 = .ok (.invokevirtual 51, 3) := dk_182 0 51 (dk_at dksL_law_11 9 rfl rfl)
theorem dL_law_422 : decode cL_law 422 = .ok (.iload 5, 2) := dk_21 5 (dk_at dksL_law_11 12 rfl rfl)
theorem dL_law_424 : decode cL_law 424 = .ok (.if_icmp .eq 5, 3) := dk_159 0 5 (dk_at dksL_law_11 14 rfl rfl)
theorem dL_law_427 : decode cL_law 427 = .ok (.iconst 0, 1) := dk_3 (dk_at dksL_law_11 17 rfl rfl)
theorem dL_law_428 : decode cL_law 428 = .ok (.ireturn, 1) := dk_172 (dk_at dksL_law_11 18 rfl rfl)
theorem dL_law_429 : decode cL_law 429 = .ok (.iload 5, 2) := dk_21 5 (dk_at dksL_law_11 19 rfl rfl)
theorem dL_law_431 : decode cL_law 431 = .ok (.ifCond .ne 15, 3) := dk_154 0 15 (dk_at dksL_law_11 21 rfl rfl)
theorem dL_law_434 : decode cL_law 434 = .ok (.aload_n 3, 1) := dk_45 (dk_at dksL_law_12 0 rfl rfl)
theorem dL_law_435 : decode cL_law 435 = .ok (.iconst 0, 1) := dk_3 (dk_at dksL_law_12 1 rfl rfl)
theorem dL_law_436 : decode cL_law 436 = .ok (.laload, 1) := dk_47 (dk_at dksL_law_12 2 rfl rfl)
theorem dL_law_437 : decode cL_law 437 = .ok (.iload 6, 2) := dk_21 6 (dk_at dksL_law_12 3 rfl rfl)
theorem dL_law_439 : decode cL_law 439 = .ok (.i2l, 1) := dk_133 (dk_at dksL_law_12 5 rfl rfl)
theorem dL_law_440 : decode cL_law 440 = .ok (.lcmp, 1) := dk_148 (dk_at dksL_law_12 6 rfl rfl)
theorem dL_law_441 : decode cL_law 441 = .ok (.ifCond .eq 5, 3) := dk_153 0 5 (dk_at dksL_law_12 7 rfl rfl)
theorem dL_law_444 : decode cL_law 444 = .ok (.iconst 0, 1) := dk_3 (dk_at dksL_law_12 10 rfl rfl)
theorem dL_law_445 : decode cL_law 445 = .ok (.ireturn, 1) := dk_172 (dk_at dksL_law_12 11 rfl rfl)
theorem dL_law_446 : decode cL_law 446 = .ok (.goto 957, 3) := dk_167 3 189 (dk_at dksL_law_12 12 rfl rfl)
theorem dL_law_449 : decode cL_law 449 = .ok (.aload_n 1, 1) := dk_43 (dk_at dksL_law_12 15 rfl rfl)
theorem dL_law_450 : decode cL_law 450 = .ok (.aload_n 0, 1) := dk_42 (dk_at dksL_law_12 16 rfl rfl)
theorem dL_law_451 : decode cL_law 451 = .ok (.iload 4, 2) := dk_21 4 (dk_at dksL_law_12 17 rfl rfl)
theorem dL_law_453 : decode cL_law 453 = .ok (.iconst 1, 1) := dk_4 (dk_at dksL_law_12 19 rfl rfl)
theorem dL_law_454 : decode cL_law 454 = .ok (.iadd, 1) := dk_96 (dk_at dksL_law_12 20 rfl rfl)
theorem dL_law_455 : decode cL_law 455 = .ok (.iaload, 1) := dk_46 (dk_at dksL_law_12 21 rfl rfl)
theorem dL_law_456 : decode cL_law 456 = .ok (.aload_n 0, 1) := dk_42 (dk_at dksL_law_12 22 rfl rfl)
theorem dL_law_457 : decode cL_law 457 = .ok (.iload 4, 2) := dk_21 4 (dk_at dksL_law_13 0 rfl rfl)
theorem dL_law_459 : decode cL_law 459 = .ok (.iconst 2, 1) := dk_5 (dk_at dksL_law_13 2 rfl rfl)
theorem dL_law_460 : decode cL_law 460 = .ok (.iadd, 1) := dk_96 (dk_at dksL_law_13 3 rfl rfl)
theorem dL_law_461 : decode cL_law 461 = .ok (.iaload, 1) := dk_46 (dk_at dksL_law_13 4 rfl rfl)
theorem dL_law_462 : decode cL_law 462 = .ok (.aload_n 3, 1) := dk_45 (dk_at dksL_law_13 5 rfl rfl)
theorem dL_law_463 : decode cL_law 463 = .ok (.invokestatic 54, 3) := dk_184 0 54 (dk_at dksL_law_13 6 rfl rfl)
theorem dL_law_466 : decode cL_law 466 = .ok (.istore 5, 2) := dk_54 5 (dk_at dksL_law_13 9 rfl rfl)
theorem dL_law_468 : decode cL_law 468 = .ok (.aload_n 2, 1) := dk_44 (dk_at dksL_law_13 11 rfl rfl)
theorem dL_law_469 : decode cL_law 469 = .ok (.aload_n 0, 1) := dk_42 (dk_at dksL_law_13 12 rfl rfl)
theorem dL_law_470 : decode cL_law 470 = .ok (.iload 4, 2) := dk_21 4 (dk_at dksL_law_13 13 rfl rfl)
theorem dL_law_472 : decode cL_law 472 = .ok (.iconst 1, 1) := dk_4 (dk_at dksL_law_13 15 rfl rfl)
theorem dL_law_473 : decode cL_law 473 = .ok (.iadd, 1) := dk_96 (dk_at dksL_law_13 16 rfl rfl)
theorem dL_law_474 : decode cL_law 474 = .ok (.iaload, 1) := dk_46 (dk_at dksL_law_13 17 rfl rfl)
theorem dL_law_475 : decode cL_law 475 = .ok (.aload_n 0, 1) := dk_42 (dk_at dksL_law_13 18 rfl rfl)
theorem dL_law_476 : decode cL_law 476 = .ok (.iload 4, 2) := dk_21 4 (dk_at dksL_law_13 19 rfl rfl)
theorem dL_law_478 : decode cL_law 478 = .ok (.iconst 2, 1) := dk_5 (dk_at dksL_law_13 21 rfl rfl)
theorem dL_law_479 : decode cL_law 479 = .ok (.iadd, 1) := dk_96 (dk_at dksL_law_13 22 rfl rfl)
theorem dL_law_480 : decode cL_law 480 = .ok (.iaload, 1) := dk_46 (dk_at dksL_law_13 23 rfl rfl)
theorem dL_law_481 : decode cL_law 481 = .ok (.invokevirtual 56, 3) := dk_182 0 56 (dk_at dksL_law_14 0 rfl rfl)
theorem dL_law_484 : decode cL_law 484 = .ok (.istore 6, 2) := dk_54 6 (dk_at dksL_law_14 3 rfl rfl)
theorem dL_law_486 : decode cL_law 486 = .ok (.aload_n 2, 1) := dk_44 (dk_at dksL_law_14 5 rfl rfl)
theorem dL_law_487 : decode cL_law 487 = .ok (.invokevirtual 51, 3) := dk_182 0 51 (dk_at dksL_law_14 6 rfl rfl)
theorem dL_law_490 : decode cL_law 490 = .ok (.iload 5, 2) := dk_21 5 (dk_at dksL_law_14 9 rfl rfl)
theorem dL_law_492 : decode cL_law 492 = .ok (.if_icmp .eq 5, 3) := dk_159 0 5 (dk_at dksL_law_14 11 rfl rfl)
theorem dL_law_495 : decode cL_law 495 = .ok (.iconst 0, 1) := dk_3 (dk_at dksL_law_14 14 rfl rfl)
theorem dL_law_496 : decode cL_law 496 = .ok (.ireturn, 1) := dk_172 (dk_at dksL_law_14 15 rfl rfl)
theorem dL_law_497 : decode cL_law 497 = .ok (.iload 5, 2) := dk_21 5 (dk_at dksL_law_14 16 rfl rfl)
theorem dL_law_499 : decode cL_law 499 = .ok (.ifCond .ne 15, 3) := dk_154 0 15 (dk_at dksL_law_14 18 rfl rfl)
theorem dL_law_502 : decode cL_law 502 = .ok (.aload_n 3, 1) := dk_45 (dk_at dksL_law_14 21 rfl rfl)
theorem dL_law_503 : decode cL_law 503 = .ok (.iconst 0, 1) := dk_3 (dk_at dksL_law_14 22 rfl rfl)
theorem dL_law_504 : decode cL_law 504 = .ok (.laload, 1) := dk_47 (dk_at dksL_law_14 23 rfl rfl)
theorem dL_law_505 : decode cL_law 505 = .ok (.iload 6, 2) := dk_21 6 (dk_at dksL_law_15 0 rfl rfl)
theorem dL_law_507 : decode cL_law 507 = .ok (.i2l, 1) := dk_133 (dk_at dksL_law_15 2 rfl rfl)
theorem dL_law_508 : decode cL_law 508 = .ok (.lcmp, 1) := dk_148 (dk_at dksL_law_15 3 rfl rfl)
theorem dL_law_509 : decode cL_law 509 = .ok (.ifCond .eq 5, 3) := dk_153 0 5 (dk_at dksL_law_15 4 rfl rfl)
theorem dL_law_512 : decode cL_law 512 = .ok (.iconst 0, 1) := dk_3 (dk_at dksL_law_15 7 rfl rfl)
theorem dL_law_513 : decode cL_law 513 = .ok (.ireturn, 1) := dk_172 (dk_at dksL_law_15 8 rfl rfl)
theorem dL_law_514 : decode cL_law 514 = .ok (.goto 889, 3) := dk_167 3 121 (dk_at dksL_law_15 9 rfl rfl)
theorem dL_law_517 : decode cL_law 517 = .ok (.aload_n 1, 1) := dk_43 (dk_at dksL_law_15 12 rfl rfl)
theorem dL_law_518 : decode cL_law 518 = .ok (.aload_n 0, 1) := dk_42 (dk_at dksL_law_15 13 rfl rfl)
theorem dL_law_519 : decode cL_law 519 = .ok (.iload 4, 2) := dk_21 4 (dk_at dksL_law_15 14 rfl rfl)
theorem dL_law_521 : decode cL_law 521 = .ok (.iconst 1, 1) := dk_4 (dk_at dksL_law_15 16 rfl rfl)
theorem dL_law_522 : decode cL_law 522 = .ok (.iadd, 1) := dk_96 (dk_at dksL_law_15 17 rfl rfl)
theorem dL_law_523 : decode cL_law 523 = .ok (.iaload, 1) := dk_46 (dk_at dksL_law_15 18 rfl rfl)
theorem dL_law_524 : decode cL_law 524 = .ok (.invokevirtual 57, 3) := dk_182 0 57 (dk_at dksL_law_15 19 rfl rfl)
theorem dL_law_527 : decode cL_law 527 = .ok (.aload_n 2, 1) := dk_44 (dk_at dksL_law_15 22 rfl rfl)
theorem dL_law_528 : decode cL_law 528 = .ok (.aload_n 0, 1) := dk_42 (dk_at dksL_law_15 23 rfl rfl)
theorem dL_law_529 : decode cL_law 529 = .ok (.iload 4, 2) := dk_21 4 (dk_at dksL_law_16 0 rfl rfl)
theorem dL_law_531 : decode cL_law 531 = .ok (.iconst 1, 1) := dk_4 (dk_at dksL_law_16 2 rfl rfl)
theorem dL_law_532 : decode cL_law 532 = .ok (.iadd, 1) := dk_96 (dk_at dksL_law_16 3 rfl rfl)
theorem dL_law_533 : decode cL_law 533 = .ok (.iaload, 1) := dk_46 (dk_at dksL_law_16 4 rfl rfl)
theorem dL_law_534 : decode cL_law 534 = .ok (.invokevirtual 61, 3) := dk_182 0 61 (dk_at dksL_law_16 5 rfl rfl)
theorem dL_law_537 : decode cL_law 537 = .ok (.if_icmp .eq 866, 3) := dk_159 3 98 (dk_at dksL_law_16 8 rfl rfl)
theorem dL_law_540 : decode cL_law 540 = .ok (.iconst 0, 1) := dk_3 (dk_at dksL_law_16 11 rfl rfl)
theorem dL_law_541 : decode cL_law 541 = .ok (.ireturn, 1) := dk_172 (dk_at dksL_law_16 12 rfl rfl)
theorem dL_law_542 : decode cL_law 542 = .ok (.aload_n 1, 1) := dk_43 (dk_at dksL_law_16 13 rfl rfl)
theorem dL_law_543 : decode cL_law 543 = .ok (.aload_n 0, 1) := dk_42 (dk_at dksL_law_16 14 rfl rfl)
theorem dL_law_544 : decode cL_law 544 = .ok (.iload 4, 2) := dk_21 4 (dk_at dksL_law_16 15 rfl rfl)
theorem dL_law_546 : decode cL_law 546 = .ok (.iconst 1, 1) := dk_4 (dk_at dksL_law_16 17 rfl rfl)
theorem dL_law_547 : decode cL_law 547 = .ok (.iadd, 1) := dk_96 (dk_at dksL_law_16 18 rfl rfl)
theorem dL_law_548 : decode cL_law 548 = .ok (.iaload, 1) := dk_46 (dk_at dksL_law_16 19 rfl rfl)
theorem dL_law_549 : decode cL_law 549 = .ok (.aload_n 0, 1) := dk_42 (dk_at dksL_law_16 20 rfl rfl)
theorem dL_law_550 : decode cL_law 550 = .ok (.iload 4, 2) := dk_21 4 (dk_at dksL_law_16 21 rfl rfl)
theorem dL_law_552 : decode cL_law 552 = .ok (.iconst 2, 1) := dk_5 (dk_at dksL_law_16 23 rfl rfl)
theorem dL_law_553 : decode cL_law 553 = .ok (.iadd, 1) := dk_96 (dk_at dksL_law_17 0 rfl rfl)
theorem dL_law_554 : decode cL_law 554 = .ok (.iaload, 1) := dk_46 (dk_at dksL_law_17 1 rfl rfl)
theorem dL_law_555 : decode cL_law 555 = .ok (.invokevirtual 62, 3) := dk_182 0 62 (dk_at dksL_law_17 2 rfl rfl)
theorem dL_law_558 : decode cL_law 558 = .ok (.aload_n 2, 1) := dk_44 (dk_at dksL_law_17 5 rfl rfl)
theorem dL_law_559 : decode cL_law 559 = .ok (.aload_n 0, 1) := dk_42 (dk_at dksL_law_17 6 rfl rfl)
theorem dL_law_560 : decode cL_law 560 = .ok (.iload 4, 2) := dk_21 4 (dk_at dksL_law_17 7 rfl rfl)
theorem dL_law_562 : decode cL_law 562 = .ok (.iconst 1, 1) := dk_4 (dk_at dksL_law_17 9 rfl rfl)
theorem dL_law_563 : decode cL_law 563 = .ok (.iadd, 1) := dk_96 (dk_at dksL_law_17 10 rfl rfl)
theorem dL_law_564 : decode cL_law 564 = .ok (.iaload, 1) := dk_46 (dk_at dksL_law_17 11 rfl rfl)
theorem dL_law_565 : decode cL_law 565 = .ok (.aload_n 0, 1) := dk_42 (dk_at dksL_law_17 12 rfl rfl)
theorem dL_law_566 : decode cL_law 566 = .ok (.iload 4, 2) := dk_21 4 (dk_at dksL_law_17 13 rfl rfl)
theorem dL_law_568 : decode cL_law 568 = .ok (.iconst 2, 1) := dk_5 (dk_at dksL_law_17 15 rfl rfl)
theorem dL_law_569 : decode cL_law 569 = .ok (.iadd, 1) := dk_96 (dk_at dksL_law_17 16 rfl rfl)
theorem dL_law_570 : decode cL_law 570 = .ok (.iaload, 1) := dk_46 (dk_at dksL_law_17 17 rfl rfl)
theorem dL_law_571 : decode cL_law 571 = .ok (.invokevirtual 65, 3) := dk_182 0 65 (dk_at dksL_law_17 18 rfl rfl)
theorem dL_law_574 : decode cL_law 574 = .ok (.if_icmp .eq 829, 3) := dk_159 3 61 (dk_at dksL_law_17 21 rfl rfl)
theorem dL_law_577 : decode cL_law 577 = .ok (.iconst 0, 1) := dk_3 (dk_at dksL_law_18 0 rfl rfl)
theorem dL_law_578 : decode cL_law 578 = .ok (.ireturn, 1) := dk_172 (dk_at dksL_law_18 1 rfl rfl)
theorem dL_law_579 : decode cL_law 579 = .ok (.aload_n 1, 1) := dk_43 (dk_at dksL_law_18 2 rfl rfl)
theorem dL_law_580 : decode cL_law 580 = .ok (.aload_n 0, 1) := dk_42 (dk_at dksL_law_18 3 rfl rfl)
theorem dL_law_581 : decode cL_law 581 = .ok (.iload 4, 2) := dk_21 4 (dk_at dksL_law_18 4 rfl rfl)
theorem dL_law_583 : decode cL_law 583 = .ok (.iconst 1, 1) := dk_4 (dk_at dksL_law_18 6 rfl rfl)
theorem dL_law_584 : decode cL_law 584 = .ok (.iadd, 1) := dk_96 (dk_at dksL_law_18 7 rfl rfl)
theorem dL_law_585 : decode cL_law 585 = .ok (.iaload, 1) := dk_46 (dk_at dksL_law_18 8 rfl rfl)
theorem dL_law_586 : decode cL_law 586 = .ok (.aload_n 0, 1) := dk_42 (dk_at dksL_law_18 9 rfl rfl)
theorem dL_law_587 : decode cL_law 587 = .ok (.iload 4, 2) := dk_21 4 (dk_at dksL_law_18 10 rfl rfl)
theorem dL_law_589 : decode cL_law 589 = .ok (.iconst 2, 1) := dk_5 (dk_at dksL_law_18 12 rfl rfl)
theorem dL_law_590 : decode cL_law 590 = .ok (.iadd, 1) := dk_96 (dk_at dksL_law_18 13 rfl rfl)
theorem dL_law_591 : decode cL_law 591 = .ok (.iaload, 1) := dk_46 (dk_at dksL_law_18 14 rfl rfl)
theorem dL_law_592 : decode cL_law 592 = .ok (.invokevirtual 66, 3) := dk_182 0 66 (dk_at dksL_law_18 15 rfl rfl)
theorem dL_law_595 : decode cL_law 595 = .ok (.aload_n 2, 1) := dk_44 (dk_at dksL_law_18 18 rfl rfl)
theorem dL_law_596 : decode cL_law 596 = .ok (.aload_n 0, 1) := dk_42 (dk_at dksL_law_18 19 rfl rfl)
theorem dL_law_597 : decode cL_law 597 = .ok (.iload 4, 2) := dk_21 4 (dk_at dksL_law_18 20 rfl rfl)
theorem dL_law_599 : decode cL_law 599 = .ok (.iconst 1, 1) := dk_4 (dk_at dksL_law_18 22 rfl rfl)
theorem dL_law_600 : decode cL_law 600 = .ok (.iadd, 1) := dk_96 (dk_at dksL_law_18 23 rfl rfl)
theorem dL_law_601 : decode cL_law 601 = .ok (.iaload, 1) := dk_46 (dk_at dksL_law_19 0 rfl rfl)
theorem dL_law_602 : decode cL_law 602 = .ok (.aload_n 0, 1) := dk_42 (dk_at dksL_law_19 1 rfl rfl)
theorem dL_law_603 : decode cL_law 603 = .ok (.iload 4, 2) := dk_21 4 (dk_at dksL_law_19 2 rfl rfl)
theorem dL_law_605 : decode cL_law 605 = .ok (.iconst 2, 1) := dk_5 (dk_at dksL_law_19 4 rfl rfl)
theorem dL_law_606 : decode cL_law 606 = .ok (.iadd, 1) := dk_96 (dk_at dksL_law_19 5 rfl rfl)
theorem dL_law_607 : decode cL_law 607 = .ok (.iaload, 1) := dk_46 (dk_at dksL_law_19 6 rfl rfl)
theorem dL_law_608 : decode cL_law 608 = .ok (.invokevirtual 69, 3) := dk_182 0 69 (dk_at dksL_law_19 7 rfl rfl)
theorem dL_law_611 : decode cL_law 611 = .ok (.if_icmp .eq 792, 3) := dk_159 3 24 (dk_at dksL_law_19 10 rfl rfl)
theorem dL_law_614 : decode cL_law 614 = .ok (.iconst 0, 1) := dk_3 (dk_at dksL_law_19 13 rfl rfl)
theorem dL_law_615 : decode cL_law 615 = .ok (.ireturn, 1) := dk_172 (dk_at dksL_law_19 14 rfl rfl)
theorem dL_law_616 : decode cL_law 616 = .ok (.aload_n 1, 1) := dk_43 (dk_at dksL_law_19 15 rfl rfl)
theorem dL_law_617 : decode cL_law 617 = .ok (.aload_n 0, 1) := dk_42 (dk_at dksL_law_19 16 rfl rfl)
theorem dL_law_618 : decode cL_law 618 = .ok (.iload 4, 2) := dk_21 4 (dk_at dksL_law_19 17 rfl rfl)
theorem dL_law_620 : decode cL_law 620 = .ok (.iconst 1, 1) := dk_4 (dk_at dksL_law_19 19 rfl rfl)
theorem dL_law_621 : decode cL_law 621 = .ok (.iadd, 1) := dk_96 (dk_at dksL_law_19 20 rfl rfl)
theorem dL_law_622 : decode cL_law 622 = .ok (.iaload, 1) := dk_46 (dk_at dksL_law_19 21 rfl rfl)
theorem dL_law_623 : decode cL_law 623 = .ok (.aload_n 0, 1) := dk_42 (dk_at dksL_law_19 22 rfl rfl)
theorem dL_law_624 : decode cL_law 624 = .ok (.iload 4, 2) := dk_21 4 (dk_at dksL_law_20 0 rfl rfl)
theorem dL_law_626 : decode cL_law 626 = .ok (.iconst 2, 1) := dk_5 (dk_at dksL_law_20 2 rfl rfl)
theorem dL_law_627 : decode cL_law 627 = .ok (.iadd, 1) := dk_96 (dk_at dksL_law_20 3 rfl rfl)
theorem dL_law_628 : decode cL_law 628 = .ok (.iaload, 1) := dk_46 (dk_at dksL_law_20 4 rfl rfl)
theorem dL_law_629 : decode cL_law 629 = .ok (.invokevirtual 70, 3) := dk_182 0 70 (dk_at dksL_law_20 5 rfl rfl)
theorem dL_law_632 : decode cL_law 632 = .ok (.aload_n 2, 1) := dk_44 (dk_at dksL_law_20 8 rfl rfl)
theorem dL_law_633 : decode cL_law 633 = .ok (.aload_n 0, 1) := dk_42 (dk_at dksL_law_20 9 rfl rfl)
theorem dL_law_634 : decode cL_law 634 = .ok (.iload 4, 2) := dk_21 4 (dk_at dksL_law_20 10 rfl rfl)
theorem dL_law_636 : decode cL_law 636 = .ok (.iconst 1, 1) := dk_4 (dk_at dksL_law_20 12 rfl rfl)
theorem dL_law_637 : decode cL_law 637 = .ok (.iadd, 1) := dk_96 (dk_at dksL_law_20 13 rfl rfl)
theorem dL_law_638 : decode cL_law 638 = .ok (.iaload, 1) := dk_46 (dk_at dksL_law_20 14 rfl rfl)
theorem dL_law_639 : decode cL_law 639 = .ok (.aload_n 0, 1) := dk_42 (dk_at dksL_law_20 15 rfl rfl)
theorem dL_law_640 : decode cL_law 640 = .ok (.iload 4, 2) := dk_21 4 (dk_at dksL_law_20 16 rfl rfl)
theorem dL_law_642 : decode cL_law 642 = .ok (.iconst 2, 1) := dk_5 (dk_at dksL_law_20 18 rfl rfl)
theorem dL_law_643 : decode cL_law 643 = .ok (.iadd, 1) := dk_96 (dk_at dksL_law_20 19 rfl rfl)
theorem dL_law_644 : decode cL_law 644 = .ok (.iaload, 1) := dk_46 (dk_at dksL_law_20 20 rfl rfl)
theorem dL_law_645 : decode cL_law 645 = .ok (.invokevirtual 73, 3) := dk_182 0 73 (dk_at dksL_law_20 21 rfl rfl)
theorem dL_law_648 : decode cL_law 648 = .ok (.if_icmp .eq 755, 3) := dk_159 2 243 (dk_at dksL_law_21 0 rfl rfl)
theorem dL_law_651 : decode cL_law 651 = .ok (.iconst 0, 1) := dk_3 (dk_at dksL_law_21 3 rfl rfl)
theorem dL_law_652 : decode cL_law 652 = .ok (.ireturn, 1) := dk_172 (dk_at dksL_law_21 4 rfl rfl)
theorem dL_law_653 : decode cL_law 653 = .ok (.aload_n 1, 1) := dk_43 (dk_at dksL_law_21 5 rfl rfl)
theorem dL_law_654 : decode cL_law 654 = .ok (.aload_n 0, 1) := dk_42 (dk_at dksL_law_21 6 rfl rfl)
theorem dL_law_655 : decode cL_law 655 = .ok (.iload 4, 2) := dk_21 4 (dk_at dksL_law_21 7 rfl rfl)
theorem dL_law_657 : decode cL_law 657 = .ok (.iconst 1, 1) := dk_4 (dk_at dksL_law_21 9 rfl rfl)
theorem dL_law_658 : decode cL_law 658 = .ok (.iadd, 1) := dk_96 (dk_at dksL_law_21 10 rfl rfl)
theorem dL_law_659 : decode cL_law 659 = .ok (.iaload, 1) := dk_46 (dk_at dksL_law_21 11 rfl rfl)
theorem dL_law_660 : decode cL_law 660 = .ok (.invokevirtual 74, 3) := dk_182 0 74 (dk_at dksL_law_21 12 rfl rfl)
theorem dL_law_663 : decode cL_law 663 = .ok (.aload_n 2, 1) := dk_44 (dk_at dksL_law_21 15 rfl rfl)
theorem dL_law_664 : decode cL_law 664 = .ok (.aload_n 0, 1) := dk_42 (dk_at dksL_law_21 16 rfl rfl)
theorem dL_law_665 : decode cL_law 665 = .ok (.iload 4, 2) := dk_21 4 (dk_at dksL_law_21 17 rfl rfl)
theorem dL_law_667 : decode cL_law 667 = .ok (.iconst 1, 1) := dk_4 (dk_at dksL_law_21 19 rfl rfl)
theorem dL_law_668 : decode cL_law 668 = .ok (.iadd, 1) := dk_96 (dk_at dksL_law_21 20 rfl rfl)
theorem dL_law_669 : decode cL_law 669 = .ok (.iaload, 1) := dk_46 (dk_at dksL_law_21 21 rfl rfl)
theorem dL_law_670 : decode cL_law 670 = .ok (.invokevirtual 77, 3) := dk_182 0 77 (dk_at dksL_law_22 0 rfl rfl)
theorem dL_law_673 : decode cL_law 673 = .ok (.if_icmp .eq 730, 3) := dk_159 2 218 (dk_at dksL_law_22 3 rfl rfl)
theorem dL_law_676 : decode cL_law 676 = .ok (.iconst 0, 1) := dk_3 (dk_at dksL_law_22 6 rfl rfl)
theorem dL_law_677 : decode cL_law 677 = .ok (.ireturn, 1) := dk_172 (dk_at dksL_law_22 7 rfl rfl)
theorem dL_law_678 : decode cL_law 678 = .ok (.aload_n 1, 1) := dk_43 (dk_at dksL_law_22 8 rfl rfl)
theorem dL_law_679 : decode cL_law 679 = .ok (.aload_n 0, 1) := dk_42 (dk_at dksL_law_22 9 rfl rfl)
theorem dL_law_680 : decode cL_law 680 = .ok (.iload 4, 2) := dk_21 4 (dk_at dksL_law_22 10 rfl rfl)
theorem dL_law_682 : decode cL_law 682 = .ok (.iconst 1, 1) := dk_4 (dk_at dksL_law_22 12 rfl rfl)
theorem dL_law_683 : decode cL_law 683 = .ok (.iadd, 1) := dk_96 (dk_at dksL_law_22 13 rfl rfl)
theorem dL_law_684 : decode cL_law 684 = .ok (.iaload, 1) := dk_46 (dk_at dksL_law_22 14 rfl rfl)
theorem dL_law_685 : decode cL_law 685 = .ok (.invokevirtual 78, 3) := dk_182 0 78 (dk_at dksL_law_22 15 rfl rfl)
theorem dL_law_688 : decode cL_law 688 = .ok (.aload_n 2, 1) := dk_44 (dk_at dksL_law_22 18 rfl rfl)
theorem dL_law_689 : decode cL_law 689 = .ok (.aload_n 0, 1) := dk_42 (dk_at dksL_law_22 19 rfl rfl)
theorem dL_law_690 : decode cL_law 690 = .ok (.iload 4, 2) := dk_21 4 (dk_at dksL_law_22 20 rfl rfl)
theorem dL_law_692 : decode cL_law 692 = .ok (.iconst 1, 1) := dk_4 (dk_at dksL_law_22 22 rfl rfl)
theorem dL_law_693 : decode cL_law 693 = .ok (.iadd, 1) := dk_96 (dk_at dksL_law_22 23 rfl rfl)
theorem dL_law_694 : decode cL_law 694 = .ok (.iaload, 1) := dk_46 (dk_at dksL_law_23 0 rfl rfl)
theorem dL_law_695 : decode cL_law 695 = .ok (.invokevirtual 81, 3) := dk_182 0 81 (dk_at dksL_law_23 1 rfl rfl)
theorem dL_law_698 : decode cL_law 698 = .ok (.if_icmp .eq 705, 3) := dk_159 2 193 (dk_at dksL_law_23 4 rfl rfl)
theorem dL_law_701 : decode cL_law 701 = .ok (.iconst 0, 1) := dk_3 (dk_at dksL_law_23 7 rfl rfl)
theorem dL_law_702 : decode cL_law 702 = .ok (.ireturn, 1) := dk_172 (dk_at dksL_law_23 8 rfl rfl)
theorem dL_law_703 : decode cL_law 703 = .ok (.aload_n 1, 1) := dk_43 (dk_at dksL_law_23 9 rfl rfl)
theorem dL_law_704 : decode cL_law 704 = .ok (.invokevirtual 82, 3) := dk_182 0 82 (dk_at dksL_law_23 10 rfl rfl)
theorem dL_law_707 : decode cL_law 707 = .ok (.aload_n 2, 1) := dk_44 (dk_at dksL_law_23 13 rfl rfl)
theorem dL_law_708 : decode cL_law 708 = .ok (.invokevirtual 85, 3) := dk_182 0 85 (dk_at dksL_law_23 14 rfl rfl)
theorem dL_law_711 : decode cL_law 711 = .ok (.if_icmp .eq 692, 3) := dk_159 2 180 (dk_at dksL_law_23 17 rfl rfl)
theorem dL_law_714 : decode cL_law 714 = .ok (.iconst 0, 1) := dk_3 (dk_at dksL_law_23 20 rfl rfl)
theorem dL_law_715 : decode cL_law 715 = .ok (.ireturn, 1) := dk_172 (dk_at dksL_law_23 21 rfl rfl)
theorem dL_law_716 : decode cL_law 716 = .ok (.aload_n 1, 1) := dk_43 (dk_at dksL_law_23 22 rfl rfl)
theorem dL_law_717 : decode cL_law 717 = .ok (.aload_n 0, 1) := dk_42 (dk_at dksL_law_23 23 rfl rfl)
theorem dL_law_718 : decode cL_law 718 = .ok (.iload 4, 2) := dk_21 4 (dk_at dksL_law_24 0 rfl rfl)
theorem dL_law_720 : decode cL_law 720 = .ok (.iconst 1, 1) := dk_4 (dk_at dksL_law_24 2 rfl rfl)
theorem dL_law_721 : decode cL_law 721 = .ok (.iadd, 1) := dk_96 (dk_at dksL_law_24 3 rfl rfl)
theorem dL_law_722 : decode cL_law 722 = .ok (.iaload, 1) := dk_46 (dk_at dksL_law_24 4 rfl rfl)
theorem dL_law_723 : decode cL_law 723 = .ok (.aload_n 0, 1) := dk_42 (dk_at dksL_law_24 5 rfl rfl)
theorem dL_law_724 : decode cL_law 724 = .ok (.iload 4, 2) := dk_21 4 (dk_at dksL_law_24 6 rfl rfl)
theorem dL_law_726 : decode cL_law 726 = .ok (.iconst 2, 1) := dk_5 (dk_at dksL_law_24 8 rfl rfl)
theorem dL_law_727 : decode cL_law 727 = .ok (.iadd, 1) := dk_96 (dk_at dksL_law_24 9 rfl rfl)
theorem dL_law_728 : decode cL_law 728 = .ok (.iaload, 1) := dk_46 (dk_at dksL_law_24 10 rfl rfl)
theorem dL_law_729 : decode cL_law 729 = .ok (.invokevirtual 86, 3) := dk_182 0 86 (dk_at dksL_law_24 11 rfl rfl)
theorem dL_law_732 : decode cL_law 732 = .ok (.aload_n 2, 1) := dk_44 (dk_at dksL_law_24 14 rfl rfl)
theorem dL_law_733 : decode cL_law 733 = .ok (.aload_n 0, 1) := dk_42 (dk_at dksL_law_24 15 rfl rfl)
theorem dL_law_734 : decode cL_law 734 = .ok (.iload 4, 2) := dk_21 4 (dk_at dksL_law_24 16 rfl rfl)
theorem dL_law_736 : decode cL_law 736 = .ok (.iconst 1, 1) := dk_4 (dk_at dksL_law_24 18 rfl rfl)
theorem dL_law_737 : decode cL_law 737 = .ok (.iadd, 1) := dk_96 (dk_at dksL_law_24 19 rfl rfl)
theorem dL_law_738 : decode cL_law 738 = .ok (.iaload, 1) := dk_46 (dk_at dksL_law_24 20 rfl rfl)
theorem dL_law_739 : decode cL_law 739 = .ok (.aload_n 0, 1) := dk_42 (dk_at dksL_law_24 21 rfl rfl)
theorem dL_law_740 : decode cL_law 740 = .ok (.iload 4, 2) := dk_21 4 (dk_at dksL_law_24 22 rfl rfl)
theorem dL_law_742 : decode cL_law 742 = .ok (.iconst 2, 1) := dk_5 (dk_at dksL_law_25 0 rfl rfl)
theorem dL_law_743 : decode cL_law 743 = .ok (.iadd, 1) := dk_96 (dk_at dksL_law_25 1 rfl rfl)
theorem dL_law_744 : decode cL_law 744 = .ok (.iaload, 1) := dk_46 (dk_at dksL_law_25 2 rfl rfl)
theorem dL_law_745 : decode cL_law 745 = .ok (.invokevirtual 89, 3) := dk_182 0 89 (dk_at dksL_law_25 3 rfl rfl)
theorem dL_law_748 : decode cL_law 748 = .ok (.if_icmp .eq 655, 3) := dk_159 2 143 (dk_at dksL_law_25 6 rfl rfl)
theorem dL_law_751 : decode cL_law 751 = .ok (.iconst 0, 1) := dk_3 (dk_at dksL_law_25 9 rfl rfl)
theorem dL_law_752 : decode cL_law 752 = .ok (.ireturn, 1) := dk_172 (dk_at dksL_law_25 10 rfl rfl)
theorem dL_law_753 : decode cL_law 753 = .ok (.aload_n 1, 1) := dk_43 (dk_at dksL_law_25 11 rfl rfl)
theorem dL_law_754 : decode cL_law 754 = .ok (.invokevirtual 90, 3) := dk_182 0 90 (dk_at dksL_law_25 12 rfl rfl)
theorem dL_law_757 : decode cL_law 757 = .ok (.aload_n 2, 1) := dk_44 (dk_at dksL_law_25 15 rfl rfl)
theorem dL_law_758 : decode cL_law 758 = .ok (.invokevirtual 93, 3) := dk_182 0 93 (dk_at dksL_law_25 16 rfl rfl)
theorem dL_law_761 : decode cL_law 761 = .ok (.if_icmp .eq 642, 3) := dk_159 2 130 (dk_at dksL_law_25 19 rfl rfl)
theorem dL_law_764 : decode cL_law 764 = .ok (.iconst 0, 1) := dk_3 (dk_at dksL_law_25 22 rfl rfl)
theorem dL_law_765 : decode cL_law 765 = .ok (.ireturn, 1) := dk_172 (dk_at dksL_law_25 23 rfl rfl)
theorem dL_law_766 : decode cL_law 766 = .ok (.aload_n 1, 1) := dk_43 (dk_at dksL_law_26 0 rfl rfl)
theorem dL_law_767 : decode cL_law 767 = .ok (.aload_n 0, 1) := dk_42 (dk_at dksL_law_26 1 rfl rfl)
theorem dL_law_768 : decode cL_law 768 = .ok (.iload 4, 2) := dk_21 4 (dk_at dksL_law_26 2 rfl rfl)
theorem dL_law_770 : decode cL_law 770 = .ok (.iconst 1, 1) := dk_4 (dk_at dksL_law_26 4 rfl rfl)
theorem dL_law_771 : decode cL_law 771 = .ok (.iadd, 1) := dk_96 (dk_at dksL_law_26 5 rfl rfl)
theorem dL_law_772 : decode cL_law 772 = .ok (.iaload, 1) := dk_46 (dk_at dksL_law_26 6 rfl rfl)
theorem dL_law_773 : decode cL_law 773 = .ok (.aload_n 0, 1) := dk_42 (dk_at dksL_law_26 7 rfl rfl)
theorem dL_law_774 : decode cL_law 774 = .ok (.iload 4, 2) := dk_21 4 (dk_at dksL_law_26 8 rfl rfl)
theorem dL_law_776 : decode cL_law 776 = .ok (.iconst 2, 1) := dk_5 (dk_at dksL_law_26 10 rfl rfl)
theorem dL_law_777 : decode cL_law 777 = .ok (.iadd, 1) := dk_96 (dk_at dksL_law_26 11 rfl rfl)
theorem dL_law_778 : decode cL_law 778 = .ok (.iaload, 1) := dk_46 (dk_at dksL_law_26 12 rfl rfl)
theorem dL_law_779 : decode cL_law 779 = .ok (.aload_n 0, 1) := dk_42 (dk_at dksL_law_26 13 rfl rfl)
theorem dL_law_780 : decode cL_law 780 = .ok (.iload 4, 2) := dk_21 4 (dk_at dksL_law_26 14 rfl rfl)
theorem dL_law_782 : decode cL_law 782 = .ok (.iconst 3, 1) := dk_6 (dk_at dksL_law_26 16 rfl rfl)
theorem dL_law_783 : decode cL_law 783 = .ok (.iadd, 1) := dk_96 (dk_at dksL_law_26 17 rfl rfl)
theorem dL_law_784 : decode cL_law 784 = .ok (.iaload, 1) := dk_46 (dk_at dksL_law_26 18 rfl rfl)
theorem dL_law_785 : decode cL_law 785 = .ok (.aload_n 0, 1) := dk_42 (dk_at dksL_law_26 19 rfl rfl)
theorem dL_law_786 : decode cL_law 786 = .ok (.iload 4, 2) := dk_21 4 (dk_at dksL_law_26 20 rfl rfl)
theorem dL_law_788 : decode cL_law 788 = .ok (.iconst 4, 1) := dk_7 (dk_at dksL_law_26 22 rfl rfl)
theorem dL_law_789 : decode cL_law 789 = .ok (.iadd, 1) := dk_96 (dk_at dksL_law_26 23 rfl rfl)
theorem dL_law_790 : decode cL_law 790 = .ok (.iaload, 1) := dk_46 (dk_at dksL_law_27 0 rfl rfl)
theorem dL_law_791 : decode cL_law 791 = .ok (.invokevirtual 94, 3) := dk_182 0 94 (dk_at dksL_law_27 1 rfl rfl)
theorem dL_law_794 : decode cL_law 794 = .ok (.aload_n 2, 1) := dk_44 (dk_at dksL_law_27 4 rfl rfl)
theorem dL_law_795 : decode cL_law 795 = .ok (.aload_n 0, 1) := dk_42 (dk_at dksL_law_27 5 rfl rfl)
theorem dL_law_796 : decode cL_law 796 = .ok (.iload 4, 2) := dk_21 4 (dk_at dksL_law_27 6 rfl rfl)
theorem dL_law_798 : decode cL_law 798 = .ok (.iconst 1, 1) := dk_4 (dk_at dksL_law_27 8 rfl rfl)
theorem dL_law_799 : decode cL_law 799 = .ok (.iadd, 1) := dk_96 (dk_at dksL_law_27 9 rfl rfl)
theorem dL_law_800 : decode cL_law 800 = .ok (.iaload, 1) := dk_46 (dk_at dksL_law_27 10 rfl rfl)
theorem dL_law_801 : decode cL_law 801 = .ok (.aload_n 0, 1) := dk_42 (dk_at dksL_law_27 11 rfl rfl)
theorem dL_law_802 : decode cL_law 802 = .ok (.iload 4, 2) := dk_21 4 (dk_at dksL_law_27 12 rfl rfl)
theorem dL_law_804 : decode cL_law 804 = .ok (.iconst 2, 1) := dk_5 (dk_at dksL_law_27 14 rfl rfl)
theorem dL_law_805 : decode cL_law 805 = .ok (.iadd, 1) := dk_96 (dk_at dksL_law_27 15 rfl rfl)
theorem dL_law_806 : decode cL_law 806 = .ok (.iaload, 1) := dk_46 (dk_at dksL_law_27 16 rfl rfl)
theorem dL_law_807 : decode cL_law 807 = .ok (.aload_n 0, 1) := dk_42 (dk_at dksL_law_27 17 rfl rfl)
theorem dL_law_808 : decode cL_law 808 = .ok (.iload 4, 2) := dk_21 4 (dk_at dksL_law_27 18 rfl rfl)
theorem dL_law_810 : decode cL_law 810 = .ok (.iconst 3, 1) := dk_6 (dk_at dksL_law_27 20 rfl rfl)
theorem dL_law_811 : decode cL_law 811 = .ok (.iadd, 1) := dk_96 (dk_at dksL_law_27 21 rfl rfl)
theorem dL_law_812 : decode cL_law 812 = .ok (.iaload, 1) := dk_46 (dk_at dksL_law_27 22 rfl rfl)
theorem dL_law_813 : decode cL_law 813 = .ok (.aload_n 0, 1) := dk_42 (dk_at dksL_law_27 23 rfl rfl)
theorem dL_law_814 : decode cL_law 814 = .ok (.iload 4, 2) := dk_21 4 (dk_at dksL_law_28 0 rfl rfl)
theorem dL_law_816 : decode cL_law 816 = .ok (.iconst 4, 1) := dk_7 (dk_at dksL_law_28 2 rfl rfl)
theorem dL_law_817 : decode cL_law 817 = .ok (.iadd, 1) := dk_96 (dk_at dksL_law_28 3 rfl rfl)
theorem dL_law_818 : decode cL_law 818 = .ok (.iaload, 1) := dk_46 (dk_at dksL_law_28 4 rfl rfl)
theorem dL_law_819 : decode cL_law 819 = .ok (.invokevirtual 98, 3) := dk_182 0 98 (dk_at dksL_law_28 5 rfl rfl)
theorem dL_law_822 : decode cL_law 822 = .ok (.if_icmp .eq 581, 3) := dk_159 2 69 (dk_at dksL_law_28 8 rfl rfl)
theorem dL_law_825 : decode cL_law 825 = .ok (.iconst 0, 1) := dk_3 (dk_at dksL_law_28 11 rfl rfl)
theorem dL_law_826 : decode cL_law 826 = .ok (.ireturn, 1) := dk_172 (dk_at dksL_law_28 12 rfl rfl)
theorem dL_law_827 : decode cL_law 827 = .ok (.aload_n 1, 1) := dk_43 (dk_at dksL_law_28 13 rfl rfl)
theorem dL_law_828 : decode cL_law 828 = .ok (.invokevirtual 99, 3) := dk_182 0 99 (dk_at dksL_law_28 14 rfl rfl)
theorem dL_law_831 : decode cL_law 831 = .ok (.aload_n 2, 1) := dk_44 (dk_at dksL_law_28 17 rfl rfl)
theorem dL_law_832 : decode cL_law 832 = .ok (.invokevirtual 102, 3) := dk_182 0 102 (dk_at dksL_law_28 18 rfl rfl)
theorem dL_law_835 : decode cL_law 835 = .ok (.if_icmp .eq 568, 3) := dk_159 2 56 (dk_at dksL_law_28 21 rfl rfl)
theorem dL_law_838 : decode cL_law 838 = .ok (.iconst 0, 1) := dk_3 (dk_at dksL_law_29 0 rfl rfl)
theorem dL_law_839 : decode cL_law 839 = .ok (.ireturn, 1) := dk_172 (dk_at dksL_law_29 1 rfl rfl)
theorem dL_law_840 : decode cL_law 840 = .ok (.aload_n 1, 1) := dk_43 (dk_at dksL_law_29 2 rfl rfl)
theorem dL_law_841 : decode cL_law 841 = .ok (.aload_n 0, 1) := dk_42 (dk_at dksL_law_29 3 rfl rfl)
theorem dL_law_842 : decode cL_law 842 = .ok (.iload 4, 2) := dk_21 4 (dk_at dksL_law_29 4 rfl rfl)
theorem dL_law_844 : decode cL_law 844 = .ok (.iconst 1, 1) := dk_4 (dk_at dksL_law_29 6 rfl rfl)
theorem dL_law_845 : decode cL_law 845 = .ok (.iadd, 1) := dk_96 (dk_at dksL_law_29 7 rfl rfl)
theorem dL_law_846 : decode cL_law 846 = .ok (.iaload, 1) := dk_46 (dk_at dksL_law_29 8 rfl rfl)
theorem dL_law_847 : decode cL_law 847 = .ok (.invokevirtual 103, 3) := dk_182 0 103 (dk_at dksL_law_29 9 rfl rfl)
theorem dL_law_850 : decode cL_law 850 = .ok (.aload_n 2, 1) := dk_44 (dk_at dksL_law_29 12 rfl rfl)
theorem dL_law_851 : decode cL_law 851 = .ok (.aload_n 0, 1) := dk_42 (dk_at dksL_law_29 13 rfl rfl)
theorem dL_law_852 : decode cL_law 852 = .ok (.iload 4, 2) := dk_21 4 (dk_at dksL_law_29 14 rfl rfl)
theorem dL_law_854 : decode cL_law 854 = .ok (.iconst 1, 1) := dk_4 (dk_at dksL_law_29 16 rfl rfl)
theorem dL_law_855 : decode cL_law 855 = .ok (.iadd, 1) := dk_96 (dk_at dksL_law_29 17 rfl rfl)
theorem dL_law_856 : decode cL_law 856 = .ok (.iaload, 1) := dk_46 (dk_at dksL_law_29 18 rfl rfl)
theorem dL_law_857 : decode cL_law 857 = .ok (.invokevirtual 106, 3) := dk_182 0 106 (dk_at dksL_law_29 19 rfl rfl)
theorem dL_law_860 : decode cL_law 860 = .ok (.if_icmp .eq 543, 3) := dk_159 2 31 (dk_at dksL_law_30 0 rfl rfl)
theorem dL_law_863 : decode cL_law 863 = .ok (.iconst 0, 1) := dk_3 (dk_at dksL_law_30 3 rfl rfl)
theorem dL_law_864 : decode cL_law 864 = .ok (.ireturn, 1) := dk_172 (dk_at dksL_law_30 4 rfl rfl)
theorem dL_law_865 : decode cL_law 865 = .ok (.aload_n 1, 1) := dk_43 (dk_at dksL_law_30 5 rfl rfl)
theorem dL_law_866 : decode cL_law 866 = .ok (.aload_n 0, 1) := dk_42 (dk_at dksL_law_30 6 rfl rfl)
theorem dL_law_867 : decode cL_law 867 = .ok (.iload 4, 2) := dk_21 4 (dk_at dksL_law_30 7 rfl rfl)
theorem dL_law_869 : decode cL_law 869 = .ok (.iconst 1, 1) := dk_4 (dk_at dksL_law_30 9 rfl rfl)
theorem dL_law_870 : decode cL_law 870 = .ok (.iadd, 1) := dk_96 (dk_at dksL_law_30 10 rfl rfl)
theorem dL_law_871 : decode cL_law 871 = .ok (.iaload, 1) := dk_46 (dk_at dksL_law_30 11 rfl rfl)
theorem dL_law_872 : decode cL_law 872 = .ok (.invokevirtual 107, 3) := dk_182 0 107 (dk_at dksL_law_30 12 rfl rfl)
theorem dL_law_875 : decode cL_law 875 = .ok (.aload_n 2, 1) := dk_44 (dk_at dksL_law_30 15 rfl rfl)
theorem dL_law_876 : decode cL_law 876 = .ok (.aload_n 0, 1) := dk_42 (dk_at dksL_law_30 16 rfl rfl)
theorem dL_law_877 : decode cL_law 877 = .ok (.iload 4, 2) := dk_21 4 (dk_at dksL_law_30 17 rfl rfl)
theorem dL_law_879 : decode cL_law 879 = .ok (.iconst 1, 1) := dk_4 (dk_at dksL_law_30 19 rfl rfl)
theorem dL_law_880 : decode cL_law 880 = .ok (.iadd, 1) := dk_96 (dk_at dksL_law_30 20 rfl rfl)
theorem dL_law_881 : decode cL_law 881 = .ok (.iaload, 1) := dk_46 (dk_at dksL_law_30 21 rfl rfl)
theorem dL_law_882 : decode cL_law 882 = .ok (.invokevirtual 110, 3) := dk_182 0 110 (dk_at dksL_law_31 0 rfl rfl)
theorem dL_law_885 : decode cL_law 885 = .ok (.if_icmp .eq 518, 3) := dk_159 2 6 (dk_at dksL_law_31 3 rfl rfl)
theorem dL_law_888 : decode cL_law 888 = .ok (.iconst 0, 1) := dk_3 (dk_at dksL_law_31 6 rfl rfl)
theorem dL_law_889 : decode cL_law 889 = .ok (.ireturn, 1) := dk_172 (dk_at dksL_law_31 7 rfl rfl)
theorem dL_law_890 : decode cL_law 890 = .ok (.aload_n 1, 1) := dk_43 (dk_at dksL_law_31 8 rfl rfl)
theorem dL_law_891 : decode cL_law 891 = .ok (.aload_n 0, 1) := dk_42 (dk_at dksL_law_31 9 rfl rfl)
theorem dL_law_892 : decode cL_law 892 = .ok (.iload 4, 2) := dk_21 4 (dk_at dksL_law_31 10 rfl rfl)
theorem dL_law_894 : decode cL_law 894 = .ok (.iconst 1, 1) := dk_4 (dk_at dksL_law_31 12 rfl rfl)
theorem dL_law_895 : decode cL_law 895 = .ok (.iadd, 1) := dk_96 (dk_at dksL_law_31 13 rfl rfl)
theorem dL_law_896 : decode cL_law 896 = .ok (.iaload, 1) := dk_46 (dk_at dksL_law_31 14 rfl rfl)
theorem dL_law_897 : decode cL_law 897 = .ok (.invokevirtual 111, 3) := dk_182 0 111 (dk_at dksL_law_31 15 rfl rfl)
theorem dL_law_900 : decode cL_law 900 = .ok (.aload_n 2, 1) := dk_44 (dk_at dksL_law_31 18 rfl rfl)
theorem dL_law_901 : decode cL_law 901 = .ok (.aload_n 0, 1) := dk_42 (dk_at dksL_law_31 19 rfl rfl)
theorem dL_law_902 : decode cL_law 902 = .ok (.iload 4, 2) := dk_21 4 (dk_at dksL_law_31 20 rfl rfl)
theorem dL_law_904 : decode cL_law 904 = .ok (.iconst 1, 1) := dk_4 (dk_at dksL_law_31 22 rfl rfl)
theorem dL_law_905 : decode cL_law 905 = .ok (.iadd, 1) := dk_96 (dk_at dksL_law_31 23 rfl rfl)
theorem dL_law_906 : decode cL_law 906 = .ok (.iaload, 1) := dk_46 (dk_at dksL_law_32 0 rfl rfl)
theorem dL_law_907 : decode cL_law 907 = .ok (.invokevirtual 114, 3) := dk_182 0 114 (dk_at dksL_law_32 1 rfl rfl)
theorem dL_law_910 : decode cL_law 910 = .ok (.if_icmp .eq 493, 3) := dk_159 1 237 (dk_at dksL_law_32 4 rfl rfl)
theorem dL_law_913 : decode cL_law 913 = .ok (.iconst 0, 1) := dk_3 (dk_at dksL_law_32 7 rfl rfl)
theorem dL_law_914 : decode cL_law 914 = .ok (.ireturn, 1) := dk_172 (dk_at dksL_law_32 8 rfl rfl)
theorem dL_law_915 : decode cL_law 915 = .ok (.aload_n 1, 1) := dk_43 (dk_at dksL_law_32 9 rfl rfl)
theorem dL_law_916 : decode cL_law 916 = .ok (.aload_n 0, 1) := dk_42 (dk_at dksL_law_32 10 rfl rfl)
theorem dL_law_917 : decode cL_law 917 = .ok (.iload 4, 2) := dk_21 4 (dk_at dksL_law_32 11 rfl rfl)
theorem dL_law_919 : decode cL_law 919 = .ok (.iconst 1, 1) := dk_4 (dk_at dksL_law_32 13 rfl rfl)
theorem dL_law_920 : decode cL_law 920 = .ok (.iadd, 1) := dk_96 (dk_at dksL_law_32 14 rfl rfl)
theorem dL_law_921 : decode cL_law 921 = .ok (.iaload, 1) := dk_46 (dk_at dksL_law_32 15 rfl rfl)
theorem dL_law_922 : decode cL_law 922 = .ok (.aload_n 0, 1) := dk_42 (dk_at dksL_law_32 16 rfl rfl)
theorem dL_law_923 : decode cL_law 923 = .ok (.iload 4, 2) := dk_21 4 (dk_at dksL_law_32 17 rfl rfl)
theorem dL_law_925 : decode cL_law 925 = .ok (.iconst 2, 1) := dk_5 (dk_at dksL_law_32 19 rfl rfl)
theorem dL_law_926 : decode cL_law 926 = .ok (.iadd, 1) := dk_96 (dk_at dksL_law_32 20 rfl rfl)
theorem dL_law_927 : decode cL_law 927 = .ok (.iaload, 1) := dk_46 (dk_at dksL_law_32 21 rfl rfl)
theorem dL_law_928 : decode cL_law 928 = .ok (.invokevirtual 115, 3) := dk_182 0 115 (dk_at dksL_law_33 0 rfl rfl)
theorem dL_law_931 : decode cL_law 931 = .ok (.aload_n 2, 1) := dk_44 (dk_at dksL_law_33 3 rfl rfl)
theorem dL_law_932 : decode cL_law 932 = .ok (.aload_n 0, 1) := dk_42 (dk_at dksL_law_33 4 rfl rfl)
theorem dL_law_933 : decode cL_law 933 = .ok (.iload 4, 2) := dk_21 4 (dk_at dksL_law_33 5 rfl rfl)
theorem dL_law_935 : decode cL_law 935 = .ok (.iconst 1, 1) := dk_4 (dk_at dksL_law_33 7 rfl rfl)
theorem dL_law_936 : decode cL_law 936 = .ok (.iadd, 1) := dk_96 (dk_at dksL_law_33 8 rfl rfl)
theorem dL_law_937 : decode cL_law 937 = .ok (.iaload, 1) := dk_46 (dk_at dksL_law_33 9 rfl rfl)
theorem dL_law_938 : decode cL_law 938 = .ok (.aload_n 0, 1) := dk_42 (dk_at dksL_law_33 10 rfl rfl)
theorem dL_law_939 : decode cL_law 939 = .ok (.iload 4, 2) := dk_21 4 (dk_at dksL_law_33 11 rfl rfl)
theorem dL_law_941 : decode cL_law 941 = .ok (.iconst 2, 1) := dk_5 (dk_at dksL_law_33 13 rfl rfl)
theorem dL_law_942 : decode cL_law 942 = .ok (.iadd, 1) := dk_96 (dk_at dksL_law_33 14 rfl rfl)
theorem dL_law_943 : decode cL_law 943 = .ok (.iaload, 1) := dk_46 (dk_at dksL_law_33 15 rfl rfl)
theorem dL_law_944 : decode cL_law 944 = .ok (.invokevirtual 118, 3) := dk_182 0 118 (dk_at dksL_law_33 16 rfl rfl)
theorem dL_law_947 : decode cL_law 947 = .ok (.if_icmp .eq 456, 3) := dk_159 1 200 (dk_at dksL_law_33 19 rfl rfl)
theorem dL_law_950 : decode cL_law 950 = .ok (.iconst 0, 1) := dk_3 (dk_at dksL_law_33 22 rfl rfl)
theorem dL_law_951 : decode cL_law 951 = .ok (.ireturn, 1) := dk_172 (dk_at dksL_law_33 23 rfl rfl)
theorem dL_law_952 : decode cL_law 952 = .ok (.aload_n 1, 1) := dk_43 (dk_at dksL_law_34 0 rfl rfl)
theorem dL_law_953 : decode cL_law 953 = .ok (.aload_n 0, 1) := dk_42 (dk_at dksL_law_34 1 rfl rfl)
theorem dL_law_954 : decode cL_law 954 = .ok (.iload 4, 2) := dk_21 4 (dk_at dksL_law_34 2 rfl rfl)
theorem dL_law_956 : decode cL_law 956 = .ok (.iconst 1, 1) := dk_4 (dk_at dksL_law_34 4 rfl rfl)
theorem dL_law_957 : decode cL_law 957 = .ok (.iadd, 1) := dk_96 (dk_at dksL_law_34 5 rfl rfl)
theorem dL_law_958 : decode cL_law 958 = .ok (.iaload, 1) := dk_46 (dk_at dksL_law_34 6 rfl rfl)
theorem dL_law_959 : decode cL_law 959 = .ok (.aload_n 0, 1) := dk_42 (dk_at dksL_law_34 7 rfl rfl)
theorem dL_law_960 : decode cL_law 960 = .ok (.iload 4, 2) := dk_21 4 (dk_at dksL_law_34 8 rfl rfl)
theorem dL_law_962 : decode cL_law 962 = .ok (.iconst 2, 1) := dk_5 (dk_at dksL_law_34 10 rfl rfl)
theorem dL_law_963 : decode cL_law 963 = .ok (.iadd, 1) := dk_96 (dk_at dksL_law_34 11 rfl rfl)
theorem dL_law_964 : decode cL_law 964 = .ok (.iaload, 1) := dk_46 (dk_at dksL_law_34 12 rfl rfl)
theorem dL_law_965 : decode cL_law 965 = .ok (.invokevirtual 119, 3) := dk_182 0 119 (dk_at dksL_law_34 13 rfl rfl)
theorem dL_law_968 : decode cL_law 968 = .ok (.aload_n 2, 1) := dk_44 (dk_at dksL_law_34 16 rfl rfl)
theorem dL_law_969 : decode cL_law 969 = .ok (.aload_n 0, 1) := dk_42 (dk_at dksL_law_34 17 rfl rfl)
theorem dL_law_970 : decode cL_law 970 = .ok (.iload 4, 2) := dk_21 4 (dk_at dksL_law_34 18 rfl rfl)
theorem dL_law_972 : decode cL_law 972 = .ok (.iconst 1, 1) := dk_4 (dk_at dksL_law_34 20 rfl rfl)
theorem dL_law_973 : decode cL_law 973 = .ok (.iadd, 1) := dk_96 (dk_at dksL_law_34 21 rfl rfl)
theorem dL_law_974 : decode cL_law 974 = .ok (.iaload, 1) := dk_46 (dk_at dksL_law_34 22 rfl rfl)
theorem dL_law_975 : decode cL_law 975 = .ok (.aload_n 0, 1) := dk_42 (dk_at dksL_law_34 23 rfl rfl)
theorem dL_law_976 : decode cL_law 976 = .ok (.iload 4, 2) := dk_21 4 (dk_at dksL_law_35 0 rfl rfl)
theorem dL_law_978 : decode cL_law 978 = .ok (.iconst 2, 1) := dk_5 (dk_at dksL_law_35 2 rfl rfl)
theorem dL_law_979 : decode cL_law 979 = .ok (.iadd, 1) := dk_96 (dk_at dksL_law_35 3 rfl rfl)
theorem dL_law_980 : decode cL_law 980 = .ok (.iaload, 1) := dk_46 (dk_at dksL_law_35 4 rfl rfl)
theorem dL_law_981 : decode cL_law 981 = .ok (.invokevirtual 122, 3) := dk_182 0 122 (dk_at dksL_law_35 5 rfl rfl)
theorem dL_law_984 : decode cL_law 984 = .ok (.if_icmp .eq 419, 3) := dk_159 1 163 (dk_at dksL_law_35 8 rfl rfl)
theorem dL_law_987 : decode cL_law 987 = .ok (.iconst 0, 1) := dk_3 (dk_at dksL_law_35 11 rfl rfl)
theorem dL_law_988 : decode cL_law 988 = .ok (.ireturn, 1) := dk_172 (dk_at dksL_law_35 12 rfl rfl)
theorem dL_law_989 : decode cL_law 989 = .ok (.aload_n 1, 1) := dk_43 (dk_at dksL_law_35 13 rfl rfl)
theorem dL_law_990 : decode cL_law 990 = .ok (.aload_n 0, 1) := dk_42 (dk_at dksL_law_35 14 rfl rfl)
theorem dL_law_991 : decode cL_law 991 = .ok (.iload 4, 2) := dk_21 4 (dk_at dksL_law_35 15 rfl rfl)
theorem dL_law_993 : decode cL_law 993 = .ok (.iconst 1, 1) := dk_4 (dk_at dksL_law_35 17 rfl rfl)
theorem dL_law_994 : decode cL_law 994 = .ok (.iadd, 1) := dk_96 (dk_at dksL_law_35 18 rfl rfl)
theorem dL_law_995 : decode cL_law 995 = .ok (.iaload, 1) := dk_46 (dk_at dksL_law_35 19 rfl rfl)
theorem dL_law_996 : decode cL_law 996 = .ok (.invokevirtual 123, 3) := dk_182 0 123 (dk_at dksL_law_35 20 rfl rfl)
theorem dL_law_999 : decode cL_law 999 = .ok (.aload_n 2, 1) := dk_44 (dk_at dksL_law_35 23 rfl rfl)
theorem dL_law_1000 : decode cL_law 1000 = .ok (.aload_n 0, 1) := dk_42 (dk_at dksL_law_36 0 rfl rfl)
theorem dL_law_1001 : decode cL_law 1001 = .ok (.iload 4, 2) := dk_21 4 (dk_at dksL_law_36 1 rfl rfl)
theorem dL_law_1003 : decode cL_law 1003 = .ok (.iconst 1, 1) := dk_4 (dk_at dksL_law_36 3 rfl rfl)
theorem dL_law_1004 : decode cL_law 1004 = .ok (.iadd, 1) := dk_96 (dk_at dksL_law_36 4 rfl rfl)
theorem dL_law_1005 : decode cL_law 1005 = .ok (.iaload, 1) := dk_46 (dk_at dksL_law_36 5 rfl rfl)
theorem dL_law_1006 : decode cL_law 1006 = .ok (.invokevirtual 126, 3) := dk_182 0 126 (dk_at dksL_law_36 6 rfl rfl)
theorem dL_law_1009 : decode cL_law 1009 = .ok (.if_icmp .eq 394, 3) := dk_159 1 138 (dk_at dksL_law_36 9 rfl rfl)
theorem dL_law_1012 : decode cL_law 1012 = .ok (.iconst 0, 1) := dk_3 (dk_at dksL_law_36 12 rfl rfl)
theorem dL_law_1013 : decode cL_law 1013 = .ok (.ireturn, 1) := dk_172 (dk_at dksL_law_36 13 rfl rfl)
theorem dL_law_1014 : decode cL_law 1014 = .ok (.aload_n 1, 1) := dk_43 (dk_at dksL_law_36 14 rfl rfl)
theorem dL_law_1015 : decode cL_law 1015 = .ok (.invokevirtual 127, 3) := dk_182 0 127 (dk_at dksL_law_36 15 rfl rfl)
theorem dL_law_1018 : decode cL_law 1018 = .ok (.aload_n 2, 1) := dk_44 (dk_at dksL_law_36 18 rfl rfl)
theorem dL_law_1019 : decode cL_law 1019 = .ok (.invokevirtual 130, 3) := dk_182 0 130 (dk_at dksL_law_36 19 rfl rfl)
theorem dL_law_1022 : decode cL_law 1022 = .ok (.if_icmp .eq 381, 3) := dk_159 1 125 (dk_at dksL_law_37 0 rfl rfl)
theorem dL_law_1025 : decode cL_law 1025 = .ok (.iconst 0, 1) := dk_3 (dk_at dksL_law_37 3 rfl rfl)
theorem dL_law_1026 : decode cL_law 1026 = .ok (.ireturn, 1) := dk_172 (dk_at dksL_law_37 4 rfl rfl)
theorem dL_law_1027 : decode cL_law 1027 = .ok (.aload_n 1, 1) := dk_43 (dk_at dksL_law_37 5 rfl rfl)
theorem dL_law_1028 : decode cL_law 1028 = .ok (.aload_n 0, 1) := dk_42 (dk_at dksL_law_37 6 rfl rfl)
theorem dL_law_1029 : decode cL_law 1029 = .ok (.iload 4, 2) := dk_21 4 (dk_at dksL_law_37 7 rfl rfl)
theorem dL_law_1031 : decode cL_law 1031 = .ok (.iconst 1, 1) := dk_4 (dk_at dksL_law_37 9 rfl rfl)
theorem dL_law_1032 : decode cL_law 1032 = .ok (.iadd, 1) := dk_96 (dk_at dksL_law_37 10 rfl rfl)
theorem dL_law_1033 : decode cL_law 1033 = .ok (.iaload, 1) := dk_46 (dk_at dksL_law_37 11 rfl rfl)
theorem dL_law_1034 : decode cL_law 1034 = .ok (.invokevirtual 131, 3) := dk_182 0 131 (dk_at dksL_law_37 12 rfl rfl)
theorem dL_law_1037 : decode cL_law 1037 = .ok (.aload_n 2, 1) := dk_44 (dk_at dksL_law_37 15 rfl rfl)
theorem dL_law_1038 : decode cL_law 1038 = .ok (.aload_n 0, 1) := dk_42 (dk_at dksL_law_37 16 rfl rfl)
theorem dL_law_1039 : decode cL_law 1039 = .ok (.iload 4, 2) := dk_21 4 (dk_at dksL_law_37 17 rfl rfl)
theorem dL_law_1041 : decode cL_law 1041 = .ok (.iconst 1, 1) := dk_4 (dk_at dksL_law_37 19 rfl rfl)
theorem dL_law_1042 : decode cL_law 1042 = .ok (.iadd, 1) := dk_96 (dk_at dksL_law_37 20 rfl rfl)
theorem dL_law_1043 : decode cL_law 1043 = .ok (.iaload, 1) := dk_46 (dk_at dksL_law_37 21 rfl rfl)
theorem dL_law_1044 : decode cL_law 1044 = .ok (.invokevirtual 134, 3) := dk_182 0 134 (dk_at dksL_law_38 0 rfl rfl)
theorem dL_law_1047 : decode cL_law 1047 = .ok (.if_icmp .eq 356, 3) := dk_159 1 100 (dk_at dksL_law_38 3 rfl rfl)
theorem dL_law_1050 : decode cL_law 1050 = .ok (.iconst 0, 1) := dk_3 (dk_at dksL_law_38 6 rfl rfl)
theorem dL_law_1051 : decode cL_law 1051 = .ok (.ireturn, 1) := dk_172 (dk_at dksL_law_38 7 rfl rfl)
theorem dL_law_1052 : decode cL_law 1052 = .ok (.aload_n 1, 1) := dk_43 (dk_at dksL_law_38 8 rfl rfl)
theorem dL_law_1053 : decode cL_law 1053 = .ok (.aload_n 0, 1) := dk_42 (dk_at dksL_law_38 9 rfl rfl)
theorem dL_law_1054 : decode cL_law 1054 = .ok (.iload 4, 2) := dk_21 4 (dk_at dksL_law_38 10 rfl rfl)
theorem dL_law_1056 : decode cL_law 1056 = .ok (.iconst 1, 1) := dk_4 (dk_at dksL_law_38 12 rfl rfl)
theorem dL_law_1057 : decode cL_law 1057 = .ok (.iadd, 1) := dk_96 (dk_at dksL_law_38 13 rfl rfl)
theorem dL_law_1058 : decode cL_law 1058 = .ok (.iaload, 1) := dk_46 (dk_at dksL_law_38 14 rfl rfl)
theorem dL_law_1059 : decode cL_law 1059 = .ok (.aload_n 0, 1) := dk_42 (dk_at dksL_law_38 15 rfl rfl)
theorem dL_law_1060 : decode cL_law 1060 = .ok (.iload 4, 2) := dk_21 4 (dk_at dksL_law_38 16 rfl rfl)
theorem dL_law_1062 : decode cL_law 1062 = .ok (.iconst 2, 1) := dk_5 (dk_at dksL_law_38 18 rfl rfl)
theorem dL_law_1063 : decode cL_law 1063 = .ok (.iadd, 1) := dk_96 (dk_at dksL_law_38 19 rfl rfl)
theorem dL_law_1064 : decode cL_law 1064 = .ok (.iaload, 1) := dk_46 (dk_at dksL_law_38 20 rfl rfl)
theorem dL_law_1065 : decode cL_law 1065 = .ok (.invokevirtual 135, 3) := dk_182 0 135 (dk_at dksL_law_38 21 rfl rfl)
theorem dL_law_1068 : decode cL_law 1068 = .ok (.aload_n 2, 1) := dk_44 (dk_at dksL_law_39 0 rfl rfl)
theorem dL_law_1069 : decode cL_law 1069 = .ok (.aload_n 0, 1) := dk_42 (dk_at dksL_law_39 1 rfl rfl)
theorem dL_law_1070 : decode cL_law 1070 = .ok (.iload 4, 2) := dk_21 4 (dk_at dksL_law_39 2 rfl rfl)
theorem dL_law_1072 : decode cL_law 1072 = .ok (.iconst 1, 1) := dk_4 (dk_at dksL_law_39 4 rfl rfl)
theorem dL_law_1073 : decode cL_law 1073 = .ok (.iadd, 1) := dk_96 (dk_at dksL_law_39 5 rfl rfl)
theorem dL_law_1074 : decode cL_law 1074 = .ok (.iaload, 1) := dk_46 (dk_at dksL_law_39 6 rfl rfl)
theorem dL_law_1075 : decode cL_law 1075 = .ok (.aload_n 0, 1) := dk_42 (dk_at dksL_law_39 7 rfl rfl)
theorem dL_law_1076 : decode cL_law 1076 = .ok (.iload 4, 2) := dk_21 4 (dk_at dksL_law_39 8 rfl rfl)
theorem dL_law_1078 : decode cL_law 1078 = .ok (.iconst 2, 1) := dk_5 (dk_at dksL_law_39 10 rfl rfl)
theorem dL_law_1079 : decode cL_law 1079 = .ok (.iadd, 1) := dk_96 (dk_at dksL_law_39 11 rfl rfl)
theorem dL_law_1080 : decode cL_law 1080 = .ok (.iaload, 1) := dk_46 (dk_at dksL_law_39 12 rfl rfl)
theorem dL_law_1081 : decode cL_law 1081 = .ok (.invokevirtual 138, 3) := dk_182 0 138 (dk_at dksL_law_39 13 rfl rfl)
theorem dL_law_1084 : decode cL_law 1084 = .ok (.if_icmp .eq 319, 3) := dk_159 1 63 (dk_at dksL_law_39 16 rfl rfl)
theorem dL_law_1087 : decode cL_law 1087 = .ok (.iconst 0, 1) := dk_3 (dk_at dksL_law_39 19 rfl rfl)
theorem dL_law_1088 : decode cL_law 1088 = .ok (.ireturn, 1) := dk_172 (dk_at dksL_law_39 20 rfl rfl)
theorem dL_law_1089 : decode cL_law 1089 = .ok (.aload_n 1, 1) := dk_43 (dk_at dksL_law_39 21 rfl rfl)
theorem dL_law_1090 : decode cL_law 1090 = .ok (.invokevirtual 139, 3) := dk_182 0 139 (dk_at dksL_law_40 0 rfl rfl)
theorem dL_law_1093 : decode cL_law 1093 = .ok (.aload_n 2, 1) := dk_44 (dk_at dksL_law_40 3 rfl rfl)
theorem dL_law_1094 : decode cL_law 1094 = .ok (.invokevirtual 142, 3) := dk_182 0 142 (dk_at dksL_law_40 4 rfl rfl)
theorem dL_law_1097 : decode cL_law 1097 = .ok (.if_icmp .eq 306, 3) := dk_159 1 50 (dk_at dksL_law_40 7 rfl rfl)
theorem dL_law_1100 : decode cL_law 1100 = .ok (.iconst 0, 1) := dk_3 (dk_at dksL_law_40 10 rfl rfl)
theorem dL_law_1101 : decode cL_law 1101 = .ok (.ireturn, 1) := dk_172 (dk_at dksL_law_40 11 rfl rfl)
theorem dL_law_1102 : decode cL_law 1102 = .ok (.aload_n 1, 1) := dk_43 (dk_at dksL_law_40 12 rfl rfl)
theorem dL_law_1103 : decode cL_law 1103 = .ok (.invokevirtual 143, 3) := dk_182 0 143 (dk_at dksL_law_40 13 rfl rfl)
theorem dL_law_1106 : decode cL_law 1106 = .ok (.aload_n 2, 1) := dk_44 (dk_at dksL_law_40 16 rfl rfl)
theorem dL_law_1107 : decode cL_law 1107 = .ok (.invokevirtual 146, 3) := dk_182 0 146 (dk_at dksL_law_40 17 rfl rfl)
theorem dL_law_1110 : decode cL_law 1110 = .ok (.if_icmp .eq 293, 3) := dk_159 1 37 (dk_at dksL_law_40 20 rfl rfl)
theorem dL_law_1113 : decode cL_law 1113 = .ok (.iconst 0, 1) := dk_3 (dk_at dksL_law_40 23 rfl rfl)
theorem dL_law_1114 : decode cL_law 1114 = .ok (.ireturn, 1) := dk_172 (dk_at dksL_law_41 0 rfl rfl)
theorem dL_law_1115 : decode cL_law 1115 = .ok (.aload_n 1, 1) := dk_43 (dk_at dksL_law_41 1 rfl rfl)
theorem dL_law_1116 : decode cL_law 1116 = .ok (.invokevirtual 147, 3) := dk_182 0 147 (dk_at dksL_law_41 2 rfl rfl)
theorem dL_law_1119 : decode cL_law 1119 = .ok (.aload_n 2, 1) := dk_44 (dk_at dksL_law_41 5 rfl rfl)
theorem dL_law_1120 : decode cL_law 1120 = .ok (.invokevirtual 150, 3) := dk_182 0 150 (dk_at dksL_law_41 6 rfl rfl)
theorem dL_law_1123 : decode cL_law 1123 = .ok (.if_icmp .eq 280, 3) := dk_159 1 24 (dk_at dksL_law_41 9 rfl rfl)
theorem dL_law_1126 : decode cL_law 1126 = .ok (.iconst 0, 1) := dk_3 (dk_at dksL_law_41 12 rfl rfl)
theorem dL_law_1127 : decode cL_law 1127 = .ok (.ireturn, 1) := dk_172 (dk_at dksL_law_41 13 rfl rfl)
theorem dL_law_1128 : decode cL_law 1128 = .ok (.aload_n 1, 1) := dk_43 (dk_at dksL_law_41 14 rfl rfl)
theorem dL_law_1129 : decode cL_law 1129 = .ok (.invokevirtual 151, 3) := dk_182 0 151 (dk_at dksL_law_41 15 rfl rfl)
theorem dL_law_1132 : decode cL_law 1132 = .ok (.aload_n 2, 1) := dk_44 (dk_at dksL_law_41 18 rfl rfl)
theorem dL_law_1133 : decode cL_law 1133 = .ok (.invokevirtual 154, 3) := dk_182 0 154 (dk_at dksL_law_41 19 rfl rfl)
theorem dL_law_1136 : decode cL_law 1136 = .ok (.if_icmp .eq 267, 3) := dk_159 1 11 (dk_at dksL_law_42 0 rfl rfl)
theorem dL_law_1139 : decode cL_law 1139 = .ok (.iconst 0, 1) := dk_3 (dk_at dksL_law_42 3 rfl rfl)
theorem dL_law_1140 : decode cL_law 1140 = .ok (.ireturn, 1) := dk_172 (dk_at dksL_law_42 4 rfl rfl)
theorem dL_law_1141 : decode cL_law 1141 = .ok (.aload_n 1, 1) := dk_43 (dk_at dksL_law_42 5 rfl rfl)
theorem dL_law_1142 : decode cL_law 1142 = .ok (.invokevirtual 155, 3) := dk_182 0 155 (dk_at dksL_law_42 6 rfl rfl)
theorem dL_law_1145 : decode cL_law 1145 = .ok (.aload_n 2, 1) := dk_44 (dk_at dksL_law_42 9 rfl rfl)
theorem dL_law_1146 : decode cL_law 1146 = .ok (.invokevirtual 158, 3) := dk_182 0 158 (dk_at dksL_law_42 10 rfl rfl)
theorem dL_law_1149 : decode cL_law 1149 = .ok (.if_icmp .eq 254, 3) := dk_159 0 254 (dk_at dksL_law_42 13 rfl rfl)
theorem dL_law_1152 : decode cL_law 1152 = .ok (.iconst 0, 1) := dk_3 (dk_at dksL_law_42 16 rfl rfl)
theorem dL_law_1153 : decode cL_law 1153 = .ok (.ireturn, 1) := dk_172 (dk_at dksL_law_42 17 rfl rfl)
theorem dL_law_1154 : decode cL_law 1154 = .ok (.aload_n 1, 1) := dk_43 (dk_at dksL_law_42 18 rfl rfl)
theorem dL_law_1155 : decode cL_law 1155 = .ok (.aload_n 0, 1) := dk_42 (dk_at dksL_law_42 19 rfl rfl)
theorem dL_law_1156 : decode cL_law 1156 = .ok (.iload 4, 2) := dk_21 4 (dk_at dksL_law_42 20 rfl rfl)
theorem dL_law_1158 : decode cL_law 1158 = .ok (.iconst 1, 1) := dk_4 (dk_at dksL_law_42 22 rfl rfl)
theorem dL_law_1159 : decode cL_law 1159 = .ok (.iadd, 1) := dk_96 (dk_at dksL_law_42 23 rfl rfl)
theorem dL_law_1160 : decode cL_law 1160 = .ok (.iaload, 1) := dk_46 (dk_at dksL_law_43 0 rfl rfl)
theorem dL_law_1161 : decode cL_law 1161 = .ok (.aload_n 0, 1) := dk_42 (dk_at dksL_law_43 1 rfl rfl)
theorem dL_law_1162 : decode cL_law 1162 = .ok (.iload 4, 2) := dk_21 4 (dk_at dksL_law_43 2 rfl rfl)
theorem dL_law_1164 : decode cL_law 1164 = .ok (.iconst 2, 1) := dk_5 (dk_at dksL_law_43 4 rfl rfl)
theorem dL_law_1165 : decode cL_law 1165 = .ok (.iadd, 1) := dk_96 (dk_at dksL_law_43 5 rfl rfl)
theorem dL_law_1166 : decode cL_law 1166 = .ok (.iaload, 1) := dk_46 (dk_at dksL_law_43 6 rfl rfl)
theorem dL_law_1167 : decode cL_law 1167 = .ok (.invokevirtual 159, 3) := dk_182 0 159 (dk_at dksL_law_43 7 rfl rfl)
theorem dL_law_1170 : decode cL_law 1170 = .ok (.aload_n 2, 1) := dk_44 (dk_at dksL_law_43 10 rfl rfl)
theorem dL_law_1171 : decode cL_law 1171 = .ok (.aload_n 0, 1) := dk_42 (dk_at dksL_law_43 11 rfl rfl)
theorem dL_law_1172 : decode cL_law 1172 = .ok (.iload 4, 2) := dk_21 4 (dk_at dksL_law_43 12 rfl rfl)
theorem dL_law_1174 : decode cL_law 1174 = .ok (.iconst 1, 1) := dk_4 (dk_at dksL_law_43 14 rfl rfl)
theorem dL_law_1175 : decode cL_law 1175 = .ok (.iadd, 1) := dk_96 (dk_at dksL_law_43 15 rfl rfl)
theorem dL_law_1176 : decode cL_law 1176 = .ok (.iaload, 1) := dk_46 (dk_at dksL_law_43 16 rfl rfl)
theorem dL_law_1177 : decode cL_law 1177 = .ok (.aload_n 0, 1) := dk_42 (dk_at dksL_law_43 17 rfl rfl)
theorem dL_law_1178 : decode cL_law 1178 = .ok (.iload 4, 2) := dk_21 4 (dk_at dksL_law_43 18 rfl rfl)
theorem dL_law_1180 : decode cL_law 1180 = .ok (.iconst 2, 1) := dk_5 (dk_at dksL_law_43 20 rfl rfl)
theorem dL_law_1181 : decode cL_law 1181 = .ok (.iadd, 1) := dk_96 (dk_at dksL_law_43 21 rfl rfl)
theorem dL_law_1182 : decode cL_law 1182 = .ok (.iaload, 1) := dk_46 (dk_at dksL_law_43 22 rfl rfl)
theorem dL_law_1183 : decode cL_law 1183 = .ok (.invokevirtual 162, 3) := dk_182 0 162 (dk_at dksL_law_44 0 rfl rfl)
theorem dL_law_1186 : decode cL_law 1186 = .ok (.if_icmp .eq 217, 3) := dk_159 0 217 (dk_at dksL_law_44 3 rfl rfl)
theorem dL_law_1189 : decode cL_law 1189 = .ok (.iconst 0, 1) := dk_3 (dk_at dksL_law_44 6 rfl rfl)
theorem dL_law_1190 : decode cL_law 1190 = .ok (.ireturn, 1) := dk_172 (dk_at dksL_law_44 7 rfl rfl)
theorem dL_law_1191 : decode cL_law 1191 = .ok (.aload_n 1, 1) := dk_43 (dk_at dksL_law_44 8 rfl rfl)
theorem dL_law_1192 : decode cL_law 1192 = .ok (.aload_n 0, 1) := dk_42 (dk_at dksL_law_44 9 rfl rfl)
theorem dL_law_1193 : decode cL_law 1193 = .ok (.iload 4, 2) := dk_21 4 (dk_at dksL_law_44 10 rfl rfl)
theorem dL_law_1195 : decode cL_law 1195 = .ok (.iconst 1, 1) := dk_4 (dk_at dksL_law_44 12 rfl rfl)
theorem dL_law_1196 : decode cL_law 1196 = .ok (.iadd, 1) := dk_96 (dk_at dksL_law_44 13 rfl rfl)
theorem dL_law_1197 : decode cL_law 1197 = .ok (.iaload, 1) := dk_46 (dk_at dksL_law_44 14 rfl rfl)
theorem dL_law_1198 : decode cL_law 1198 = .ok (.aload_n 0, 1) := dk_42 (dk_at dksL_law_44 15 rfl rfl)
theorem dL_law_1199 : decode cL_law 1199 = .ok (.iload 4, 2) := dk_21 4 (dk_at dksL_law_44 16 rfl rfl)
theorem dL_law_1201 : decode cL_law 1201 = .ok (.iconst 2, 1) := dk_5 (dk_at dksL_law_44 18 rfl rfl)
theorem dL_law_1202 : decode cL_law 1202 = .ok (.iadd, 1) := dk_96 (dk_at dksL_law_44 19 rfl rfl)
theorem dL_law_1203 : decode cL_law 1203 = .ok (.iaload, 1) := dk_46 (dk_at dksL_law_44 20 rfl rfl)
theorem dL_law_1204 : decode cL_law 1204 = .ok (.aload_n 0, 1) := dk_42 (dk_at dksL_law_44 21 rfl rfl)
theorem dL_law_1205 : decode cL_law 1205 = .ok (.iload 4, 2) := dk_21 4 (dk_at dksL_law_44 22 rfl rfl)
theorem dL_law_1207 : decode cL_law 1207 = .ok (.iconst 3, 1) := dk_6 (dk_at dksL_law_45 0 rfl rfl)
theorem dL_law_1208 : decode cL_law 1208 = .ok (.iadd, 1) := dk_96 (dk_at dksL_law_45 1 rfl rfl)
theorem dL_law_1209 : decode cL_law 1209 = .ok (.iaload, 1) := dk_46 (dk_at dksL_law_45 2 rfl rfl)
theorem dL_law_1210 : decode cL_law 1210 = .ok (.invokevirtual 163, 3) := dk_182 0 163 (dk_at dksL_law_45 3 rfl rfl)
theorem dL_law_1213 : decode cL_law 1213 = .ok (.aload_n 2, 1) := dk_44 (dk_at dksL_law_45 6 rfl rfl)
theorem dL_law_1214 : decode cL_law 1214 = .ok (.aload_n 0, 1) := dk_42 (dk_at dksL_law_45 7 rfl rfl)
theorem dL_law_1215 : decode cL_law 1215 = .ok (.iload 4, 2) := dk_21 4 (dk_at dksL_law_45 8 rfl rfl)
theorem dL_law_1217 : decode cL_law 1217 = .ok (.iconst 1, 1) := dk_4 (dk_at dksL_law_45 10 rfl rfl)
theorem dL_law_1218 : decode cL_law 1218 = .ok (.iadd, 1) := dk_96 (dk_at dksL_law_45 11 rfl rfl)
theorem dL_law_1219 : decode cL_law 1219 = .ok (.iaload, 1) := dk_46 (dk_at dksL_law_45 12 rfl rfl)
theorem dL_law_1220 : decode cL_law 1220 = .ok (.aload_n 0, 1) := dk_42 (dk_at dksL_law_45 13 rfl rfl)
theorem dL_law_1221 : decode cL_law 1221 = .ok (.iload 4, 2) := dk_21 4 (dk_at dksL_law_45 14 rfl rfl)
theorem dL_law_1223 : decode cL_law 1223 = .ok (.iconst 2, 1) := dk_5 (dk_at dksL_law_45 16 rfl rfl)
theorem dL_law_1224 : decode cL_law 1224 = .ok (.iadd, 1) := dk_96 (dk_at dksL_law_45 17 rfl rfl)
theorem dL_law_1225 : decode cL_law 1225 = .ok (.iaload, 1) := dk_46 (dk_at dksL_law_45 18 rfl rfl)
theorem dL_law_1226 : decode cL_law 1226 = .ok (.aload_n 0, 1) := dk_42 (dk_at dksL_law_45 19 rfl rfl)
theorem dL_law_1227 : decode cL_law 1227 = .ok (.iload 4, 2) := dk_21 4 (dk_at dksL_law_45 20 rfl rfl)
theorem dL_law_1229 : decode cL_law 1229 = .ok (.iconst 3, 1) := dk_6 (dk_at dksL_law_45 22 rfl rfl)
theorem dL_law_1230 : decode cL_law 1230 = .ok (.iadd, 1) := dk_96 (dk_at dksL_law_45 23 rfl rfl)
theorem dL_law_1231 : decode cL_law 1231 = .ok (.iaload, 1) := dk_46 (dk_at dksL_law_46 0 rfl rfl)
theorem dL_law_1232 : decode cL_law 1232 = .ok (.invokevirtual 167, 3) := dk_182 0 167 (dk_at dksL_law_46 1 rfl rfl)
theorem dL_law_1235 : decode cL_law 1235 = .ok (.if_icmp .eq 168, 3) := dk_159 0 168 (dk_at dksL_law_46 4 rfl rfl)
theorem dL_law_1238 : decode cL_law 1238 = .ok (.iconst 0, 1) := dk_3 (dk_at dksL_law_46 7 rfl rfl)
theorem dL_law_1239 : decode cL_law 1239 = .ok (.ireturn, 1) := dk_172 (dk_at dksL_law_46 8 rfl rfl)
theorem dL_law_1240 : decode cL_law 1240 = .ok (.aload_n 1, 1) := dk_43 (dk_at dksL_law_46 9 rfl rfl)
theorem dL_law_1241 : decode cL_law 1241 = .ok (.aload_n 0, 1) := dk_42 (dk_at dksL_law_46 10 rfl rfl)
theorem dL_law_1242 : decode cL_law 1242 = .ok (.iload 4, 2) := dk_21 4 (dk_at dksL_law_46 11 rfl rfl)
theorem dL_law_1244 : decode cL_law 1244 = .ok (.iconst 1, 1) := dk_4 (dk_at dksL_law_46 13 rfl rfl)
theorem dL_law_1245 : decode cL_law 1245 = .ok (.iadd, 1) := dk_96 (dk_at dksL_law_46 14 rfl rfl)
theorem dL_law_1246 : decode cL_law 1246 = .ok (.iaload, 1) := dk_46 (dk_at dksL_law_46 15 rfl rfl)
theorem dL_law_1247 : decode cL_law 1247 = .ok (.invokevirtual 168, 3) := dk_182 0 168 (dk_at dksL_law_46 16 rfl rfl)
theorem dL_law_1250 : decode cL_law 1250 = .ok (.aload_n 2, 1) := dk_44 (dk_at dksL_law_46 19 rfl rfl)
theorem dL_law_1251 : decode cL_law 1251 = .ok (.aload_n 0, 1) := dk_42 (dk_at dksL_law_46 20 rfl rfl)
theorem dL_law_1252 : decode cL_law 1252 = .ok (.iload 4, 2) := dk_21 4 (dk_at dksL_law_46 21 rfl rfl)
theorem dL_law_1254 : decode cL_law 1254 = .ok (.iconst 1, 1) := dk_4 (dk_at dksL_law_46 23 rfl rfl)
theorem dL_law_1255 : decode cL_law 1255 = .ok (.iadd, 1) := dk_96 (dk_at dksL_law_47 0 rfl rfl)
theorem dL_law_1256 : decode cL_law 1256 = .ok (.iaload, 1) := dk_46 (dk_at dksL_law_47 1 rfl rfl)
theorem dL_law_1257 : decode cL_law 1257 = .ok (.invokevirtual 171, 3) := dk_182 0 171 (dk_at dksL_law_47 2 rfl rfl)
theorem dL_law_1260 : decode cL_law 1260 = .ok (.if_icmp .eq 143, 3) := dk_159 0 143 (dk_at dksL_law_47 5 rfl rfl)
theorem dL_law_1263 : decode cL_law 1263 = .ok (.iconst 0, 1) := dk_3 (dk_at dksL_law_47 8 rfl rfl)
theorem dL_law_1264 : decode cL_law 1264 = .ok (.ireturn, 1) := dk_172 (dk_at dksL_law_47 9 rfl rfl)
theorem dL_law_1265 : decode cL_law 1265 = .ok (.aload_n 1, 1) := dk_43 (dk_at dksL_law_47 10 rfl rfl)
theorem dL_law_1266 : decode cL_law 1266 = .ok (.aload_n 0, 1) := dk_42 (dk_at dksL_law_47 11 rfl rfl)
theorem dL_law_1267 : decode cL_law 1267 = .ok (.iload 4, 2) := dk_21 4 (dk_at dksL_law_47 12 rfl rfl)
theorem dL_law_1269 : decode cL_law 1269 = .ok (.iconst 1, 1) := dk_4 (dk_at dksL_law_47 14 rfl rfl)
theorem dL_law_1270 : decode cL_law 1270 = .ok (.iadd, 1) := dk_96 (dk_at dksL_law_47 15 rfl rfl)
theorem dL_law_1271 : decode cL_law 1271 = .ok (.iaload, 1) := dk_46 (dk_at dksL_law_47 16 rfl rfl)
theorem dL_law_1272 : decode cL_law 1272 = .ok (.invokevirtual 172, 3) := dk_182 0 172 (dk_at dksL_law_47 17 rfl rfl)
theorem dL_law_1275 : decode cL_law 1275 = .ok (.aload_n 2, 1) := dk_44 (dk_at dksL_law_47 20 rfl rfl)
theorem dL_law_1276 : decode cL_law 1276 = .ok (.aload_n 0, 1) := dk_42 (dk_at dksL_law_47 21 rfl rfl)
theorem dL_law_1277 : decode cL_law 1277 = .ok (.iload 4, 2) := dk_21 4 (dk_at dksL_law_47 22 rfl rfl)
theorem dL_law_1279 : decode cL_law 1279 = .ok (.iconst 1, 1) := dk_4 (dk_at dksL_law_48 0 rfl rfl)
theorem dL_law_1280 : decode cL_law 1280 = .ok (.iadd, 1) := dk_96 (dk_at dksL_law_48 1 rfl rfl)
theorem dL_law_1281 : decode cL_law 1281 = .ok (.iaload, 1) := dk_46 (dk_at dksL_law_48 2 rfl rfl)
theorem dL_law_1282 : decode cL_law 1282 = .ok (.invokevirtual 175, 3) := dk_182 0 175 (dk_at dksL_law_48 3 rfl rfl)
theorem dL_law_1285 : decode cL_law 1285 = .ok (.if_icmp .eq 118, 3) := dk_159 0 118 (dk_at dksL_law_48 6 rfl rfl)
theorem dL_law_1288 : decode cL_law 1288 = .ok (.iconst 0, 1) := dk_3 (dk_at dksL_law_48 9 rfl rfl)
theorem dL_law_1289 : decode cL_law 1289 = .ok (.ireturn, 1) := dk_172 (dk_at dksL_law_48 10 rfl rfl)
theorem dL_law_1290 : decode cL_law 1290 = .ok (.aload_n 1, 1) := dk_43 (dk_at dksL_law_48 11 rfl rfl)
theorem dL_law_1291 : decode cL_law 1291 = .ok (.invokevirtual 176, 3) := dk_182 0 176 (dk_at dksL_law_48 12 rfl rfl)
theorem dL_law_1294 : decode cL_law 1294 = .ok (.aload_n 2, 1) := dk_44 (dk_at dksL_law_48 15 rfl rfl)
theorem dL_law_1295 : decode cL_law 1295 = .ok (.invokevirtual 179, 3) := dk_182 0 179 (dk_at dksL_law_48 16 rfl rfl)
theorem dL_law_1298 : decode cL_law 1298 = .ok (.if_icmp .eq 105, 3) := dk_159 0 105 (dk_at dksL_law_48 19 rfl rfl)
theorem dL_law_1301 : decode cL_law 1301 = .ok (.iconst 0, 1) := dk_3 (dk_at dksL_law_48 22 rfl rfl)
theorem dL_law_1302 : decode cL_law 1302 = .ok (.ireturn, 1) := dk_172 (dk_at dksL_law_48 23 rfl rfl)
theorem dL_law_1303 : decode cL_law 1303 = .ok (.aload_n 1, 1) := dk_43 (dk_at dksL_law_49 0 rfl rfl)
theorem dL_law_1304 : decode cL_law 1304 = .ok (.aload_n 0, 1) := dk_42 (dk_at dksL_law_49 1 rfl rfl)
theorem dL_law_1305 : decode cL_law 1305 = .ok (.iload 4, 2) := dk_21 4 (dk_at dksL_law_49 2 rfl rfl)
theorem dL_law_1307 : decode cL_law 1307 = .ok (.iconst 1, 1) := dk_4 (dk_at dksL_law_49 4 rfl rfl)
theorem dL_law_1308 : decode cL_law 1308 = .ok (.iadd, 1) := dk_96 (dk_at dksL_law_49 5 rfl rfl)
theorem dL_law_1309 : decode cL_law 1309 = .ok (.iaload, 1) := dk_46 (dk_at dksL_law_49 6 rfl rfl)
theorem dL_law_1310 : decode cL_law 1310 = .ok (.invokevirtual 180, 3) := dk_182 0 180 (dk_at dksL_law_49 7 rfl rfl)
theorem dL_law_1313 : decode cL_law 1313 = .ok (.aload_n 2, 1) := dk_44 (dk_at dksL_law_49 10 rfl rfl)
theorem dL_law_1314 : decode cL_law 1314 = .ok (.aload_n 0, 1) := dk_42 (dk_at dksL_law_49 11 rfl rfl)
theorem dL_law_1315 : decode cL_law 1315 = .ok (.iload 4, 2) := dk_21 4 (dk_at dksL_law_49 12 rfl rfl)
theorem dL_law_1317 : decode cL_law 1317 = .ok (.iconst 1, 1) := dk_4 (dk_at dksL_law_49 14 rfl rfl)
theorem dL_law_1318 : decode cL_law 1318 = .ok (.iadd, 1) := dk_96 (dk_at dksL_law_49 15 rfl rfl)
theorem dL_law_1319 : decode cL_law 1319 = .ok (.iaload, 1) := dk_46 (dk_at dksL_law_49 16 rfl rfl)
theorem dL_law_1320 : decode cL_law 1320 = .ok (.invokevirtual 183, 3) := dk_182 0 183 (dk_at dksL_law_49 17 rfl rfl)
theorem dL_law_1323 : decode cL_law 1323 = .ok (.if_icmp .eq 80, 3) := dk_159 0 80 (dk_at dksL_law_49 20 rfl rfl)
theorem dL_law_1326 : decode cL_law 1326 = .ok (.iconst 0, 1) := dk_3 (dk_at dksL_law_49 23 rfl rfl)
theorem dL_law_1327 : decode cL_law 1327 = .ok (.ireturn, 1) := dk_172 (dk_at dksL_law_50 0 rfl rfl)
theorem dL_law_1328 : decode cL_law 1328 = .ok (.aload_n 1, 1) := dk_43 (dk_at dksL_law_50 1 rfl rfl)
theorem dL_law_1329 : decode cL_law 1329 = .ok (.aload_n 0, 1) := dk_42 (dk_at dksL_law_50 2 rfl rfl)
theorem dL_law_1330 : decode cL_law 1330 = .ok (.iload 4, 2) := dk_21 4 (dk_at dksL_law_50 3 rfl rfl)
theorem dL_law_1332 : decode cL_law 1332 = .ok (.iconst 1, 1) := dk_4 (dk_at dksL_law_50 5 rfl rfl)
theorem dL_law_1333 : decode cL_law 1333 = .ok (.iadd, 1) := dk_96 (dk_at dksL_law_50 6 rfl rfl)
theorem dL_law_1334 : decode cL_law 1334 = .ok (.iaload, 1) := dk_46 (dk_at dksL_law_50 7 rfl rfl)
theorem dL_law_1335 : decode cL_law 1335 = .ok (.invokevirtual 184, 3) := dk_182 0 184 (dk_at dksL_law_50 8 rfl rfl)
theorem dL_law_1338 : decode cL_law 1338 = .ok (.aload_n 2, 1) := dk_44 (dk_at dksL_law_50 11 rfl rfl)
theorem dL_law_1339 : decode cL_law 1339 = .ok (.aload_n 0, 1) := dk_42 (dk_at dksL_law_50 12 rfl rfl)
theorem dL_law_1340 : decode cL_law 1340 = .ok (.iload 4, 2) := dk_21 4 (dk_at dksL_law_50 13 rfl rfl)
theorem dL_law_1342 : decode cL_law 1342 = .ok (.iconst 1, 1) := dk_4 (dk_at dksL_law_50 15 rfl rfl)
theorem dL_law_1343 : decode cL_law 1343 = .ok (.iadd, 1) := dk_96 (dk_at dksL_law_50 16 rfl rfl)
theorem dL_law_1344 : decode cL_law 1344 = .ok (.iaload, 1) := dk_46 (dk_at dksL_law_50 17 rfl rfl)
theorem dL_law_1345 : decode cL_law 1345 = .ok (.invokevirtual 187, 3) := dk_182 0 187 (dk_at dksL_law_50 18 rfl rfl)
theorem dL_law_1348 : decode cL_law 1348 = .ok (.if_icmp .eq 55, 3) := dk_159 0 55 (dk_at dksL_law_50 21 rfl rfl)
theorem dL_law_1351 : decode cL_law 1351 = .ok (.iconst 0, 1) := dk_3 (dk_at dksL_law_51 0 rfl rfl)
theorem dL_law_1352 : decode cL_law 1352 = .ok (.ireturn, 1) := dk_172 (dk_at dksL_law_51 1 rfl rfl)
theorem dL_law_1353 : decode cL_law 1353 = .ok (.aload_n 1, 1) := dk_43 (dk_at dksL_law_51 2 rfl rfl)
theorem dL_law_1354 : decode cL_law 1354 = .ok (.aload_n 0, 1) := dk_42 (dk_at dksL_law_51 3 rfl rfl)
theorem dL_law_1355 : decode cL_law 1355 = .ok (.iload 4, 2) := dk_21 4 (dk_at dksL_law_51 4 rfl rfl)
theorem dL_law_1357 : decode cL_law 1357 = .ok (.iconst 1, 1) := dk_4 (dk_at dksL_law_51 6 rfl rfl)
theorem dL_law_1358 : decode cL_law 1358 = .ok (.iadd, 1) := dk_96 (dk_at dksL_law_51 7 rfl rfl)
theorem dL_law_1359 : decode cL_law 1359 = .ok (.iaload, 1) := dk_46 (dk_at dksL_law_51 8 rfl rfl)
theorem dL_law_1360 : decode cL_law 1360 = .ok (.invokevirtual 188, 3) := dk_182 0 188 (dk_at dksL_law_51 9 rfl rfl)
theorem dL_law_1363 : decode cL_law 1363 = .ok (.aload_n 2, 1) := dk_44 (dk_at dksL_law_51 12 rfl rfl)
theorem dL_law_1364 : decode cL_law 1364 = .ok (.aload_n 0, 1) := dk_42 (dk_at dksL_law_51 13 rfl rfl)
theorem dL_law_1365 : decode cL_law 1365 = .ok (.iload 4, 2) := dk_21 4 (dk_at dksL_law_51 14 rfl rfl)
theorem dL_law_1367 : decode cL_law 1367 = .ok (.iconst 1, 1) := dk_4 (dk_at dksL_law_51 16 rfl rfl)
theorem dL_law_1368 : decode cL_law 1368 = .ok (.iadd, 1) := dk_96 (dk_at dksL_law_51 17 rfl rfl)
theorem dL_law_1369 : decode cL_law 1369 = .ok (.iaload, 1) := dk_46 (dk_at dksL_law_51 18 rfl rfl)
theorem dL_law_1370 : decode cL_law 1370 = .ok (.invokevirtual 191, 3) := dk_182 0 191 (dk_at dksL_law_51 19 rfl rfl)
theorem dL_law_1373 : decode cL_law 1373 = .ok (.if_icmp .eq 30, 3) := dk_159 0 30 (dk_at dksL_law_52 0 rfl rfl)
theorem dL_law_1376 : decode cL_law 1376 = .ok (.iconst 0, 1) := dk_3 (dk_at dksL_law_52 3 rfl rfl)
theorem dL_law_1377 : decode cL_law 1377 = .ok (.ireturn, 1) := dk_172 (dk_at dksL_law_52 4 rfl rfl)
theorem dL_law_1378 : decode cL_law 1378 = .ok (.aload_n 1, 1) := dk_43 (dk_at dksL_law_52 5 rfl rfl)
theorem dL_law_1379 : decode cL_law 1379 = .ok (.aload_n 0, 1) := dk_42 (dk_at dksL_law_52 6 rfl rfl)
theorem dL_law_1380 : decode cL_law 1380 = .ok (.iload 4, 2) := dk_21 4 (dk_at dksL_law_52 7 rfl rfl)
theorem dL_law_1382 : decode cL_law 1382 = .ok (.iconst 1, 1) := dk_4 (dk_at dksL_law_52 9 rfl rfl)
theorem dL_law_1383 : decode cL_law 1383 = .ok (.iadd, 1) := dk_96 (dk_at dksL_law_52 10 rfl rfl)
theorem dL_law_1384 : decode cL_law 1384 = .ok (.iaload, 1) := dk_46 (dk_at dksL_law_52 11 rfl rfl)
theorem dL_law_1385 : decode cL_law 1385 = .ok (.invokevirtual 192, 3) := dk_182 0 192 (dk_at dksL_law_52 12 rfl rfl)
theorem dL_law_1388 : decode cL_law 1388 = .ok (.aload_n 2, 1) := dk_44 (dk_at dksL_law_52 15 rfl rfl)
theorem dL_law_1389 : decode cL_law 1389 = .ok (.aload_n 0, 1) := dk_42 (dk_at dksL_law_52 16 rfl rfl)
theorem dL_law_1390 : decode cL_law 1390 = .ok (.iload 4, 2) := dk_21 4 (dk_at dksL_law_52 17 rfl rfl)
theorem dL_law_1392 : decode cL_law 1392 = .ok (.iconst 1, 1) := dk_4 (dk_at dksL_law_52 19 rfl rfl)
theorem dL_law_1393 : decode cL_law 1393 = .ok (.iadd, 1) := dk_96 (dk_at dksL_law_52 20 rfl rfl)
theorem dL_law_1394 : decode cL_law 1394 = .ok (.iaload, 1) := dk_46 (dk_at dksL_law_52 21 rfl rfl)
theorem dL_law_1395 : decode cL_law 1395 = .ok (.invokevirtual 195, 3) := dk_182 0 195 (dk_at dksL_law_53 0 rfl rfl)
theorem dL_law_1398 : decode cL_law 1398 = .ok (.if_icmp .eq 5, 3) := dk_159 0 5 (dk_at dksL_law_53 3 rfl rfl)
theorem dL_law_1401 : decode cL_law 1401 = .ok (.iconst 0, 1) := dk_3 (dk_at dksL_law_53 6 rfl rfl)
theorem dL_law_1402 : decode cL_law 1402 = .ok (.ireturn, 1) := dk_172 (dk_at dksL_law_53 7 rfl rfl)
theorem dL_law_1403 : decode cL_law 1403 = .ok (.iinc 4 6, 3) := dk_132 4 6 (dk_at dksL_law_53 8 rfl rfl)
theorem dL_law_1406 : decode cL_law 1406 = .ok (.goto (-1383), 3) := dk_167 250 153 (dk_at dksL_law_53 11 rfl rfl)
theorem dL_law_1409 : decode cL_law 1409 = .ok (.iconst 1, 1) := dk_4 (dk_at dksL_law_53 14 rfl rfl)
theorem dL_law_1410 : decode cL_law 1410 = .ok (.ireturn, 1) := dk_172 (dk_at dksL_law_53 15 rfl rfl)
theorem nh_HeldCoats__init____V : cz_nh ⟨"HeldCoats", "<init>", "()V"⟩ 0 := ⟨by decide, by decide, by decide +kernel⟩
theorem nh_HeldCoatsModel__init____V : cz_nh ⟨"HeldCoatsModel", "<init>", "()V"⟩ 0 := ⟨by decide, by decide, by decide +kernel⟩
theorem kI_6 : Int32.ofInt (6) = 6 := by decide
theorem se_HeldCoats_count__I_I_HeldCoats : ∀ c ∈ ([0] : List Nat), ∃ q : vw_C, cz_cl[c]? = some q ∧ Cond.selects q.1 (⟨"HeldCoats", "count", "(I)I"⟩ : MethodName) (⟨"HeldCoats", "count", "(I)I"⟩ : MethodName) ∈ lw_all := List.forall_mem_cons.mpr ⟨⟨_, cz_cl0, q1816⟩, fun _ h => absurd h List.not_mem_nil⟩
theorem md_X1_count : cz_md yX1_count 2 (ws_ yX1_count cX1_count 2 ((Option.some Jvm.ClassFile.FieldType.int))) 1 := ⟨cz_ws_code q1817, q113, ⟨by decide, by decide, by decide +kernel⟩, by decide⟩
theorem se_HeldCoatsModel_count__I_I_HeldCoatsModel : ∀ c ∈ ([5] : List Nat), ∃ q : vw_C, cz_cl[c]? = some q ∧ Cond.selects q.1 (⟨"HeldCoatsModel", "count", "(I)I"⟩ : MethodName) (⟨"HeldCoatsModel", "count", "(I)I"⟩ : MethodName) ∈ lw_all := List.forall_mem_cons.mpr ⟨⟨_, cz_cl5, q2505⟩, fun _ h => absurd h List.not_mem_nil⟩
theorem md_X5_count : cz_md yX5_count 2 (ws_ yX5_count cX5_count 2 ((Option.some Jvm.ClassFile.FieldType.int))) 1 := ⟨cz_ws_code q2506, q123, ⟨by decide, by decide, by decide +kernel⟩, by decide⟩
theorem se_HeldCoats_restore__I_Z_HeldCoats : ∀ c ∈ ([0] : List Nat), ∃ q : vw_C, cz_cl[c]? = some q ∧ Cond.selects q.1 (⟨"HeldCoats", "restore", "(I)Z"⟩ : MethodName) (⟨"HeldCoats", "restore", "(I)Z"⟩ : MethodName) ∈ lw_all := List.forall_mem_cons.mpr ⟨⟨_, cz_cl0, q1812⟩, fun _ h => absurd h List.not_mem_nil⟩
theorem md_X1_restore : cz_md yX1_restore 2 (ws_ yX1_restore cX1_restore 2 ((Option.some Jvm.ClassFile.FieldType.boolean))) 1 := ⟨cz_ws_code q1813, q113, ⟨by decide, by decide, by decide +kernel⟩, by decide⟩
theorem se_HeldCoatsModel_restore__I_Z_HeldCoatsModel : ∀ c ∈ ([5] : List Nat), ∃ q : vw_C, cz_cl[c]? = some q ∧ Cond.selects q.1 (⟨"HeldCoatsModel", "restore", "(I)Z"⟩ : MethodName) (⟨"HeldCoatsModel", "restore", "(I)Z"⟩ : MethodName) ∈ lw_all := List.forall_mem_cons.mpr ⟨⟨_, cz_cl5, q2501⟩, fun _ h => absurd h List.not_mem_nil⟩
theorem md_X5_restore : cz_md yX5_restore 3 (ws_ yX5_restore cX5_restore 3 ((Option.some Jvm.ClassFile.FieldType.boolean))) 1 := ⟨cz_ws_code q2502, q123, ⟨by decide, by decide, by decide +kernel⟩, by decide⟩
theorem se_HeldCoats_image__I_Z_HeldCoats : ∀ c ∈ ([0] : List Nat), ∃ q : vw_C, cz_cl[c]? = some q ∧ Cond.selects q.1 (⟨"HeldCoats", "image", "(I)Z"⟩ : MethodName) (⟨"HeldCoats", "image", "(I)Z"⟩ : MethodName) ∈ lw_all := List.forall_mem_cons.mpr ⟨⟨_, cz_cl0, q1808⟩, fun _ h => absurd h List.not_mem_nil⟩
theorem md_X1_image : cz_md yX1_image 2 (ws_ yX1_image cX1_image 2 ((Option.some Jvm.ClassFile.FieldType.boolean))) 1 := ⟨cz_ws_code q1809, q113, ⟨by decide, by decide, by decide +kernel⟩, by decide⟩
theorem se_HeldCoatsModel_image__I_Z_HeldCoatsModel : ∀ c ∈ ([5] : List Nat), ∃ q : vw_C, cz_cl[c]? = some q ∧ Cond.selects q.1 (⟨"HeldCoatsModel", "image", "(I)Z"⟩ : MethodName) (⟨"HeldCoatsModel", "image", "(I)Z"⟩ : MethodName) ∈ lw_all := List.forall_mem_cons.mpr ⟨⟨_, cz_cl5, q2497⟩, fun _ h => absurd h List.not_mem_nil⟩
theorem md_X5_image : cz_md yX5_image 3 (ws_ yX5_image cX5_image 3 ((Option.some Jvm.ClassFile.FieldType.boolean))) 1 := ⟨cz_ws_code q2498, q123, ⟨by decide, by decide, by decide +kernel⟩, by decide⟩
theorem se_HeldCoats_said__I_I_HeldCoats : ∀ c ∈ ([0] : List Nat), ∃ q : vw_C, cz_cl[c]? = some q ∧ Cond.selects q.1 (⟨"HeldCoats", "said", "(I)I"⟩ : MethodName) (⟨"HeldCoats", "said", "(I)I"⟩ : MethodName) ∈ lw_all := List.forall_mem_cons.mpr ⟨⟨_, cz_cl0, q1776⟩, fun _ h => absurd h List.not_mem_nil⟩
theorem md_X1_said : cz_md yX1_said 4 (ws_ yX1_said cX1_said 4 ((Option.some Jvm.ClassFile.FieldType.int))) 1 := ⟨cz_ws_code q1777, q113, ⟨by decide, by decide, by decide +kernel⟩, by decide⟩
theorem se_HeldCoatsModel_said__I_I_HeldCoatsModel : ∀ c ∈ ([5] : List Nat), ∃ q : vw_C, cz_cl[c]? = some q ∧ Cond.selects q.1 (⟨"HeldCoatsModel", "said", "(I)I"⟩ : MethodName) (⟨"HeldCoatsModel", "said", "(I)I"⟩ : MethodName) ∈ lw_all := List.forall_mem_cons.mpr ⟨⟨_, cz_cl5, q2485⟩, fun _ h => absurd h List.not_mem_nil⟩
theorem md_X5_said : cz_md yX5_said 4 (ws_ yX5_said cX5_said 4 ((Option.some Jvm.ClassFile.FieldType.int))) 1 := ⟨cz_ws_code q2486, q123, ⟨by decide, by decide, by decide +kernel⟩, by decide⟩
theorem se_HeldCoats_sentence___I_HeldCoats : ∀ c ∈ ([0] : List Nat), ∃ q : vw_C, cz_cl[c]? = some q ∧ Cond.selects q.1 (⟨"HeldCoats", "sentence", "()I"⟩ : MethodName) (⟨"HeldCoats", "sentence", "()I"⟩ : MethodName) ∈ lw_all := List.forall_mem_cons.mpr ⟨⟨_, cz_cl0, q1624⟩, fun _ h => absurd h List.not_mem_nil⟩
theorem md_X1_sentence : cz_md yX1_sentence 3 (wsW_ yX1_sentence cX1_sentence 3 ((Option.some Jvm.ClassFile.FieldType.int)) [(10, 39, 40, 111)]) 0 := ⟨cz_ws_codeW q1625, q113, ⟨by decide, by decide, by decide +kernel⟩, by decide⟩
theorem se_HeldCoatsModel_sentence___I_HeldCoatsModel : ∀ c ∈ ([5] : List Nat), ∃ q : vw_C, cz_cl[c]? = some q ∧ Cond.selects q.1 (⟨"HeldCoatsModel", "sentence", "()I"⟩ : MethodName) (⟨"HeldCoatsModel", "sentence", "()I"⟩ : MethodName) ∈ lw_all := List.forall_mem_cons.mpr ⟨⟨_, cz_cl5, q2457⟩, fun _ h => absurd h List.not_mem_nil⟩
theorem md_X5_sentence : cz_md yX5_sentence 3 (ws_ yX5_sentence cX5_sentence 3 ((Option.some Jvm.ClassFile.FieldType.int))) 0 := ⟨cz_ws_code q2458, q123, ⟨by decide, by decide, by decide +kernel⟩, by decide⟩
theorem se_HeldCoats_told__I_I_HeldCoats : ∀ c ∈ ([0] : List Nat), ∃ q : vw_C, cz_cl[c]? = some q ∧ Cond.selects q.1 (⟨"HeldCoats", "told", "(I)I"⟩ : MethodName) (⟨"HeldCoats", "told", "(I)I"⟩ : MethodName) ∈ lw_all := List.forall_mem_cons.mpr ⟨⟨_, cz_cl0, q1620⟩, fun _ h => absurd h List.not_mem_nil⟩
theorem md_X1_told : cz_md yX1_told 2 (ws_ yX1_told cX1_told 2 ((Option.some Jvm.ClassFile.FieldType.int))) 1 := ⟨cz_ws_code q1621, q113, ⟨by decide, by decide, by decide +kernel⟩, by decide⟩
theorem se_HeldCoatsModel_told__I_I_HeldCoatsModel : ∀ c ∈ ([5] : List Nat), ∃ q : vw_C, cz_cl[c]? = some q ∧ Cond.selects q.1 (⟨"HeldCoatsModel", "told", "(I)I"⟩ : MethodName) (⟨"HeldCoatsModel", "told", "(I)I"⟩ : MethodName) ∈ lw_all := List.forall_mem_cons.mpr ⟨⟨_, cz_cl5, q2453⟩, fun _ h => absurd h List.not_mem_nil⟩
theorem md_X5_told : cz_md yX5_told 2 (ws_ yX5_told cX5_told 2 ((Option.some Jvm.ClassFile.FieldType.int))) 1 := ⟨cz_ws_code q2454, q123, ⟨by decide, by decide, by decide +kernel⟩, by decide⟩
theorem se_HeldCoats_book__I_I_HeldCoats : ∀ c ∈ ([0] : List Nat), ∃ q : vw_C, cz_cl[c]? = some q ∧ Cond.selects q.1 (⟨"HeldCoats", "book", "(I)I"⟩ : MethodName) (⟨"HeldCoats", "book", "(I)I"⟩ : MethodName) ∈ lw_all := List.forall_mem_cons.mpr ⟨⟨_, cz_cl0, q1522⟩, fun _ h => absurd h List.not_mem_nil⟩
theorem md_X1_book : cz_md yX1_book 4 (wsW_ yX1_book cX1_book 4 ((Option.some Jvm.ClassFile.FieldType.int)) [(23, 56, 57, 111)]) 1 := ⟨cz_ws_codeW q1523, q113, ⟨by decide, by decide, by decide +kernel⟩, by decide⟩
theorem se_HeldCoatsModel_book__I_I_HeldCoatsModel : ∀ c ∈ ([5] : List Nat), ∃ q : vw_C, cz_cl[c]? = some q ∧ Cond.selects q.1 (⟨"HeldCoatsModel", "book", "(I)I"⟩ : MethodName) (⟨"HeldCoatsModel", "book", "(I)I"⟩ : MethodName) ∈ lw_all := List.forall_mem_cons.mpr ⟨⟨_, cz_cl5, q2441⟩, fun _ h => absurd h List.not_mem_nil⟩
theorem md_X5_book : cz_md yX5_book 5 (ws_ yX5_book cX5_book 5 ((Option.some Jvm.ClassFile.FieldType.int))) 1 := ⟨cz_ws_code q2442, q123, ⟨by decide, by decide, by decide +kernel⟩, by decide⟩
theorem se_HeldCoats_odds__III_I_HeldCoats : ∀ c ∈ ([0] : List Nat), ∃ q : vw_C, cz_cl[c]? = some q ∧ Cond.selects q.1 (⟨"HeldCoats", "odds", "(III)I"⟩ : MethodName) (⟨"HeldCoats", "odds", "(III)I"⟩ : MethodName) ∈ lw_all := List.forall_mem_cons.mpr ⟨⟨_, cz_cl0, q1518⟩, fun _ h => absurd h List.not_mem_nil⟩
theorem md_X1_odds : cz_md yX1_odds 6 (ws_ yX1_odds cX1_odds 6 ((Option.some Jvm.ClassFile.FieldType.int))) 3 := ⟨cz_ws_code q1519, q113, ⟨by decide, by decide, by decide +kernel⟩, by decide⟩
theorem se_HeldCoatsModel_odds__III_I_HeldCoatsModel : ∀ c ∈ ([5] : List Nat), ∃ q : vw_C, cz_cl[c]? = some q ∧ Cond.selects q.1 (⟨"HeldCoatsModel", "odds", "(III)I"⟩ : MethodName) (⟨"HeldCoatsModel", "odds", "(III)I"⟩ : MethodName) ∈ lw_all := List.forall_mem_cons.mpr ⟨⟨_, cz_cl5, q2437⟩, fun _ h => absurd h List.not_mem_nil⟩
theorem md_X5_odds : cz_md yX5_odds 7 (ws_ yX5_odds cX5_odds 7 ((Option.some Jvm.ClassFile.FieldType.int))) 3 := ⟨cz_ws_code q2438, q123, ⟨by decide, by decide, by decide +kernel⟩, by decide⟩
theorem se_HeldCoats_drawn__II_I_HeldCoats : ∀ c ∈ ([0] : List Nat), ∃ q : vw_C, cz_cl[c]? = some q ∧ Cond.selects q.1 (⟨"HeldCoats", "drawn", "(II)I"⟩ : MethodName) (⟨"HeldCoats", "drawn", "(II)I"⟩ : MethodName) ∈ lw_all := List.forall_mem_cons.mpr ⟨⟨_, cz_cl0, q1496⟩, fun _ h => absurd h List.not_mem_nil⟩
theorem md_X1_drawn : cz_md yX1_drawn 3 (ws_ yX1_drawn cX1_drawn 3 ((Option.some Jvm.ClassFile.FieldType.int))) 2 := ⟨cz_ws_code q1497, q113, ⟨by decide, by decide, by decide +kernel⟩, by decide⟩
theorem se_HeldCoatsModel_drawn__II_I_HeldCoatsModel : ∀ c ∈ ([5] : List Nat), ∃ q : vw_C, cz_cl[c]? = some q ∧ Cond.selects q.1 (⟨"HeldCoatsModel", "drawn", "(II)I"⟩ : MethodName) (⟨"HeldCoatsModel", "drawn", "(II)I"⟩ : MethodName) ∈ lw_all := List.forall_mem_cons.mpr ⟨⟨_, cz_cl5, q2420⟩, fun _ h => absurd h List.not_mem_nil⟩
theorem md_X5_drawn : cz_md yX5_drawn 3 (ws_ yX5_drawn cX5_drawn 3 ((Option.some Jvm.ClassFile.FieldType.int))) 2 := ⟨cz_ws_code q2421, q123, ⟨by decide, by decide, by decide +kernel⟩, by decide⟩
theorem se_HeldCoats_price___I_HeldCoats : ∀ c ∈ ([0] : List Nat), ∃ q : vw_C, cz_cl[c]? = some q ∧ Cond.selects q.1 (⟨"HeldCoats", "price", "()I"⟩ : MethodName) (⟨"HeldCoats", "price", "()I"⟩ : MethodName) ∈ lw_all := List.forall_mem_cons.mpr ⟨⟨_, cz_cl0, q1492⟩, fun _ h => absurd h List.not_mem_nil⟩
theorem md_X1_price : cz_md yX1_price 1 (ws_ yX1_price cX1_price 1 ((Option.some Jvm.ClassFile.FieldType.int))) 0 := ⟨cz_ws_code q1493, q113, ⟨by decide, by decide, by decide +kernel⟩, by decide⟩
theorem se_HeldCoatsModel_price___I_HeldCoatsModel : ∀ c ∈ ([5] : List Nat), ∃ q : vw_C, cz_cl[c]? = some q ∧ Cond.selects q.1 (⟨"HeldCoatsModel", "price", "()I"⟩ : MethodName) (⟨"HeldCoatsModel", "price", "()I"⟩ : MethodName) ∈ lw_all := List.forall_mem_cons.mpr ⟨⟨_, cz_cl5, q2416⟩, fun _ h => absurd h List.not_mem_nil⟩
theorem md_X5_price : cz_md yX5_price 1 (ws_ yX5_price cX5_price 1 ((Option.some Jvm.ClassFile.FieldType.int))) 0 := ⟨cz_ws_code q2417, q123, ⟨by decide, by decide, by decide +kernel⟩, by decide⟩
theorem se_HeldCoats_rounds___I_HeldCoats : ∀ c ∈ ([0] : List Nat), ∃ q : vw_C, cz_cl[c]? = some q ∧ Cond.selects q.1 (⟨"HeldCoats", "rounds", "()I"⟩ : MethodName) (⟨"HeldCoats", "rounds", "()I"⟩ : MethodName) ∈ lw_all := List.forall_mem_cons.mpr ⟨⟨_, cz_cl0, q1484⟩, fun _ h => absurd h List.not_mem_nil⟩
theorem md_X1_rounds : cz_md yX1_rounds 4 (ws_ yX1_rounds cX1_rounds 4 ((Option.some Jvm.ClassFile.FieldType.int))) 0 := ⟨cz_ws_code q1485, q113, ⟨by decide, by decide, by decide +kernel⟩, by decide⟩
theorem se_HeldCoatsModel_rounds___I_HeldCoatsModel : ∀ c ∈ ([5] : List Nat), ∃ q : vw_C, cz_cl[c]? = some q ∧ Cond.selects q.1 (⟨"HeldCoatsModel", "rounds", "()I"⟩ : MethodName) (⟨"HeldCoatsModel", "rounds", "()I"⟩ : MethodName) ∈ lw_all := List.forall_mem_cons.mpr ⟨⟨_, cz_cl5, q2412⟩, fun _ h => absurd h List.not_mem_nil⟩
theorem md_X5_rounds : cz_md yX5_rounds 6 (ws_ yX5_rounds cX5_rounds 6 ((Option.some Jvm.ClassFile.FieldType.int))) 0 := ⟨cz_ws_code q2413, q123, ⟨by decide, by decide, by decide +kernel⟩, by decide⟩
theorem se_HeldCoats_never___I_HeldCoats : ∀ c ∈ ([0] : List Nat), ∃ q : vw_C, cz_cl[c]? = some q ∧ Cond.selects q.1 (⟨"HeldCoats", "never", "()I"⟩ : MethodName) (⟨"HeldCoats", "never", "()I"⟩ : MethodName) ∈ lw_all := List.forall_mem_cons.mpr ⟨⟨_, cz_cl0, q1480⟩, fun _ h => absurd h List.not_mem_nil⟩
theorem md_X1_never : cz_md yX1_never 1 (ws_ yX1_never cX1_never 1 ((Option.some Jvm.ClassFile.FieldType.int))) 0 := ⟨cz_ws_code q1481, q113, ⟨by decide, by decide, by decide +kernel⟩, by decide⟩
theorem se_HeldCoatsModel_never___I_HeldCoatsModel : ∀ c ∈ ([5] : List Nat), ∃ q : vw_C, cz_cl[c]? = some q ∧ Cond.selects q.1 (⟨"HeldCoatsModel", "never", "()I"⟩ : MethodName) (⟨"HeldCoatsModel", "never", "()I"⟩ : MethodName) ∈ lw_all := List.forall_mem_cons.mpr ⟨⟨_, cz_cl5, q2408⟩, fun _ h => absurd h List.not_mem_nil⟩
theorem md_X5_never : cz_md yX5_never 1 (ws_ yX5_never cX5_never 1 ((Option.some Jvm.ClassFile.FieldType.int))) 0 := ⟨cz_ws_code q2409, q123, ⟨by decide, by decide, by decide +kernel⟩, by decide⟩
theorem se_HeldCoats_surely___I_HeldCoats : ∀ c ∈ ([0] : List Nat), ∃ q : vw_C, cz_cl[c]? = some q ∧ Cond.selects q.1 (⟨"HeldCoats", "surely", "()I"⟩ : MethodName) (⟨"HeldCoats", "surely", "()I"⟩ : MethodName) ∈ lw_all := List.forall_mem_cons.mpr ⟨⟨_, cz_cl0, q1476⟩, fun _ h => absurd h List.not_mem_nil⟩
theorem md_X1_surely : cz_md yX1_surely 1 (ws_ yX1_surely cX1_surely 1 ((Option.some Jvm.ClassFile.FieldType.int))) 0 := ⟨cz_ws_code q1477, q113, ⟨by decide, by decide, by decide +kernel⟩, by decide⟩
theorem se_HeldCoatsModel_surely___I_HeldCoatsModel : ∀ c ∈ ([5] : List Nat), ∃ q : vw_C, cz_cl[c]? = some q ∧ Cond.selects q.1 (⟨"HeldCoatsModel", "surely", "()I"⟩ : MethodName) (⟨"HeldCoatsModel", "surely", "()I"⟩ : MethodName) ∈ lw_all := List.forall_mem_cons.mpr ⟨⟨_, cz_cl5, q2404⟩, fun _ h => absurd h List.not_mem_nil⟩
theorem md_X5_surely : cz_md yX5_surely 1 (ws_ yX5_surely cX5_surely 1 ((Option.some Jvm.ClassFile.FieldType.int))) 0 := ⟨cz_ws_code q2405, q123, ⟨by decide, by decide, by decide +kernel⟩, by decide⟩
theorem se_HeldCoats_hooks___I_HeldCoats : ∀ c ∈ ([0] : List Nat), ∃ q : vw_C, cz_cl[c]? = some q ∧ Cond.selects q.1 (⟨"HeldCoats", "hooks", "()I"⟩ : MethodName) (⟨"HeldCoats", "hooks", "()I"⟩ : MethodName) ∈ lw_all := List.forall_mem_cons.mpr ⟨⟨_, cz_cl0, q1463⟩, fun _ h => absurd h List.not_mem_nil⟩
theorem md_X1_hooks : cz_md yX1_hooks 10 (ws_ yX1_hooks cX1_hooks 10 ((Option.some Jvm.ClassFile.FieldType.int))) 0 := ⟨cz_ws_code q1464, q113, ⟨by decide, by decide, by decide +kernel⟩, by decide⟩
theorem se_HeldCoatsModel_hooks___I_HeldCoatsModel : ∀ c ∈ ([5] : List Nat), ∃ q : vw_C, cz_cl[c]? = some q ∧ Cond.selects q.1 (⟨"HeldCoatsModel", "hooks", "()I"⟩ : MethodName) (⟨"HeldCoatsModel", "hooks", "()I"⟩ : MethodName) ∈ lw_all := List.forall_mem_cons.mpr ⟨⟨_, cz_cl5, q2396⟩, fun _ h => absurd h List.not_mem_nil⟩
theorem md_X5_hooks : cz_md yX5_hooks 7 (ws_ yX5_hooks cX5_hooks 7 ((Option.some Jvm.ClassFile.FieldType.int))) 0 := ⟨cz_ws_code q2397, q123, ⟨by decide, by decide, by decide +kernel⟩, by decide⟩
theorem se_HeldCoats_harm__II_I_HeldCoats : ∀ c ∈ ([0] : List Nat), ∃ q : vw_C, cz_cl[c]? = some q ∧ Cond.selects q.1 (⟨"HeldCoats", "harm", "(II)I"⟩ : MethodName) (⟨"HeldCoats", "harm", "(II)I"⟩ : MethodName) ∈ lw_all := List.forall_mem_cons.mpr ⟨⟨_, cz_cl0, q1459⟩, fun _ h => absurd h List.not_mem_nil⟩
theorem md_X1_harm : cz_md yX1_harm 3 (ws_ yX1_harm cX1_harm 3 ((Option.some Jvm.ClassFile.FieldType.int))) 2 := ⟨cz_ws_code q1460, q113, ⟨by decide, by decide, by decide +kernel⟩, by decide⟩
theorem se_HeldCoatsModel_harm__II_I_HeldCoatsModel : ∀ c ∈ ([5] : List Nat), ∃ q : vw_C, cz_cl[c]? = some q ∧ Cond.selects q.1 (⟨"HeldCoatsModel", "harm", "(II)I"⟩ : MethodName) (⟨"HeldCoatsModel", "harm", "(II)I"⟩ : MethodName) ∈ lw_all := List.forall_mem_cons.mpr ⟨⟨_, cz_cl5, q2392⟩, fun _ h => absurd h List.not_mem_nil⟩
theorem md_X5_harm : cz_md yX5_harm 5 (ws_ yX5_harm cX5_harm 5 ((Option.some Jvm.ClassFile.FieldType.int))) 2 := ⟨cz_ws_code q2393, q123, ⟨by decide, by decide, by decide +kernel⟩, by decide⟩
theorem se_HeldCoats_rules__I_I_HeldCoats : ∀ c ∈ ([0] : List Nat), ∃ q : vw_C, cz_cl[c]? = some q ∧ Cond.selects q.1 (⟨"HeldCoats", "rules", "(I)I"⟩ : MethodName) (⟨"HeldCoats", "rules", "(I)I"⟩ : MethodName) ∈ lw_all := List.forall_mem_cons.mpr ⟨⟨_, cz_cl0, q1455⟩, fun _ h => absurd h List.not_mem_nil⟩
theorem md_X1_rules : cz_md yX1_rules 2 (ws_ yX1_rules cX1_rules 2 ((Option.some Jvm.ClassFile.FieldType.int))) 1 := ⟨cz_ws_code q1456, q113, ⟨by decide, by decide, by decide +kernel⟩, by decide⟩
theorem se_HeldCoatsModel_rules__I_I_HeldCoatsModel : ∀ c ∈ ([5] : List Nat), ∃ q : vw_C, cz_cl[c]? = some q ∧ Cond.selects q.1 (⟨"HeldCoatsModel", "rules", "(I)I"⟩ : MethodName) (⟨"HeldCoatsModel", "rules", "(I)I"⟩ : MethodName) ∈ lw_all := List.forall_mem_cons.mpr ⟨⟨_, cz_cl5, q2388⟩, fun _ h => absurd h List.not_mem_nil⟩
theorem md_X5_rules : cz_md yX5_rules 2 (ws_ yX5_rules cX5_rules 2 ((Option.some Jvm.ClassFile.FieldType.int))) 1 := ⟨cz_ws_code q2389, q123, ⟨by decide, by decide, by decide +kernel⟩, by decide⟩
theorem se_HeldCoats_bare___I_HeldCoats : ∀ c ∈ ([0] : List Nat), ∃ q : vw_C, cz_cl[c]? = some q ∧ Cond.selects q.1 (⟨"HeldCoats", "bare", "()I"⟩ : MethodName) (⟨"HeldCoats", "bare", "()I"⟩ : MethodName) ∈ lw_all := List.forall_mem_cons.mpr ⟨⟨_, cz_cl0, q1447⟩, fun _ h => absurd h List.not_mem_nil⟩
theorem md_X1_bare : cz_md yX1_bare 1 (ws_ yX1_bare cX1_bare 1 ((Option.some Jvm.ClassFile.FieldType.int))) 0 := ⟨cz_ws_code q1448, q113, ⟨by decide, by decide, by decide +kernel⟩, by decide⟩
theorem se_HeldCoatsModel_bare___I_HeldCoatsModel : ∀ c ∈ ([5] : List Nat), ∃ q : vw_C, cz_cl[c]? = some q ∧ Cond.selects q.1 (⟨"HeldCoatsModel", "bare", "()I"⟩ : MethodName) (⟨"HeldCoatsModel", "bare", "()I"⟩ : MethodName) ∈ lw_all := List.forall_mem_cons.mpr ⟨⟨_, cz_cl5, q2380⟩, fun _ h => absurd h List.not_mem_nil⟩
theorem md_X5_bare : cz_md yX5_bare 1 (ws_ yX5_bare cX5_bare 1 ((Option.some Jvm.ClassFile.FieldType.int))) 0 := ⟨cz_ws_code q2381, q123, ⟨by decide, by decide, by decide +kernel⟩, by decide⟩
theorem se_HeldCoats_word__I_I_HeldCoats : ∀ c ∈ ([0] : List Nat), ∃ q : vw_C, cz_cl[c]? = some q ∧ Cond.selects q.1 (⟨"HeldCoats", "word", "(I)I"⟩ : MethodName) (⟨"HeldCoats", "word", "(I)I"⟩ : MethodName) ∈ lw_all := List.forall_mem_cons.mpr ⟨⟨_, cz_cl0, q1442⟩, fun _ h => absurd h List.not_mem_nil⟩
theorem md_X1_word : cz_md yX1_word 4 (ws_ yX1_word cX1_word 4 ((Option.some Jvm.ClassFile.FieldType.int))) 1 := ⟨cz_ws_code q1443, q113, ⟨by decide, by decide, by decide +kernel⟩, by decide⟩
theorem se_HeldCoatsModel_word__I_I_HeldCoatsModel : ∀ c ∈ ([5] : List Nat), ∃ q : vw_C, cz_cl[c]? = some q ∧ Cond.selects q.1 (⟨"HeldCoatsModel", "word", "(I)I"⟩ : MethodName) (⟨"HeldCoatsModel", "word", "(I)I"⟩ : MethodName) ∈ lw_all := List.forall_mem_cons.mpr ⟨⟨_, cz_cl5, q2368⟩, fun _ h => absurd h List.not_mem_nil⟩
theorem md_X5_word : cz_md yX5_word 4 (ws_ yX5_word cX5_word 4 ((Option.some Jvm.ClassFile.FieldType.int))) 1 := ⟨cz_ws_code q2369, q123, ⟨by decide, by decide, by decide +kernel⟩, by decide⟩
theorem se_HeldCoats_frostAt__II_I_HeldCoats : ∀ c ∈ ([0] : List Nat), ∃ q : vw_C, cz_cl[c]? = some q ∧ Cond.selects q.1 (⟨"HeldCoats", "frostAt", "(II)I"⟩ : MethodName) (⟨"HeldCoats", "frostAt", "(II)I"⟩ : MethodName) ∈ lw_all := List.forall_mem_cons.mpr ⟨⟨_, cz_cl0, q1438⟩, fun _ h => absurd h List.not_mem_nil⟩
theorem md_X1_frostAt : cz_md yX1_frostAt 3 (ws_ yX1_frostAt cX1_frostAt 3 ((Option.some Jvm.ClassFile.FieldType.int))) 2 := ⟨cz_ws_code q1439, q113, ⟨by decide, by decide, by decide +kernel⟩, by decide⟩
theorem se_HeldCoatsModel_frostAt__II_I_HeldCoatsModel : ∀ c ∈ ([5] : List Nat), ∃ q : vw_C, cz_cl[c]? = some q ∧ Cond.selects q.1 (⟨"HeldCoatsModel", "frostAt", "(II)I"⟩ : MethodName) (⟨"HeldCoatsModel", "frostAt", "(II)I"⟩ : MethodName) ∈ lw_all := List.forall_mem_cons.mpr ⟨⟨_, cz_cl5, q2364⟩, fun _ h => absurd h List.not_mem_nil⟩
theorem md_X5_frostAt : cz_md yX5_frostAt 3 (ws_ yX5_frostAt cX5_frostAt 3 ((Option.some Jvm.ClassFile.FieldType.int))) 2 := ⟨cz_ws_code q2365, q123, ⟨by decide, by decide, by decide +kernel⟩, by decide⟩
theorem se_HeldCoats_frost__II_I_HeldCoats : ∀ c ∈ ([0] : List Nat), ∃ q : vw_C, cz_cl[c]? = some q ∧ Cond.selects q.1 (⟨"HeldCoats", "frost", "(II)I"⟩ : MethodName) (⟨"HeldCoats", "frost", "(II)I"⟩ : MethodName) ∈ lw_all := List.forall_mem_cons.mpr ⟨⟨_, cz_cl0, q1430⟩, fun _ h => absurd h List.not_mem_nil⟩
theorem md_X1_frost : cz_md yX1_frost 3 (ws_ yX1_frost cX1_frost 3 ((Option.some Jvm.ClassFile.FieldType.int))) 2 := ⟨cz_ws_code q1431, q113, ⟨by decide, by decide, by decide +kernel⟩, by decide⟩
theorem se_HeldCoatsModel_frost__II_I_HeldCoatsModel : ∀ c ∈ ([5] : List Nat), ∃ q : vw_C, cz_cl[c]? = some q ∧ Cond.selects q.1 (⟨"HeldCoatsModel", "frost", "(II)I"⟩ : MethodName) (⟨"HeldCoatsModel", "frost", "(II)I"⟩ : MethodName) ∈ lw_all := List.forall_mem_cons.mpr ⟨⟨_, cz_cl5, q2352⟩, fun _ h => absurd h List.not_mem_nil⟩
theorem md_X5_frost : cz_md yX5_frost 3 (ws_ yX5_frost cX5_frost 3 ((Option.some Jvm.ClassFile.FieldType.int))) 2 := ⟨cz_ws_code q2353, q123, ⟨by decide, by decide, by decide +kernel⟩, by decide⟩
theorem se_HeldCoats_bribes__I_I_HeldCoats : ∀ c ∈ ([0] : List Nat), ∃ q : vw_C, cz_cl[c]? = some q ∧ Cond.selects q.1 (⟨"HeldCoats", "bribes", "(I)I"⟩ : MethodName) (⟨"HeldCoats", "bribes", "(I)I"⟩ : MethodName) ∈ lw_all := List.forall_mem_cons.mpr ⟨⟨_, cz_cl0, q1422⟩, fun _ h => absurd h List.not_mem_nil⟩
theorem md_X1_bribes : cz_md yX1_bribes 7 (ws_ yX1_bribes cX1_bribes 7 ((Option.some Jvm.ClassFile.FieldType.int))) 1 := ⟨cz_ws_code q1423, q113, ⟨by decide, by decide, by decide +kernel⟩, by decide⟩
theorem se_HeldCoatsModel_bribes__I_I_HeldCoatsModel : ∀ c ∈ ([5] : List Nat), ∃ q : vw_C, cz_cl[c]? = some q ∧ Cond.selects q.1 (⟨"HeldCoatsModel", "bribes", "(I)I"⟩ : MethodName) (⟨"HeldCoatsModel", "bribes", "(I)I"⟩ : MethodName) ∈ lw_all := List.forall_mem_cons.mpr ⟨⟨_, cz_cl5, q2348⟩, fun _ h => absurd h List.not_mem_nil⟩
theorem md_X5_bribes : cz_md yX5_bribes 3 (ws_ yX5_bribes cX5_bribes 3 ((Option.some Jvm.ClassFile.FieldType.int))) 1 := ⟨cz_ws_code q2349, q123, ⟨by decide, by decide, by decide +kernel⟩, by decide⟩
theorem se_HeldCoats_queue__I_I_HeldCoats : ∀ c ∈ ([0] : List Nat), ∃ q : vw_C, cz_cl[c]? = some q ∧ Cond.selects q.1 (⟨"HeldCoats", "queue", "(I)I"⟩ : MethodName) (⟨"HeldCoats", "queue", "(I)I"⟩ : MethodName) ∈ lw_all := List.forall_mem_cons.mpr ⟨⟨_, cz_cl0, q1418⟩, fun _ h => absurd h List.not_mem_nil⟩
theorem md_X1_queue : cz_md yX1_queue 2 (ws_ yX1_queue cX1_queue 2 ((Option.some Jvm.ClassFile.FieldType.int))) 1 := ⟨cz_ws_code q1419, q113, ⟨by decide, by decide, by decide +kernel⟩, by decide⟩
theorem se_HeldCoatsModel_queue__I_I_HeldCoatsModel : ∀ c ∈ ([5] : List Nat), ∃ q : vw_C, cz_cl[c]? = some q ∧ Cond.selects q.1 (⟨"HeldCoatsModel", "queue", "(I)I"⟩ : MethodName) (⟨"HeldCoatsModel", "queue", "(I)I"⟩ : MethodName) ∈ lw_all := List.forall_mem_cons.mpr ⟨⟨_, cz_cl5, q2344⟩, fun _ h => absurd h List.not_mem_nil⟩
theorem md_X5_queue : cz_md yX5_queue 2 (ws_ yX5_queue cX5_queue 2 ((Option.some Jvm.ClassFile.FieldType.int))) 1 := ⟨cz_ws_code q2345, q123, ⟨by decide, by decide, by decide +kernel⟩, by decide⟩
theorem se_HeldCoats_ahead__I_I_HeldCoats : ∀ c ∈ ([0] : List Nat), ∃ q : vw_C, cz_cl[c]? = some q ∧ Cond.selects q.1 (⟨"HeldCoats", "ahead", "(I)I"⟩ : MethodName) (⟨"HeldCoats", "ahead", "(I)I"⟩ : MethodName) ∈ lw_all := List.forall_mem_cons.mpr ⟨⟨_, cz_cl0, q1414⟩, fun _ h => absurd h List.not_mem_nil⟩
theorem md_X1_ahead : cz_md yX1_ahead 3 (ws_ yX1_ahead cX1_ahead 3 ((Option.some Jvm.ClassFile.FieldType.int))) 1 := ⟨cz_ws_code q1415, q113, ⟨by decide, by decide, by decide +kernel⟩, by decide⟩
theorem se_HeldCoatsModel_ahead__I_I_HeldCoatsModel : ∀ c ∈ ([5] : List Nat), ∃ q : vw_C, cz_cl[c]? = some q ∧ Cond.selects q.1 (⟨"HeldCoatsModel", "ahead", "(I)I"⟩ : MethodName) (⟨"HeldCoatsModel", "ahead", "(I)I"⟩ : MethodName) ∈ lw_all := List.forall_mem_cons.mpr ⟨⟨_, cz_cl5, q2336⟩, fun _ h => absurd h List.not_mem_nil⟩
theorem md_X5_ahead : cz_md yX5_ahead 2 (ws_ yX5_ahead cX5_ahead 2 ((Option.some Jvm.ClassFile.FieldType.int))) 1 := ⟨cz_ws_code q2337, q123, ⟨by decide, by decide, by decide +kernel⟩, by decide⟩
theorem se_HeldCoats_turns___I_HeldCoats : ∀ c ∈ ([0] : List Nat), ∃ q : vw_C, cz_cl[c]? = some q ∧ Cond.selects q.1 (⟨"HeldCoats", "turns", "()I"⟩ : MethodName) (⟨"HeldCoats", "turns", "()I"⟩ : MethodName) ∈ lw_all := List.forall_mem_cons.mpr ⟨⟨_, cz_cl0, q1410⟩, fun _ h => absurd h List.not_mem_nil⟩
theorem md_X1_turns : cz_md yX1_turns 1 (ws_ yX1_turns cX1_turns 1 ((Option.some Jvm.ClassFile.FieldType.int))) 0 := ⟨cz_ws_code q1411, q113, ⟨by decide, by decide, by decide +kernel⟩, by decide⟩
theorem se_HeldCoatsModel_turns___I_HeldCoatsModel : ∀ c ∈ ([5] : List Nat), ∃ q : vw_C, cz_cl[c]? = some q ∧ Cond.selects q.1 (⟨"HeldCoatsModel", "turns", "()I"⟩ : MethodName) (⟨"HeldCoatsModel", "turns", "()I"⟩ : MethodName) ∈ lw_all := List.forall_mem_cons.mpr ⟨⟨_, cz_cl5, q2332⟩, fun _ h => absurd h List.not_mem_nil⟩
theorem md_X5_turns : cz_md yX5_turns 1 (ws_ yX5_turns cX5_turns 1 ((Option.some Jvm.ClassFile.FieldType.int))) 0 := ⟨cz_ws_code q2333, q123, ⟨by decide, by decide, by decide +kernel⟩, by decide⟩
theorem se_HeldCoats_share__IIII_I_HeldCoats : ∀ c ∈ ([0] : List Nat), ∃ q : vw_C, cz_cl[c]? = some q ∧ Cond.selects q.1 (⟨"HeldCoats", "share", "(IIII)I"⟩ : MethodName) (⟨"HeldCoats", "share", "(IIII)I"⟩ : MethodName) ∈ lw_all := List.forall_mem_cons.mpr ⟨⟨_, cz_cl0, q1397⟩, fun _ h => absurd h List.not_mem_nil⟩
theorem md_X1_share : cz_md yX1_share 11 (ws_ yX1_share cX1_share 11 ((Option.some Jvm.ClassFile.FieldType.int))) 4 := ⟨cz_ws_code q1398, q113, ⟨by decide, by decide, by decide +kernel⟩, by decide⟩
theorem se_HeldCoatsModel_share__IIII_I_HeldCoatsModel : ∀ c ∈ ([5] : List Nat), ∃ q : vw_C, cz_cl[c]? = some q ∧ Cond.selects q.1 (⟨"HeldCoatsModel", "share", "(IIII)I"⟩ : MethodName) (⟨"HeldCoatsModel", "share", "(IIII)I"⟩ : MethodName) ∈ lw_all := List.forall_mem_cons.mpr ⟨⟨_, cz_cl5, q2324⟩, fun _ h => absurd h List.not_mem_nil⟩
theorem md_X5_share : cz_md yX5_share 13 (ws_ yX5_share cX5_share 13 ((Option.some Jvm.ClassFile.FieldType.int))) 4 := ⟨cz_ws_code q2325, q123, ⟨by decide, by decide, by decide +kernel⟩, by decide⟩
theorem se_HeldCoats_laid___I_HeldCoats : ∀ c ∈ ([0] : List Nat), ∃ q : vw_C, cz_cl[c]? = some q ∧ Cond.selects q.1 (⟨"HeldCoats", "laid", "()I"⟩ : MethodName) (⟨"HeldCoats", "laid", "()I"⟩ : MethodName) ∈ lw_all := List.forall_mem_cons.mpr ⟨⟨_, cz_cl0, q1393⟩, fun _ h => absurd h List.not_mem_nil⟩
theorem md_X1_laid : cz_md yX1_laid 1 (ws_ yX1_laid cX1_laid 1 ((Option.some Jvm.ClassFile.FieldType.int))) 0 := ⟨cz_ws_code q1394, q113, ⟨by decide, by decide, by decide +kernel⟩, by decide⟩
theorem se_HeldCoatsModel_laid___I_HeldCoatsModel : ∀ c ∈ ([5] : List Nat), ∃ q : vw_C, cz_cl[c]? = some q ∧ Cond.selects q.1 (⟨"HeldCoatsModel", "laid", "()I"⟩ : MethodName) (⟨"HeldCoatsModel", "laid", "()I"⟩ : MethodName) ∈ lw_all := List.forall_mem_cons.mpr ⟨⟨_, cz_cl5, q2320⟩, fun _ h => absurd h List.not_mem_nil⟩
theorem md_X5_laid : cz_md yX5_laid 1 (ws_ yX5_laid cX5_laid 1 ((Option.some Jvm.ClassFile.FieldType.int))) 0 := ⟨cz_ws_code q2321, q123, ⟨by decide, by decide, by decide +kernel⟩, by decide⟩
theorem se_HeldCoats_best__II_I_HeldCoats : ∀ c ∈ ([0] : List Nat), ∃ q : vw_C, cz_cl[c]? = some q ∧ Cond.selects q.1 (⟨"HeldCoats", "best", "(II)I"⟩ : MethodName) (⟨"HeldCoats", "best", "(II)I"⟩ : MethodName) ∈ lw_all := List.forall_mem_cons.mpr ⟨⟨_, cz_cl0, q1364⟩, fun _ h => absurd h List.not_mem_nil⟩
theorem md_X1_best : cz_md yX1_best 9 (ws_ yX1_best cX1_best 9 ((Option.some Jvm.ClassFile.FieldType.int))) 2 := ⟨cz_ws_code q1365, q113, ⟨by decide, by decide, by decide +kernel⟩, by decide⟩
theorem se_HeldCoatsModel_best__II_I_HeldCoatsModel : ∀ c ∈ ([5] : List Nat), ∃ q : vw_C, cz_cl[c]? = some q ∧ Cond.selects q.1 (⟨"HeldCoatsModel", "best", "(II)I"⟩ : MethodName) (⟨"HeldCoatsModel", "best", "(II)I"⟩ : MethodName) ∈ lw_all := List.forall_mem_cons.mpr ⟨⟨_, cz_cl5, q2309⟩, fun _ h => absurd h List.not_mem_nil⟩
theorem md_X5_best : cz_md yX5_best 8 (ws_ yX5_best cX5_best 8 ((Option.some Jvm.ClassFile.FieldType.int))) 2 := ⟨cz_ws_code q2310, q123, ⟨by decide, by decide, by decide +kernel⟩, by decide⟩
theorem se_HeldCoats_undo___I_HeldCoats : ∀ c ∈ ([0] : List Nat), ∃ q : vw_C, cz_cl[c]? = some q ∧ Cond.selects q.1 (⟨"HeldCoats", "undo", "()I"⟩ : MethodName) (⟨"HeldCoats", "undo", "()I"⟩ : MethodName) ∈ lw_all := List.forall_mem_cons.mpr ⟨⟨_, cz_cl0, q1360⟩, fun _ h => absurd h List.not_mem_nil⟩
theorem md_X1_undo : cz_md yX1_undo 1 (ws_ yX1_undo cX1_undo 1 ((Option.some Jvm.ClassFile.FieldType.int))) 0 := ⟨cz_ws_code q1361, q113, ⟨by decide, by decide, by decide +kernel⟩, by decide⟩
theorem se_HeldCoatsModel_undo___I_HeldCoatsModel : ∀ c ∈ ([5] : List Nat), ∃ q : vw_C, cz_cl[c]? = some q ∧ Cond.selects q.1 (⟨"HeldCoatsModel", "undo", "()I"⟩ : MethodName) (⟨"HeldCoatsModel", "undo", "()I"⟩ : MethodName) ∈ lw_all := List.forall_mem_cons.mpr ⟨⟨_, cz_cl5, q2305⟩, fun _ h => absurd h List.not_mem_nil⟩
theorem md_X5_undo : cz_md yX5_undo 2 (ws_ yX5_undo cX5_undo 2 ((Option.some Jvm.ClassFile.FieldType.int))) 0 := ⟨cz_ws_code q2306, q123, ⟨by decide, by decide, by decide +kernel⟩, by decide⟩
theorem se_HeldCoats_days__I_I_HeldCoats : ∀ c ∈ ([0] : List Nat), ∃ q : vw_C, cz_cl[c]? = some q ∧ Cond.selects q.1 (⟨"HeldCoats", "days", "(I)I"⟩ : MethodName) (⟨"HeldCoats", "days", "(I)I"⟩ : MethodName) ∈ lw_all := List.forall_mem_cons.mpr ⟨⟨_, cz_cl0, q1353⟩, fun _ h => absurd h List.not_mem_nil⟩
theorem md_X1_days : cz_md yX1_days 2 (ws_ yX1_days cX1_days 2 ((Option.some Jvm.ClassFile.FieldType.int))) 1 := ⟨cz_ws_code q1354, q113, ⟨by decide, by decide, by decide +kernel⟩, by decide⟩
theorem se_HeldCoatsModel_days__I_I_HeldCoatsModel : ∀ c ∈ ([5] : List Nat), ∃ q : vw_C, cz_cl[c]? = some q ∧ Cond.selects q.1 (⟨"HeldCoatsModel", "days", "(I)I"⟩ : MethodName) (⟨"HeldCoatsModel", "days", "(I)I"⟩ : MethodName) ∈ lw_all := List.forall_mem_cons.mpr ⟨⟨_, cz_cl5, q2289⟩, fun _ h => absurd h List.not_mem_nil⟩
theorem md_X5_days : cz_md yX5_days 2 (ws_ yX5_days cX5_days 2 ((Option.some Jvm.ClassFile.FieldType.int))) 1 := ⟨cz_ws_code q2290, q123, ⟨by decide, by decide, by decide +kernel⟩, by decide⟩
theorem se_HeldCoats_keep__I_I_HeldCoats : ∀ c ∈ ([0] : List Nat), ∃ q : vw_C, cz_cl[c]? = some q ∧ Cond.selects q.1 (⟨"HeldCoats", "keep", "(I)I"⟩ : MethodName) (⟨"HeldCoats", "keep", "(I)I"⟩ : MethodName) ∈ lw_all := List.forall_mem_cons.mpr ⟨⟨_, cz_cl0, q1341⟩, fun _ h => absurd h List.not_mem_nil⟩
theorem md_X1_keep : cz_md yX1_keep 2 (ws_ yX1_keep cX1_keep 2 ((Option.some Jvm.ClassFile.FieldType.int))) 1 := ⟨cz_ws_code q1342, q113, ⟨by decide, by decide, by decide +kernel⟩, by decide⟩
theorem se_HeldCoatsModel_keep__I_I_HeldCoatsModel : ∀ c ∈ ([5] : List Nat), ∃ q : vw_C, cz_cl[c]? = some q ∧ Cond.selects q.1 (⟨"HeldCoatsModel", "keep", "(I)I"⟩ : MethodName) (⟨"HeldCoatsModel", "keep", "(I)I"⟩ : MethodName) ∈ lw_all := List.forall_mem_cons.mpr ⟨⟨_, cz_cl5, q2281⟩, fun _ h => absurd h List.not_mem_nil⟩
theorem md_X5_keep : cz_md yX5_keep 2 (ws_ yX5_keep cX5_keep 2 ((Option.some Jvm.ClassFile.FieldType.int))) 1 := ⟨cz_ws_code q2282, q123, ⟨by decide, by decide, by decide +kernel⟩, by decide⟩
theorem se_HeldCoats_lend__II_I_HeldCoats : ∀ c ∈ ([0] : List Nat), ∃ q : vw_C, cz_cl[c]? = some q ∧ Cond.selects q.1 (⟨"HeldCoats", "lend", "(II)I"⟩ : MethodName) (⟨"HeldCoats", "lend", "(II)I"⟩ : MethodName) ∈ lw_all := List.forall_mem_cons.mpr ⟨⟨_, cz_cl0, q1328⟩, fun _ h => absurd h List.not_mem_nil⟩
theorem md_X1_lend : cz_md yX1_lend 3 (ws_ yX1_lend cX1_lend 3 ((Option.some Jvm.ClassFile.FieldType.int))) 2 := ⟨cz_ws_code q1329, q113, ⟨by decide, by decide, by decide +kernel⟩, by decide⟩
theorem se_HeldCoatsModel_lend__II_I_HeldCoatsModel : ∀ c ∈ ([5] : List Nat), ∃ q : vw_C, cz_cl[c]? = some q ∧ Cond.selects q.1 (⟨"HeldCoatsModel", "lend", "(II)I"⟩ : MethodName) (⟨"HeldCoatsModel", "lend", "(II)I"⟩ : MethodName) ∈ lw_all := List.forall_mem_cons.mpr ⟨⟨_, cz_cl5, q2273⟩, fun _ h => absurd h List.not_mem_nil⟩
theorem md_X5_lend : cz_md yX5_lend 4 (ws_ yX5_lend cX5_lend 4 ((Option.some Jvm.ClassFile.FieldType.int))) 2 := ⟨cz_ws_code q2274, q123, ⟨by decide, by decide, by decide +kernel⟩, by decide⟩
theorem se_HeldCoats_wear__II_I_HeldCoats : ∀ c ∈ ([0] : List Nat), ∃ q : vw_C, cz_cl[c]? = some q ∧ Cond.selects q.1 (⟨"HeldCoats", "wear", "(II)I"⟩ : MethodName) (⟨"HeldCoats", "wear", "(II)I"⟩ : MethodName) ∈ lw_all := List.forall_mem_cons.mpr ⟨⟨_, cz_cl0, q1307⟩, fun _ h => absurd h List.not_mem_nil⟩
theorem md_X1_wear : cz_md yX1_wear 3 (ws_ yX1_wear cX1_wear 3 ((Option.some Jvm.ClassFile.FieldType.int))) 2 := ⟨cz_ws_code q1308, q113, ⟨by decide, by decide, by decide +kernel⟩, by decide⟩
theorem se_HeldCoatsModel_wear__II_I_HeldCoatsModel : ∀ c ∈ ([5] : List Nat), ∃ q : vw_C, cz_cl[c]? = some q ∧ Cond.selects q.1 (⟨"HeldCoatsModel", "wear", "(II)I"⟩ : MethodName) (⟨"HeldCoatsModel", "wear", "(II)I"⟩ : MethodName) ∈ lw_all := List.forall_mem_cons.mpr ⟨⟨_, cz_cl5, q2257⟩, fun _ h => absurd h List.not_mem_nil⟩
theorem md_X5_wear : cz_md yX5_wear 4 (ws_ yX5_wear cX5_wear 4 ((Option.some Jvm.ClassFile.FieldType.int))) 2 := ⟨cz_ws_code q2258, q123, ⟨by decide, by decide, by decide +kernel⟩, by decide⟩
theorem se_HeldCoats_lay__II_I_HeldCoats : ∀ c ∈ ([0] : List Nat), ∃ q : vw_C, cz_cl[c]? = some q ∧ Cond.selects q.1 (⟨"HeldCoats", "lay", "(II)I"⟩ : MethodName) (⟨"HeldCoats", "lay", "(II)I"⟩ : MethodName) ∈ lw_all := List.forall_mem_cons.mpr ⟨⟨_, cz_cl0, q1140⟩, fun _ h => absurd h List.not_mem_nil⟩
theorem md_X1_lay : cz_md yX1_lay 3 (ws_ yX1_lay cX1_lay 3 ((Option.some Jvm.ClassFile.FieldType.int))) 2 := ⟨cz_ws_code q1141, q113, ⟨by decide, by decide, by decide +kernel⟩, by decide⟩
theorem se_HeldCoatsModel_lay__II_I_HeldCoatsModel : ∀ c ∈ ([5] : List Nat), ∃ q : vw_C, cz_cl[c]? = some q ∧ Cond.selects q.1 (⟨"HeldCoatsModel", "lay", "(II)I"⟩ : MethodName) (⟨"HeldCoatsModel", "lay", "(II)I"⟩ : MethodName) ∈ lw_all := List.forall_mem_cons.mpr ⟨⟨_, cz_cl5, q2237⟩, fun _ h => absurd h List.not_mem_nil⟩
theorem md_X5_lay : cz_md yX5_lay 4 (ws_ yX5_lay cX5_lay 4 ((Option.some Jvm.ClassFile.FieldType.int))) 2 := ⟨cz_ws_code q2238, q123, ⟨by decide, by decide, by decide +kernel⟩, by decide⟩
theorem se_HeldCoats_now__I_I_HeldCoats : ∀ c ∈ ([0] : List Nat), ∃ q : vw_C, cz_cl[c]? = some q ∧ Cond.selects q.1 (⟨"HeldCoats", "now", "(I)I"⟩ : MethodName) (⟨"HeldCoats", "now", "(I)I"⟩ : MethodName) ∈ lw_all := List.forall_mem_cons.mpr ⟨⟨_, cz_cl0, q1120⟩, fun _ h => absurd h List.not_mem_nil⟩
theorem md_X1_now : cz_md yX1_now 2 (ws_ yX1_now cX1_now 2 ((Option.some Jvm.ClassFile.FieldType.int))) 1 := ⟨cz_ws_code q1121, q113, ⟨by decide, by decide, by decide +kernel⟩, by decide⟩
theorem se_HeldCoatsModel_now__I_I_HeldCoatsModel : ∀ c ∈ ([5] : List Nat), ∃ q : vw_C, cz_cl[c]? = some q ∧ Cond.selects q.1 (⟨"HeldCoatsModel", "now", "(I)I"⟩ : MethodName) (⟨"HeldCoatsModel", "now", "(I)I"⟩ : MethodName) ∈ lw_all := List.forall_mem_cons.mpr ⟨⟨_, cz_cl5, q2225⟩, fun _ h => absurd h List.not_mem_nil⟩
theorem md_X5_now : cz_md yX5_now 2 (ws_ yX5_now cX5_now 2 ((Option.some Jvm.ClassFile.FieldType.int))) 1 := ⟨cz_ws_code q2226, q123, ⟨by decide, by decide, by decide +kernel⟩, by decide⟩
theorem md_X0_coat : cz_md yX0_coat 5 (wsW_ yX0_coat cX0_coat 5 ((Option.some Jvm.ClassFile.FieldType.int)) [(0, 10, 13, 13)]) 4 := ⟨cz_ws_codeW q1862, q112, ⟨by decide, by decide, by decide +kernel⟩, by decide⟩
theorem se_HeldCoatsModel_coat__II_I_HeldCoatsModel : ∀ c ∈ ([5] : List Nat), ∃ q : vw_C, cz_cl[c]? = some q ∧ Cond.selects q.1 (⟨"HeldCoatsModel", "coat", "(II)I"⟩ : MethodName) (⟨"HeldCoatsModel", "coat", "(II)I"⟩ : MethodName) ∈ lw_all := List.forall_mem_cons.mpr ⟨⟨_, cz_cl5, q2217⟩, fun _ h => absurd h List.not_mem_nil⟩
theorem md_X5_coat : cz_md yX5_coat 3 (ws_ yX5_coat cX5_coat 3 ((Option.some Jvm.ClassFile.FieldType.int))) 2 := ⟨cz_ws_code q2218, q123, ⟨by decide, by decide, by decide +kernel⟩, by decide⟩
theorem se_HeldCoatsModel_thrown___I_HeldCoatsModel : ∀ c ∈ ([5] : List Nat), ∃ q : vw_C, cz_cl[c]? = some q ∧ Cond.selects q.1 (⟨"HeldCoatsModel", "thrown", "()I"⟩ : MethodName) (⟨"HeldCoatsModel", "thrown", "()I"⟩ : MethodName) ∈ lw_all := List.forall_mem_cons.mpr ⟨⟨_, cz_cl5, q1870⟩, fun _ h => absurd h List.not_mem_nil⟩
theorem md_X5_thrown : cz_md yX5_thrown 1 (ws_ yX5_thrown cX5_thrown 1 ((Option.some Jvm.ClassFile.FieldType.int))) 0 := ⟨cz_ws_code q1871, q123, ⟨by decide, by decide, by decide +kernel⟩, by decide⟩
theorem md_X0_man : cz_md yX0_man 5 (wsW_ yX0_man cX0_man 5 ((Option.some Jvm.ClassFile.FieldType.int)) [(0, 10, 13, 13)]) 4 := ⟨cz_ws_codeW q1820, q112, ⟨by decide, by decide, by decide +kernel⟩, by decide⟩
theorem se_HeldCoatsModel_man__II_I_HeldCoatsModel : ∀ c ∈ ([5] : List Nat), ∃ q : vw_C, cz_cl[c]? = some q ∧ Cond.selects q.1 (⟨"HeldCoatsModel", "man", "(II)I"⟩ : MethodName) (⟨"HeldCoatsModel", "man", "(II)I"⟩ : MethodName) ∈ lw_all := List.forall_mem_cons.mpr ⟨⟨_, cz_cl5, q2186⟩, fun _ h => absurd h List.not_mem_nil⟩
theorem md_X5_man : cz_md yX5_man 7 (ws_ yX5_man cX5_man 7 ((Option.some Jvm.ClassFile.FieldType.int))) 2 := ⟨cz_ws_code q2187, q123, ⟨by decide, by decide, by decide +kernel⟩, by decide⟩
theorem se_HeldCoats_seat__II_I_HeldCoats : ∀ c ∈ ([0] : List Nat), ∃ q : vw_C, cz_cl[c]? = some q ∧ Cond.selects q.1 (⟨"HeldCoats", "seat", "(II)I"⟩ : MethodName) (⟨"HeldCoats", "seat", "(II)I"⟩ : MethodName) ∈ lw_all := List.forall_mem_cons.mpr ⟨⟨_, cz_cl0, q1080⟩, fun _ h => absurd h List.not_mem_nil⟩
theorem md_X1_seat : cz_md yX1_seat 3 (ws_ yX1_seat cX1_seat 3 ((Option.some Jvm.ClassFile.FieldType.int))) 2 := ⟨cz_ws_code q1081, q113, ⟨by decide, by decide, by decide +kernel⟩, by decide⟩
theorem se_HeldCoatsModel_seat__II_I_HeldCoatsModel : ∀ c ∈ ([5] : List Nat), ∃ q : vw_C, cz_cl[c]? = some q ∧ Cond.selects q.1 (⟨"HeldCoatsModel", "seat", "(II)I"⟩ : MethodName) (⟨"HeldCoatsModel", "seat", "(II)I"⟩ : MethodName) ∈ lw_all := List.forall_mem_cons.mpr ⟨⟨_, cz_cl5, q2158⟩, fun _ h => absurd h List.not_mem_nil⟩
theorem md_X5_seat : cz_md yX5_seat 4 (ws_ yX5_seat cX5_seat 4 ((Option.some Jvm.ClassFile.FieldType.int))) 2 := ⟨cz_ws_code q2159, q123, ⟨by decide, by decide, by decide +kernel⟩, by decide⟩
theorem se_HeldCoats_fault___I_HeldCoats : ∀ c ∈ ([0] : List Nat), ∃ q : vw_C, cz_cl[c]? = some q ∧ Cond.selects q.1 (⟨"HeldCoats", "fault", "()I"⟩ : MethodName) (⟨"HeldCoats", "fault", "()I"⟩ : MethodName) ∈ lw_all := List.forall_mem_cons.mpr ⟨⟨_, cz_cl0, q1076⟩, fun _ h => absurd h List.not_mem_nil⟩
theorem md_X1_fault : cz_md yX1_fault 1 (ws_ yX1_fault cX1_fault 1 ((Option.some Jvm.ClassFile.FieldType.int))) 0 := ⟨cz_ws_code q1077, q113, ⟨by decide, by decide, by decide +kernel⟩, by decide⟩
theorem se_HeldCoatsModel_fault___I_HeldCoatsModel : ∀ c ∈ ([5] : List Nat), ∃ q : vw_C, cz_cl[c]? = some q ∧ Cond.selects q.1 (⟨"HeldCoatsModel", "fault", "()I"⟩ : MethodName) (⟨"HeldCoatsModel", "fault", "()I"⟩ : MethodName) ∈ lw_all := List.forall_mem_cons.mpr ⟨⟨_, cz_cl5, q2154⟩, fun _ h => absurd h List.not_mem_nil⟩
theorem md_X5_fault : cz_md yX5_fault 1 (ws_ yX5_fault cX5_fault 1 ((Option.some Jvm.ClassFile.FieldType.int))) 0 := ⟨cz_ws_code q2155, q123, ⟨by decide, by decide, by decide +kernel⟩, by decide⟩
theorem se_HeldCoats_capital___I_HeldCoats : ∀ c ∈ ([0] : List Nat), ∃ q : vw_C, cz_cl[c]? = some q ∧ Cond.selects q.1 (⟨"HeldCoats", "capital", "()I"⟩ : MethodName) (⟨"HeldCoats", "capital", "()I"⟩ : MethodName) ∈ lw_all := List.forall_mem_cons.mpr ⟨⟨_, cz_cl0, q449⟩, fun _ h => absurd h List.not_mem_nil⟩
theorem md_X1_capital : cz_md yX1_capital 3 (wsW_ yX1_capital cX1_capital 3 ((Option.some Jvm.ClassFile.FieldType.int)) [(10, 58, 59, 111)]) 0 := ⟨cz_ws_codeW q450, q113, ⟨by decide, by decide, by decide +kernel⟩, by decide⟩
theorem se_HeldCoatsModel_capital___I_HeldCoatsModel : ∀ c ∈ ([5] : List Nat), ∃ q : vw_C, cz_cl[c]? = some q ∧ Cond.selects q.1 (⟨"HeldCoatsModel", "capital", "()I"⟩ : MethodName) (⟨"HeldCoatsModel", "capital", "()I"⟩ : MethodName) ∈ lw_all := List.forall_mem_cons.mpr ⟨⟨_, cz_cl5, q2070⟩, fun _ h => absurd h List.not_mem_nil⟩
theorem md_X5_capital : cz_md yX5_capital 2 (ws_ yX5_capital cX5_capital 2 ((Option.some Jvm.ClassFile.FieldType.int))) 0 := ⟨cz_ws_code q2071, q123, ⟨by decide, by decide, by decide +kernel⟩, by decide⟩
theorem se_HeldCoats_end__I_Z_HeldCoats : ∀ c ∈ ([0] : List Nat), ∃ q : vw_C, cz_cl[c]? = some q ∧ Cond.selects q.1 (⟨"HeldCoats", "end", "(I)Z"⟩ : MethodName) (⟨"HeldCoats", "end", "(I)Z"⟩ : MethodName) ∈ lw_all := List.forall_mem_cons.mpr ⟨⟨_, cz_cl0, q445⟩, fun _ h => absurd h List.not_mem_nil⟩
theorem md_X1_end : cz_md yX1_end 2 (ws_ yX1_end cX1_end 2 ((Option.some Jvm.ClassFile.FieldType.boolean))) 1 := ⟨cz_ws_code q446, q113, ⟨by decide, by decide, by decide +kernel⟩, by decide⟩
theorem se_HeldCoatsModel_end__I_Z_HeldCoatsModel : ∀ c ∈ ([5] : List Nat), ∃ q : vw_C, cz_cl[c]? = some q ∧ Cond.selects q.1 (⟨"HeldCoatsModel", "end", "(I)Z"⟩ : MethodName) (⟨"HeldCoatsModel", "end", "(I)Z"⟩ : MethodName) ∈ lw_all := List.forall_mem_cons.mpr ⟨⟨_, cz_cl5, q1883⟩, fun _ h => absurd h List.not_mem_nil⟩
theorem md_X5_end : cz_md yX5_end 2 (ws_ yX5_end cX5_end 2 ((Option.some Jvm.ClassFile.FieldType.boolean))) 1 := ⟨cz_ws_code q1884, q123, ⟨by decide, by decide, by decide +kernel⟩, by decide⟩
theorem se_HeldCoats_feed__IIIII_I_HeldCoats : ∀ c ∈ ([0] : List Nat), ∃ q : vw_C, cz_cl[c]? = some q ∧ Cond.selects q.1 (⟨"HeldCoats", "feed", "(IIIII)I"⟩ : MethodName) (⟨"HeldCoats", "feed", "(IIIII)I"⟩ : MethodName) ∈ lw_all := List.forall_mem_cons.mpr ⟨⟨_, cz_cl0, q437⟩, fun _ h => absurd h List.not_mem_nil⟩
theorem md_X1_feed : cz_md yX1_feed 6 (ws_ yX1_feed cX1_feed 6 ((Option.some Jvm.ClassFile.FieldType.int))) 5 := ⟨cz_ws_code q438, q113, ⟨by decide, by decide, by decide +kernel⟩, by decide⟩
theorem se_HeldCoatsModel_feed__IIIII_I_HeldCoatsModel : ∀ c ∈ ([5] : List Nat), ∃ q : vw_C, cz_cl[c]? = some q ∧ Cond.selects q.1 (⟨"HeldCoatsModel", "feed", "(IIIII)I"⟩ : MethodName) (⟨"HeldCoatsModel", "feed", "(IIIII)I"⟩ : MethodName) ∈ lw_all := List.forall_mem_cons.mpr ⟨⟨_, cz_cl5, q1874⟩, fun _ h => absurd h List.not_mem_nil⟩
theorem md_X5_feed : cz_md yX5_feed 6 (ws_ yX5_feed cX5_feed 6 ((Option.some Jvm.ClassFile.FieldType.int))) 5 := ⟨cz_ws_code q1875, q123, ⟨by decide, by decide, by decide +kernel⟩, by decide⟩
set_option maxHeartbeats 4000000 in
set_option maxRecDepth 100000 in
noncomputable def fn_L_law_23 (l0 : Option Nat) (l1 : Option Nat) (l2 : Option Nat) (l3 : Option Nat) (k0 : cz_H → cz_Z) (k1 : cz_H → cz_Z) (k2 : cz_H → cz_Z) (k3 : cz_H → cz_Z) (k4 : cz_H → cz_Z) (k5 : cz_H → cz_Z) (k6 : cz_H → cz_Z) (k7 : cz_H → cz_Z) (k8 : cz_H → cz_Z) (k9 : cz_H → cz_Z) (k10 : cz_H → cz_Z) (k11 : cz_H → cz_Z) (k12 : cz_H → cz_Z) (k13 : cz_H → cz_Z) (k14 : cz_H → cz_Z) (k15 : cz_H → cz_Z) (k16 : cz_H → cz_Z) (k17 : cz_H → cz_Z) (k18 : cz_H → cz_Z) (k19 : cz_H → cz_Z) (k20 : cz_H → cz_Z) (k21 : cz_H → cz_Z) (k22 : cz_H → cz_Z) (k23 : cz_H → cz_Z) (k24 : cz_H → cz_Z) (k25 : cz_H → cz_Z) (k26 : cz_H → cz_Z) (k27 : cz_H → cz_Z) (k28 : cz_H → cz_Z) (k29 : cz_H → cz_Z) (k30 : cz_H → cz_Z) (k31 : cz_H → cz_Z) (k32 : cz_H → cz_Z) (k33 : cz_H → cz_Z) (k34 : cz_H → cz_Z) (k35 : cz_H → cz_Z) (k36 : cz_H → cz_Z) (k37 : cz_H → cz_Z) (k38 : cz_H → cz_Z) (k39 : cz_H → cz_Z) (k40 : cz_H → cz_Z) (k41 : cz_H → cz_Z) (k42 : cz_H → cz_Z) (k43 : cz_H → cz_Z) : Nat → Int32 → cz_H → cz_Z
  | 0, _, _ => none
  | n + 1, l4, h => cz_alen h l0 (fun x13 => (if (x13 - 6) < l4 then k43 h else cz_iald h l0 l4 (fun x14 => cz_leti (x14 &&& 63) (fun x15 => (if x15 = 0 then cz_iald h l0 (l4 + 1) (fun x793 => cz_iald h l0 (l4 + 2) (fun x794 => cz_iald h l0 (l4 + 3) (fun x795 => cz_iald h l0 (l4 + 4) (fun x796 => cz_iald h l0 (l4 + 5) (fun x797 => cz_rc h l1 [0] (cz_cI (fn_X1_feed l1 x793 x794 x795 x796 x797 h) (fun x805 h804 => cz_iald h804 l0 (l4 + 1) (fun x806 => cz_iald h804 l0 (l4 + 2) (fun x807 => cz_iald h804 l0 (l4 + 3) (fun x808 => cz_iald h804 l0 (l4 + 4) (fun x809 => cz_iald h804 l0 (l4 + 5) (fun x810 => cz_rc h804 l2 [5] (cz_cI (fn_X5_feed l2 x806 x807 x808 x809 x810 h804) (fun x818 h817 => (if x805 = x818 then cz_leti (l4 + 6) (fun x819 => fn_L_law_23 l0 l1 l2 l3 k0 k1 k2 k3 k4 k5 k6 k7 k8 k9 k10 k11 k12 k13 k14 k15 k16 k17 k18 k19 k20 k21 k22 k23 k24 k25 k26 k27 k28 k29 k30 k31 k32 k33 k34 k35 k36 k37 k38 k39 k40 k41 k42 k43 n x819 h817) else k0 h817))))))))))))))) else if x15 = 1 then cz_iald h l0 (l4 + 1) (fun x774 => cz_rc h l1 [0] (cz_cI (fn_X1_end l1 x774 h) (fun x782 h781 => cz_iald h781 l0 (l4 + 1) (fun x783 => cz_rc h781 l2 [5] (cz_cI (fn_X5_end l2 x783 h781) (fun x791 h790 => (if x782 = x791 then cz_leti (l4 + 6) (fun x792 => fn_L_law_23 l0 l1 l2 l3 k0 k1 k2 k3 k4 k5 k6 k7 k8 k9 k10 k11 k12 k13 k14 k15 k16 k17 k18 k19 k20 k21 k22 k23 k24 k25 k26 k27 k28 k29 k30 k31 k32 k33 k34 k35 k36 k37 k38 k39 k40 k41 k42 k43 n x792 h790) else k1 h790))))))) else if x15 = 2 then cz_rc h l1 [0] (cz_cI (fn_X1_capital l1 h) (fun x764 h763 => cz_rc h763 l2 [5] (cz_cI (fn_X5_capital l2 h763) (fun x772 h771 => (if x764 = x772 then cz_leti (l4 + 6) (fun x773 => fn_L_law_23 l0 l1 l2 l3 k0 k1 k2 k3 k4 k5 k6 k7 k8 k9 k10 k11 k12 k13 k14 k15 k16 k17 k18 k19 k20 k21 k22 k23 k24 k25 k26 k27 k28 k29 k30 k31 k32 k33 k34 k35 k36 k37 k38 k39 k40 k41 k42 k43 n x773 h771) else k2 h771))))) else if x15 = 3 then cz_rc h l1 [0] (cz_cI (fn_X1_fault l1 h) (fun x747 h746 => cz_rc h746 l2 [5] (cz_cI (fn_X5_fault l2 h746) (fun x755 h754 => (if x747 = x755 then cz_leti (l4 + 6) (fun x756 => fn_L_law_23 l0 l1 l2 l3 k0 k1 k2 k3 k4 k5 k6 k7 k8 k9 k10 k11 k12 k13 k14 k15 k16 k17 k18 k19 k20 k21 k22 k23 k24 k25 k26 k27 k28 k29 k30 k31 k32 k33 k34 k35 k36 k37 k38 k39 k40 k41 k42 k43 n x756 h754) else k3 h754))))) else if x15 = 4 then cz_iald h l0 (l4 + 1) (fun x719 => cz_iald h l0 (l4 + 2) (fun x720 => cz_rc h l1 [0] (cz_cI (fn_X1_seat l1 x719 x720 h) (fun x728 h727 => cz_iald h727 l0 (l4 + 1) (fun x729 => cz_iald h727 l0 (l4 + 2) (fun x730 => cz_rc h727 l2 [5] (cz_cI (fn_X5_seat l2 x729 x730 h727) (fun x738 h737 => (if x728 = x738 then cz_leti (l4 + 6) (fun x739 => fn_L_law_23 l0 l1 l2 l3 k0 k1 k2 k3 k4 k5 k6 k7 k8 k9 k10 k11 k12 k13 k14 k15 k16 k17 k18 k19 k20 k21 k22 k23 k24 k25 k26 k27 k28 k29 k30 k31 k32 k33 k34 k35 k36 k37 k38 k39 k40 k41 k42 k43 n x739 h737) else k4 h737))))))))) else if x15 = 5 then cz_iald h l0 (l4 + 1) (fun x694 => cz_iald h l0 (l4 + 2) (fun x695 => cz_cI (fn_X0_man l1 x694 x695 l3 h) (fun x697 h696 => cz_iald h696 l0 (l4 + 1) (fun x698 => cz_iald h696 l0 (l4 + 2) (fun x699 => cz_rc h696 l2 [5] (cz_cI (fn_X5_man l2 x698 x699 h696) (fun x707 h706 => cz_rc h706 l2 [5] (cz_cI (fn_X5_thrown l2 h706) (fun x715 h714 => (if x715 = x697 then (if x697 = 0 then cz_lald h714 l3 0 (fun y717 => (if (lg_cmp y717 ((x707).toInt64)) = 0 then cz_leti (l4 + 6) (fun x718 => fn_L_law_23 l0 l1 l2 l3 k0 k1 k2 k3 k4 k5 k6 k7 k8 k9 k10 k11 k12 k13 k14 k15 k16 k17 k18 k19 k20 k21 k22 k23 k24 k25 k26 k27 k28 k29 k30 k31 k32 k33 k34 k35 k36 k37 k38 k39 k40 k41 k42 k43 n x718 h714) else k6 h714)) else cz_leti (l4 + 6) (fun x716 => fn_L_law_23 l0 l1 l2 l3 k0 k1 k2 k3 k4 k5 k6 k7 k8 k9 k10 k11 k12 k13 k14 k15 k16 k17 k18 k19 k20 k21 k22 k23 k24 k25 k26 k27 k28 k29 k30 k31 k32 k33 k34 k35 k36 k37 k38 k39 k40 k41 k42 k43 n x716 h714)) else k5 h714)))))))))) else if x15 = 6 then cz_iald h l0 (l4 + 1) (fun x669 => cz_iald h l0 (l4 + 2) (fun x670 => cz_cI (fn_X0_coat l1 x669 x670 l3 h) (fun x672 h671 => cz_iald h671 l0 (l4 + 1) (fun x673 => cz_iald h671 l0 (l4 + 2) (fun x674 => cz_rc h671 l2 [5] (cz_cI (fn_X5_coat l2 x673 x674 h671) (fun x682 h681 => cz_rc h681 l2 [5] (cz_cI (fn_X5_thrown l2 h681) (fun x690 h689 => (if x690 = x672 then (if x672 = 0 then cz_lald h689 l3 0 (fun y692 => (if (lg_cmp y692 ((x682).toInt64)) = 0 then cz_leti (l4 + 6) (fun x693 => fn_L_law_23 l0 l1 l2 l3 k0 k1 k2 k3 k4 k5 k6 k7 k8 k9 k10 k11 k12 k13 k14 k15 k16 k17 k18 k19 k20 k21 k22 k23 k24 k25 k26 k27 k28 k29 k30 k31 k32 k33 k34 k35 k36 k37 k38 k39 k40 k41 k42 k43 n x693 h689) else k8 h689)) else cz_leti (l4 + 6) (fun x691 => fn_L_law_23 l0 l1 l2 l3 k0 k1 k2 k3 k4 k5 k6 k7 k8 k9 k10 k11 k12 k13 k14 k15 k16 k17 k18 k19 k20 k21 k22 k23 k24 k25 k26 k27 k28 k29 k30 k31 k32 k33 k34 k35 k36 k37 k38 k39 k40 k41 k42 k43 n x691 h689)) else k7 h689)))))))))) else if x15 = 7 then cz_iald h l0 (l4 + 1) (fun x650 => cz_rc h l1 [0] (cz_cI (fn_X1_now l1 x650 h) (fun x658 h657 => cz_iald h657 l0 (l4 + 1) (fun x659 => cz_rc h657 l2 [5] (cz_cI (fn_X5_now l2 x659 h657) (fun x667 h666 => (if x658 = x667 then cz_leti (l4 + 6) (fun x668 => fn_L_law_23 l0 l1 l2 l3 k0 k1 k2 k3 k4 k5 k6 k7 k8 k9 k10 k11 k12 k13 k14 k15 k16 k17 k18 k19 k20 k21 k22 k23 k24 k25 k26 k27 k28 k29 k30 k31 k32 k33 k34 k35 k36 k37 k38 k39 k40 k41 k42 k43 n x668 h666) else k9 h666))))))) else if x15 = 8 then cz_iald h l0 (l4 + 1) (fun x629 => cz_iald h l0 (l4 + 2) (fun x630 => cz_rc h l1 [0] (cz_cI (fn_X1_lay l1 x629 x630 h) (fun x638 h637 => cz_iald h637 l0 (l4 + 1) (fun x639 => cz_iald h637 l0 (l4 + 2) (fun x640 => cz_rc h637 l2 [5] (cz_cI (fn_X5_lay l2 x639 x640 h637) (fun x648 h647 => (if x638 = x648 then cz_leti (l4 + 6) (fun x649 => fn_L_law_23 l0 l1 l2 l3 k0 k1 k2 k3 k4 k5 k6 k7 k8 k9 k10 k11 k12 k13 k14 k15 k16 k17 k18 k19 k20 k21 k22 k23 k24 k25 k26 k27 k28 k29 k30 k31 k32 k33 k34 k35 k36 k37 k38 k39 k40 k41 k42 k43 n x649 h647) else k10 h647))))))))) else if x15 = 9 then cz_iald h l0 (l4 + 1) (fun x608 => cz_iald h l0 (l4 + 2) (fun x609 => cz_rc h l1 [0] (cz_cI (fn_X1_wear l1 x608 x609 h) (fun x617 h616 => cz_iald h616 l0 (l4 + 1) (fun x618 => cz_iald h616 l0 (l4 + 2) (fun x619 => cz_rc h616 l2 [5] (cz_cI (fn_X5_wear l2 x618 x619 h616) (fun x627 h626 => (if x617 = x627 then cz_leti (l4 + 6) (fun x628 => fn_L_law_23 l0 l1 l2 l3 k0 k1 k2 k3 k4 k5 k6 k7 k8 k9 k10 k11 k12 k13 k14 k15 k16 k17 k18 k19 k20 k21 k22 k23 k24 k25 k26 k27 k28 k29 k30 k31 k32 k33 k34 k35 k36 k37 k38 k39 k40 k41 k42 k43 n x628 h626) else k11 h626))))))))) else if x15 = 10 then cz_iald h l0 (l4 + 1) (fun x587 => cz_iald h l0 (l4 + 2) (fun x588 => cz_rc h l1 [0] (cz_cI (fn_X1_lend l1 x587 x588 h) (fun x596 h595 => cz_iald h595 l0 (l4 + 1) (fun x597 => cz_iald h595 l0 (l4 + 2) (fun x598 => cz_rc h595 l2 [5] (cz_cI (fn_X5_lend l2 x597 x598 h595) (fun x606 h605 => (if x596 = x606 then cz_leti (l4 + 6) (fun x607 => fn_L_law_23 l0 l1 l2 l3 k0 k1 k2 k3 k4 k5 k6 k7 k8 k9 k10 k11 k12 k13 k14 k15 k16 k17 k18 k19 k20 k21 k22 k23 k24 k25 k26 k27 k28 k29 k30 k31 k32 k33 k34 k35 k36 k37 k38 k39 k40 k41 k42 k43 n x607 h605) else k12 h605))))))))) else if x15 = 11 then cz_iald h l0 (l4 + 1) (fun x568 => cz_rc h l1 [0] (cz_cI (fn_X1_keep l1 x568 h) (fun x576 h575 => cz_iald h575 l0 (l4 + 1) (fun x577 => cz_rc h575 l2 [5] (cz_cI (fn_X5_keep l2 x577 h575) (fun x585 h584 => (if x576 = x585 then cz_leti (l4 + 6) (fun x586 => fn_L_law_23 l0 l1 l2 l3 k0 k1 k2 k3 k4 k5 k6 k7 k8 k9 k10 k11 k12 k13 k14 k15 k16 k17 k18 k19 k20 k21 k22 k23 k24 k25 k26 k27 k28 k29 k30 k31 k32 k33 k34 k35 k36 k37 k38 k39 k40 k41 k42 k43 n x586 h584) else k13 h584))))))) else if x15 = 12 then cz_iald h l0 (l4 + 1) (fun x549 => cz_rc h l1 [0] (cz_cI (fn_X1_days l1 x549 h) (fun x557 h556 => cz_iald h556 l0 (l4 + 1) (fun x558 => cz_rc h556 l2 [5] (cz_cI (fn_X5_days l2 x558 h556) (fun x566 h565 => (if x557 = x566 then cz_leti (l4 + 6) (fun x567 => fn_L_law_23 l0 l1 l2 l3 k0 k1 k2 k3 k4 k5 k6 k7 k8 k9 k10 k11 k12 k13 k14 k15 k16 k17 k18 k19 k20 k21 k22 k23 k24 k25 k26 k27 k28 k29 k30 k31 k32 k33 k34 k35 k36 k37 k38 k39 k40 k41 k42 k43 n x567 h565) else k14 h565))))))) else if x15 = 13 then cz_rc h l1 [0] (cz_cI (fn_X1_undo l1 h) (fun x539 h538 => cz_rc h538 l2 [5] (cz_cI (fn_X5_undo l2 h538) (fun x547 h546 => (if x539 = x547 then cz_leti (l4 + 6) (fun x548 => fn_L_law_23 l0 l1 l2 l3 k0 k1 k2 k3 k4 k5 k6 k7 k8 k9 k10 k11 k12 k13 k14 k15 k16 k17 k18 k19 k20 k21 k22 k23 k24 k25 k26 k27 k28 k29 k30 k31 k32 k33 k34 k35 k36 k37 k38 k39 k40 k41 k42 k43 n x548 h546) else k15 h546))))) else if x15 = 14 then cz_iald h l0 (l4 + 1) (fun x511 => cz_iald h l0 (l4 + 2) (fun x512 => cz_rc h l1 [0] (cz_cI (fn_X1_best l1 x511 x512 h) (fun x520 h519 => cz_iald h519 l0 (l4 + 1) (fun x521 => cz_iald h519 l0 (l4 + 2) (fun x522 => cz_rc h519 l2 [5] (cz_cI (fn_X5_best l2 x521 x522 h519) (fun x530 h529 => (if x520 = x530 then cz_leti (l4 + 6) (fun x531 => fn_L_law_23 l0 l1 l2 l3 k0 k1 k2 k3 k4 k5 k6 k7 k8 k9 k10 k11 k12 k13 k14 k15 k16 k17 k18 k19 k20 k21 k22 k23 k24 k25 k26 k27 k28 k29 k30 k31 k32 k33 k34 k35 k36 k37 k38 k39 k40 k41 k42 k43 n x531 h529) else k16 h529))))))))) else if x15 = 15 then cz_rc h l1 [0] (cz_cI (fn_X1_laid l1 h) (fun x501 h500 => cz_rc h500 l2 [5] (cz_cI (fn_X5_laid l2 h500) (fun x509 h508 => (if x501 = x509 then cz_leti (l4 + 6) (fun x510 => fn_L_law_23 l0 l1 l2 l3 k0 k1 k2 k3 k4 k5 k6 k7 k8 k9 k10 k11 k12 k13 k14 k15 k16 k17 k18 k19 k20 k21 k22 k23 k24 k25 k26 k27 k28 k29 k30 k31 k32 k33 k34 k35 k36 k37 k38 k39 k40 k41 k42 k43 n x510 h508) else k17 h508))))) else if x15 = 16 then cz_iald h l0 (l4 + 1) (fun x469 => cz_iald h l0 (l4 + 2) (fun x470 => cz_iald h l0 (l4 + 3) (fun x471 => cz_iald h l0 (l4 + 4) (fun x472 => cz_rc h l1 [0] (cz_cI (fn_X1_share l1 x469 x470 x471 x472 h) (fun x480 h479 => cz_iald h479 l0 (l4 + 1) (fun x481 => cz_iald h479 l0 (l4 + 2) (fun x482 => cz_iald h479 l0 (l4 + 3) (fun x483 => cz_iald h479 l0 (l4 + 4) (fun x484 => cz_rc h479 l2 [5] (cz_cI (fn_X5_share l2 x481 x482 x483 x484 h479) (fun x492 h491 => (if x480 = x492 then cz_leti (l4 + 6) (fun x493 => fn_L_law_23 l0 l1 l2 l3 k0 k1 k2 k3 k4 k5 k6 k7 k8 k9 k10 k11 k12 k13 k14 k15 k16 k17 k18 k19 k20 k21 k22 k23 k24 k25 k26 k27 k28 k29 k30 k31 k32 k33 k34 k35 k36 k37 k38 k39 k40 k41 k42 k43 n x493 h491) else k18 h491))))))))))))) else if x15 = 17 then cz_rc h l1 [0] (cz_cI (fn_X1_turns l1 h) (fun x459 h458 => cz_rc h458 l2 [5] (cz_cI (fn_X5_turns l2 h458) (fun x467 h466 => (if x459 = x467 then cz_leti (l4 + 6) (fun x468 => fn_L_law_23 l0 l1 l2 l3 k0 k1 k2 k3 k4 k5 k6 k7 k8 k9 k10 k11 k12 k13 k14 k15 k16 k17 k18 k19 k20 k21 k22 k23 k24 k25 k26 k27 k28 k29 k30 k31 k32 k33 k34 k35 k36 k37 k38 k39 k40 k41 k42 k43 n x468 h466) else k19 h466))))) else if x15 = 18 then cz_iald h l0 (l4 + 1) (fun x433 => cz_rc h l1 [0] (cz_cI (fn_X1_ahead l1 x433 h) (fun x441 h440 => cz_iald h440 l0 (l4 + 1) (fun x442 => cz_rc h440 l2 [5] (cz_cI (fn_X5_ahead l2 x442 h440) (fun x450 h449 => (if x441 = x450 then cz_leti (l4 + 6) (fun x451 => fn_L_law_23 l0 l1 l2 l3 k0 k1 k2 k3 k4 k5 k6 k7 k8 k9 k10 k11 k12 k13 k14 k15 k16 k17 k18 k19 k20 k21 k22 k23 k24 k25 k26 k27 k28 k29 k30 k31 k32 k33 k34 k35 k36 k37 k38 k39 k40 k41 k42 k43 n x451 h449) else k20 h449))))))) else if x15 = 19 then cz_iald h l0 (l4 + 1) (fun x414 => cz_rc h l1 [0] (cz_cI (fn_X1_queue l1 x414 h) (fun x422 h421 => cz_iald h421 l0 (l4 + 1) (fun x423 => cz_rc h421 l2 [5] (cz_cI (fn_X5_queue l2 x423 h421) (fun x431 h430 => (if x422 = x431 then cz_leti (l4 + 6) (fun x432 => fn_L_law_23 l0 l1 l2 l3 k0 k1 k2 k3 k4 k5 k6 k7 k8 k9 k10 k11 k12 k13 k14 k15 k16 k17 k18 k19 k20 k21 k22 k23 k24 k25 k26 k27 k28 k29 k30 k31 k32 k33 k34 k35 k36 k37 k38 k39 k40 k41 k42 k43 n x432 h430) else k21 h430))))))) else if x15 = 20 then cz_iald h l0 (l4 + 1) (fun x395 => cz_rc h l1 [0] (cz_cI (fn_X1_bribes l1 x395 h) (fun x403 h402 => cz_iald h402 l0 (l4 + 1) (fun x404 => cz_rc h402 l2 [5] (cz_cI (fn_X5_bribes l2 x404 h402) (fun x412 h411 => (if x403 = x412 then cz_leti (l4 + 6) (fun x413 => fn_L_law_23 l0 l1 l2 l3 k0 k1 k2 k3 k4 k5 k6 k7 k8 k9 k10 k11 k12 k13 k14 k15 k16 k17 k18 k19 k20 k21 k22 k23 k24 k25 k26 k27 k28 k29 k30 k31 k32 k33 k34 k35 k36 k37 k38 k39 k40 k41 k42 k43 n x413 h411) else k22 h411))))))) else if x15 = 21 then cz_iald h l0 (l4 + 1) (fun x374 => cz_iald h l0 (l4 + 2) (fun x375 => cz_rc h l1 [0] (cz_cI (fn_X1_frost l1 x374 x375 h) (fun x383 h382 => cz_iald h382 l0 (l4 + 1) (fun x384 => cz_iald h382 l0 (l4 + 2) (fun x385 => cz_rc h382 l2 [5] (cz_cI (fn_X5_frost l2 x384 x385 h382) (fun x393 h392 => (if x383 = x393 then cz_leti (l4 + 6) (fun x394 => fn_L_law_23 l0 l1 l2 l3 k0 k1 k2 k3 k4 k5 k6 k7 k8 k9 k10 k11 k12 k13 k14 k15 k16 k17 k18 k19 k20 k21 k22 k23 k24 k25 k26 k27 k28 k29 k30 k31 k32 k33 k34 k35 k36 k37 k38 k39 k40 k41 k42 k43 n x394 h392) else k23 h392))))))))) else if x15 = 22 then cz_iald h l0 (l4 + 1) (fun x353 => cz_iald h l0 (l4 + 2) (fun x354 => cz_rc h l1 [0] (cz_cI (fn_X1_frostAt l1 x353 x354 h) (fun x362 h361 => cz_iald h361 l0 (l4 + 1) (fun x363 => cz_iald h361 l0 (l4 + 2) (fun x364 => cz_rc h361 l2 [5] (cz_cI (fn_X5_frostAt l2 x363 x364 h361) (fun x372 h371 => (if x362 = x372 then cz_leti (l4 + 6) (fun x373 => fn_L_law_23 l0 l1 l2 l3 k0 k1 k2 k3 k4 k5 k6 k7 k8 k9 k10 k11 k12 k13 k14 k15 k16 k17 k18 k19 k20 k21 k22 k23 k24 k25 k26 k27 k28 k29 k30 k31 k32 k33 k34 k35 k36 k37 k38 k39 k40 k41 k42 k43 n x373 h371) else k24 h371))))))))) else if x15 = 23 then cz_iald h l0 (l4 + 1) (fun x334 => cz_rc h l1 [0] (cz_cI (fn_X1_word l1 x334 h) (fun x342 h341 => cz_iald h341 l0 (l4 + 1) (fun x343 => cz_rc h341 l2 [5] (cz_cI (fn_X5_word l2 x343 h341) (fun x351 h350 => (if x342 = x351 then cz_leti (l4 + 6) (fun x352 => fn_L_law_23 l0 l1 l2 l3 k0 k1 k2 k3 k4 k5 k6 k7 k8 k9 k10 k11 k12 k13 k14 k15 k16 k17 k18 k19 k20 k21 k22 k23 k24 k25 k26 k27 k28 k29 k30 k31 k32 k33 k34 k35 k36 k37 k38 k39 k40 k41 k42 k43 n x352 h350) else k25 h350))))))) else if x15 = 24 then cz_rc h l1 [0] (cz_cI (fn_X1_bare l1 h) (fun x324 h323 => cz_rc h323 l2 [5] (cz_cI (fn_X5_bare l2 h323) (fun x332 h331 => (if x324 = x332 then cz_leti (l4 + 6) (fun x333 => fn_L_law_23 l0 l1 l2 l3 k0 k1 k2 k3 k4 k5 k6 k7 k8 k9 k10 k11 k12 k13 k14 k15 k16 k17 k18 k19 k20 k21 k22 k23 k24 k25 k26 k27 k28 k29 k30 k31 k32 k33 k34 k35 k36 k37 k38 k39 k40 k41 k42 k43 n x333 h331) else k26 h331))))) else if x15 = 25 then cz_iald h l0 (l4 + 1) (fun x298 => cz_rc h l1 [0] (cz_cI (fn_X1_rules l1 x298 h) (fun x306 h305 => cz_iald h305 l0 (l4 + 1) (fun x307 => cz_rc h305 l2 [5] (cz_cI (fn_X5_rules l2 x307 h305) (fun x315 h314 => (if x306 = x315 then cz_leti (l4 + 6) (fun x316 => fn_L_law_23 l0 l1 l2 l3 k0 k1 k2 k3 k4 k5 k6 k7 k8 k9 k10 k11 k12 k13 k14 k15 k16 k17 k18 k19 k20 k21 k22 k23 k24 k25 k26 k27 k28 k29 k30 k31 k32 k33 k34 k35 k36 k37 k38 k39 k40 k41 k42 k43 n x316 h314) else k27 h314))))))) else if x15 = 26 then cz_iald h l0 (l4 + 1) (fun x277 => cz_iald h l0 (l4 + 2) (fun x278 => cz_rc h l1 [0] (cz_cI (fn_X1_harm l1 x277 x278 h) (fun x286 h285 => cz_iald h285 l0 (l4 + 1) (fun x287 => cz_iald h285 l0 (l4 + 2) (fun x288 => cz_rc h285 l2 [5] (cz_cI (fn_X5_harm l2 x287 x288 h285) (fun x296 h295 => (if x286 = x296 then cz_leti (l4 + 6) (fun x297 => fn_L_law_23 l0 l1 l2 l3 k0 k1 k2 k3 k4 k5 k6 k7 k8 k9 k10 k11 k12 k13 k14 k15 k16 k17 k18 k19 k20 k21 k22 k23 k24 k25 k26 k27 k28 k29 k30 k31 k32 k33 k34 k35 k36 k37 k38 k39 k40 k41 k42 k43 n x297 h295) else k28 h295))))))))) else if x15 = 27 then cz_rc h l1 [0] (cz_cI (fn_X1_hooks l1 h) (fun x267 h266 => cz_rc h266 l2 [5] (cz_cI (fn_X5_hooks l2 h266) (fun x275 h274 => (if x267 = x275 then cz_leti (l4 + 6) (fun x276 => fn_L_law_23 l0 l1 l2 l3 k0 k1 k2 k3 k4 k5 k6 k7 k8 k9 k10 k11 k12 k13 k14 k15 k16 k17 k18 k19 k20 k21 k22 k23 k24 k25 k26 k27 k28 k29 k30 k31 k32 k33 k34 k35 k36 k37 k38 k39 k40 k41 k42 k43 n x276 h274) else k29 h274))))) else if x15 = 28 then cz_rc h l1 [0] (cz_cI (fn_X1_surely l1 h) (fun x250 h249 => cz_rc h249 l2 [5] (cz_cI (fn_X5_surely l2 h249) (fun x258 h257 => (if x250 = x258 then cz_leti (l4 + 6) (fun x259 => fn_L_law_23 l0 l1 l2 l3 k0 k1 k2 k3 k4 k5 k6 k7 k8 k9 k10 k11 k12 k13 k14 k15 k16 k17 k18 k19 k20 k21 k22 k23 k24 k25 k26 k27 k28 k29 k30 k31 k32 k33 k34 k35 k36 k37 k38 k39 k40 k41 k42 k43 n x259 h257) else k30 h257))))) else if x15 = 29 then cz_rc h l1 [0] (cz_cI (fn_X1_never l1 h) (fun x233 h232 => cz_rc h232 l2 [5] (cz_cI (fn_X5_never l2 h232) (fun x241 h240 => (if x233 = x241 then cz_leti (l4 + 6) (fun x242 => fn_L_law_23 l0 l1 l2 l3 k0 k1 k2 k3 k4 k5 k6 k7 k8 k9 k10 k11 k12 k13 k14 k15 k16 k17 k18 k19 k20 k21 k22 k23 k24 k25 k26 k27 k28 k29 k30 k31 k32 k33 k34 k35 k36 k37 k38 k39 k40 k41 k42 k43 n x242 h240) else k31 h240))))) else if x15 = 30 then cz_rc h l1 [0] (cz_cI (fn_X1_rounds l1 h) (fun x216 h215 => cz_rc h215 l2 [5] (cz_cI (fn_X5_rounds l2 h215) (fun x224 h223 => (if x216 = x224 then cz_leti (l4 + 6) (fun x225 => fn_L_law_23 l0 l1 l2 l3 k0 k1 k2 k3 k4 k5 k6 k7 k8 k9 k10 k11 k12 k13 k14 k15 k16 k17 k18 k19 k20 k21 k22 k23 k24 k25 k26 k27 k28 k29 k30 k31 k32 k33 k34 k35 k36 k37 k38 k39 k40 k41 k42 k43 n x225 h223) else k32 h223))))) else if x15 = 31 then cz_rc h l1 [0] (cz_cI (fn_X1_price l1 h) (fun x199 h198 => cz_rc h198 l2 [5] (cz_cI (fn_X5_price l2 h198) (fun x207 h206 => (if x199 = x207 then cz_leti (l4 + 6) (fun x208 => fn_L_law_23 l0 l1 l2 l3 k0 k1 k2 k3 k4 k5 k6 k7 k8 k9 k10 k11 k12 k13 k14 k15 k16 k17 k18 k19 k20 k21 k22 k23 k24 k25 k26 k27 k28 k29 k30 k31 k32 k33 k34 k35 k36 k37 k38 k39 k40 k41 k42 k43 n x208 h206) else k33 h206))))) else if x15 = 32 then cz_iald h l0 (l4 + 1) (fun x171 => cz_iald h l0 (l4 + 2) (fun x172 => cz_rc h l1 [0] (cz_cI (fn_X1_drawn l1 x171 x172 h) (fun x180 h179 => cz_iald h179 l0 (l4 + 1) (fun x181 => cz_iald h179 l0 (l4 + 2) (fun x182 => cz_rc h179 l2 [5] (cz_cI (fn_X5_drawn l2 x181 x182 h179) (fun x190 h189 => (if x180 = x190 then cz_leti (l4 + 6) (fun x191 => fn_L_law_23 l0 l1 l2 l3 k0 k1 k2 k3 k4 k5 k6 k7 k8 k9 k10 k11 k12 k13 k14 k15 k16 k17 k18 k19 k20 k21 k22 k23 k24 k25 k26 k27 k28 k29 k30 k31 k32 k33 k34 k35 k36 k37 k38 k39 k40 k41 k42 k43 n x191 h189) else k34 h189))))))))) else if x15 = 33 then cz_iald h l0 (l4 + 1) (fun x148 => cz_iald h l0 (l4 + 2) (fun x149 => cz_iald h l0 (l4 + 3) (fun x150 => cz_rc h l1 [0] (cz_cI (fn_X1_odds l1 x148 x149 x150 h) (fun x158 h157 => cz_iald h157 l0 (l4 + 1) (fun x159 => cz_iald h157 l0 (l4 + 2) (fun x160 => cz_iald h157 l0 (l4 + 3) (fun x161 => cz_rc h157 l2 [5] (cz_cI (fn_X5_odds l2 x159 x160 x161 h157) (fun x169 h168 => (if x158 = x169 then cz_leti (l4 + 6) (fun x170 => fn_L_law_23 l0 l1 l2 l3 k0 k1 k2 k3 k4 k5 k6 k7 k8 k9 k10 k11 k12 k13 k14 k15 k16 k17 k18 k19 k20 k21 k22 k23 k24 k25 k26 k27 k28 k29 k30 k31 k32 k33 k34 k35 k36 k37 k38 k39 k40 k41 k42 k43 n x170 h168) else k35 h168))))))))))) else if x15 = 34 then cz_iald h l0 (l4 + 1) (fun x129 => cz_rc h l1 [0] (cz_cI (fn_X1_book l1 x129 h) (fun x137 h136 => cz_iald h136 l0 (l4 + 1) (fun x138 => cz_rc h136 l2 [5] (cz_cI (fn_X5_book l2 x138 h136) (fun x146 h145 => (if x137 = x146 then cz_leti (l4 + 6) (fun x147 => fn_L_law_23 l0 l1 l2 l3 k0 k1 k2 k3 k4 k5 k6 k7 k8 k9 k10 k11 k12 k13 k14 k15 k16 k17 k18 k19 k20 k21 k22 k23 k24 k25 k26 k27 k28 k29 k30 k31 k32 k33 k34 k35 k36 k37 k38 k39 k40 k41 k42 k43 n x147 h145) else k36 h145))))))) else if x15 = 35 then cz_iald h l0 (l4 + 1) (fun x110 => cz_rc h l1 [0] (cz_cI (fn_X1_told l1 x110 h) (fun x118 h117 => cz_iald h117 l0 (l4 + 1) (fun x119 => cz_rc h117 l2 [5] (cz_cI (fn_X5_told l2 x119 h117) (fun x127 h126 => (if x118 = x127 then cz_leti (l4 + 6) (fun x128 => fn_L_law_23 l0 l1 l2 l3 k0 k1 k2 k3 k4 k5 k6 k7 k8 k9 k10 k11 k12 k13 k14 k15 k16 k17 k18 k19 k20 k21 k22 k23 k24 k25 k26 k27 k28 k29 k30 k31 k32 k33 k34 k35 k36 k37 k38 k39 k40 k41 k42 k43 n x128 h126) else k37 h126))))))) else if x15 = 36 then cz_rc h l1 [0] (cz_cI (fn_X1_sentence l1 h) (fun x100 h99 => cz_rc h99 l2 [5] (cz_cI (fn_X5_sentence l2 h99) (fun x108 h107 => (if x100 = x108 then cz_leti (l4 + 6) (fun x109 => fn_L_law_23 l0 l1 l2 l3 k0 k1 k2 k3 k4 k5 k6 k7 k8 k9 k10 k11 k12 k13 k14 k15 k16 k17 k18 k19 k20 k21 k22 k23 k24 k25 k26 k27 k28 k29 k30 k31 k32 k33 k34 k35 k36 k37 k38 k39 k40 k41 k42 k43 n x109 h107) else k38 h107))))) else if x15 = 37 then cz_iald h l0 (l4 + 1) (fun x74 => cz_rc h l1 [0] (cz_cI (fn_X1_said l1 x74 h) (fun x82 h81 => cz_iald h81 l0 (l4 + 1) (fun x83 => cz_rc h81 l2 [5] (cz_cI (fn_X5_said l2 x83 h81) (fun x91 h90 => (if x82 = x91 then cz_leti (l4 + 6) (fun x92 => fn_L_law_23 l0 l1 l2 l3 k0 k1 k2 k3 k4 k5 k6 k7 k8 k9 k10 k11 k12 k13 k14 k15 k16 k17 k18 k19 k20 k21 k22 k23 k24 k25 k26 k27 k28 k29 k30 k31 k32 k33 k34 k35 k36 k37 k38 k39 k40 k41 k42 k43 n x92 h90) else k39 h90))))))) else if x15 = 38 then cz_iald h l0 (l4 + 1) (fun x55 => cz_rc h l1 [0] (cz_cI (fn_X1_image l1 x55 h) (fun x63 h62 => cz_iald h62 l0 (l4 + 1) (fun x64 => cz_rc h62 l2 [5] (cz_cI (fn_X5_image l2 x64 h62) (fun x72 h71 => (if x63 = x72 then cz_leti (l4 + 6) (fun x73 => fn_L_law_23 l0 l1 l2 l3 k0 k1 k2 k3 k4 k5 k6 k7 k8 k9 k10 k11 k12 k13 k14 k15 k16 k17 k18 k19 k20 k21 k22 k23 k24 k25 k26 k27 k28 k29 k30 k31 k32 k33 k34 k35 k36 k37 k38 k39 k40 k41 k42 k43 n x73 h71) else k40 h71))))))) else if x15 = 39 then cz_iald h l0 (l4 + 1) (fun x36 => cz_rc h l1 [0] (cz_cI (fn_X1_restore l1 x36 h) (fun x44 h43 => cz_iald h43 l0 (l4 + 1) (fun x45 => cz_rc h43 l2 [5] (cz_cI (fn_X5_restore l2 x45 h43) (fun x53 h52 => (if x44 = x53 then cz_leti (l4 + 6) (fun x54 => fn_L_law_23 l0 l1 l2 l3 k0 k1 k2 k3 k4 k5 k6 k7 k8 k9 k10 k11 k12 k13 k14 k15 k16 k17 k18 k19 k20 k21 k22 k23 k24 k25 k26 k27 k28 k29 k30 k31 k32 k33 k34 k35 k36 k37 k38 k39 k40 k41 k42 k43 n x54 h52) else k41 h52))))))) else if x15 = 40 then cz_iald h l0 (l4 + 1) (fun x17 => cz_rc h l1 [0] (cz_cI (fn_X1_count l1 x17 h) (fun x25 h24 => cz_iald h24 l0 (l4 + 1) (fun x26 => cz_rc h24 l2 [5] (cz_cI (fn_X5_count l2 x26 h24) (fun x34 h33 => (if x25 = x34 then cz_leti (l4 + 6) (fun x35 => fn_L_law_23 l0 l1 l2 l3 k0 k1 k2 k3 k4 k5 k6 k7 k8 k9 k10 k11 k12 k13 k14 k15 k16 k17 k18 k19 k20 k21 k22 k23 k24 k25 k26 k27 k28 k29 k30 k31 k32 k33 k34 k35 k36 k37 k38 k39 k40 k41 k42 k43 n x35 h33) else k42 h33))))))) else cz_leti (l4 + 6) (fun x16 => fn_L_law_23 l0 l1 l2 l3 k0 k1 k2 k3 k4 k5 k6 k7 k8 k9 k10 k11 k12 k13 k14 k15 k16 k17 k18 k19 k20 k21 k22 k23 k24 k25 k26 k27 k28 k29 k30 k31 k32 k33 k34 k35 k36 k37 k38 k39 k40 k41 k42 k43 n x16 h))))))
set_option maxHeartbeats 4000000 in
set_option maxRecDepth 100000 in
theorem wk_L_law_23 {K : cz_K} {D : cz_D} {h0 : cz_H} {oh : cz_O × cz_H} {nm : String} {tb : List ExceptionTableEntry} {l0 : Option Nat} {l1 : Option Nat} {l2 : Option Nat} {l3 : Option Nat} {k0 : cz_H → cz_Z} {k1 : cz_H → cz_Z} {k2 : cz_H → cz_Z} {k3 : cz_H → cz_Z} {k4 : cz_H → cz_Z} {k5 : cz_H → cz_Z} {k6 : cz_H → cz_Z} {k7 : cz_H → cz_Z} {k8 : cz_H → cz_Z} {k9 : cz_H → cz_Z} {k10 : cz_H → cz_Z} {k11 : cz_H → cz_Z} {k12 : cz_H → cz_Z} {k13 : cz_H → cz_Z} {k14 : cz_H → cz_Z} {k15 : cz_H → cz_Z} {k16 : cz_H → cz_Z} {k17 : cz_H → cz_Z} {k18 : cz_H → cz_Z} {k19 : cz_H → cz_Z} {k20 : cz_H → cz_Z} {k21 : cz_H → cz_Z} {k22 : cz_H → cz_Z} {k23 : cz_H → cz_Z} {k24 : cz_H → cz_Z} {k25 : cz_H → cz_Z} {k26 : cz_H → cz_Z} {k27 : cz_H → cz_Z} {k28 : cz_H → cz_Z} {k29 : cz_H → cz_Z} {k30 : cz_H → cz_Z} {k31 : cz_H → cz_Z} {k32 : cz_H → cz_Z} {k33 : cz_H → cz_Z} {k34 : cz_H → cz_Z} {k35 : cz_H → cz_Z} {k36 : cz_H → cz_Z} {k37 : cz_H → cz_Z} {k38 : cz_H → cz_Z} {k39 : cz_H → cz_Z} {k40 : cz_H → cz_Z} {k41 : cz_H → cz_Z} {k42 : cz_H → cz_Z} {k43 : cz_H → cz_Z} (hfl : K.2.1.stackTraces = false) (S : cz_S K D h0 cL_law 7 "HeldCoatsLaw" (Option.some Jvm.ClassFile.FieldType.boolean) nm tb) (hk0 : ∀ (h : cz_H), cz_T K D 73 h0 oh 7 (k0 h) h 291 [] []) (hk1 : ∀ (h : cz_H), cz_T K D 73 h0 oh 7 (k1 h) h 316 [] []) (hk2 : ∀ (h : cz_H), cz_T K D 73 h0 oh 7 (k2 h) h 329 [] []) (hk3 : ∀ (h : cz_H), cz_T K D 73 h0 oh 7 (k3 h) h 342 [] []) (hk4 : ∀ (h : cz_H), cz_T K D 73 h0 oh 7 (k4 h) h 379 [] []) (hk5 : ∀ (h : cz_H), cz_T K D 73 h0 oh 7 (k5 h) h 427 [] []) (hk6 : ∀ (h : cz_H), cz_T K D 73 h0 oh 7 (k6 h) h 444 [] []) (hk7 : ∀ (h : cz_H), cz_T K D 73 h0 oh 7 (k7 h) h 495 [] []) (hk8 : ∀ (h : cz_H), cz_T K D 73 h0 oh 7 (k8 h) h 512 [] []) (hk9 : ∀ (h : cz_H), cz_T K D 73 h0 oh 7 (k9 h) h 540 [] []) (hk10 : ∀ (h : cz_H), cz_T K D 73 h0 oh 7 (k10 h) h 577 [] []) (hk11 : ∀ (h : cz_H), cz_T K D 73 h0 oh 7 (k11 h) h 614 [] []) (hk12 : ∀ (h : cz_H), cz_T K D 73 h0 oh 7 (k12 h) h 651 [] []) (hk13 : ∀ (h : cz_H), cz_T K D 73 h0 oh 7 (k13 h) h 676 [] []) (hk14 : ∀ (h : cz_H), cz_T K D 73 h0 oh 7 (k14 h) h 701 [] []) (hk15 : ∀ (h : cz_H), cz_T K D 73 h0 oh 7 (k15 h) h 714 [] []) (hk16 : ∀ (h : cz_H), cz_T K D 73 h0 oh 7 (k16 h) h 751 [] []) (hk17 : ∀ (h : cz_H), cz_T K D 73 h0 oh 7 (k17 h) h 764 [] []) (hk18 : ∀ (h : cz_H), cz_T K D 73 h0 oh 7 (k18 h) h 825 [] []) (hk19 : ∀ (h : cz_H), cz_T K D 73 h0 oh 7 (k19 h) h 838 [] []) (hk20 : ∀ (h : cz_H), cz_T K D 73 h0 oh 7 (k20 h) h 863 [] []) (hk21 : ∀ (h : cz_H), cz_T K D 73 h0 oh 7 (k21 h) h 888 [] []) (hk22 : ∀ (h : cz_H), cz_T K D 73 h0 oh 7 (k22 h) h 913 [] []) (hk23 : ∀ (h : cz_H), cz_T K D 73 h0 oh 7 (k23 h) h 950 [] []) (hk24 : ∀ (h : cz_H), cz_T K D 73 h0 oh 7 (k24 h) h 987 [] []) (hk25 : ∀ (h : cz_H), cz_T K D 73 h0 oh 7 (k25 h) h 1012 [] []) (hk26 : ∀ (h : cz_H), cz_T K D 73 h0 oh 7 (k26 h) h 1025 [] []) (hk27 : ∀ (h : cz_H), cz_T K D 73 h0 oh 7 (k27 h) h 1050 [] []) (hk28 : ∀ (h : cz_H), cz_T K D 73 h0 oh 7 (k28 h) h 1087 [] []) (hk29 : ∀ (h : cz_H), cz_T K D 73 h0 oh 7 (k29 h) h 1100 [] []) (hk30 : ∀ (h : cz_H), cz_T K D 73 h0 oh 7 (k30 h) h 1113 [] []) (hk31 : ∀ (h : cz_H), cz_T K D 73 h0 oh 7 (k31 h) h 1126 [] []) (hk32 : ∀ (h : cz_H), cz_T K D 73 h0 oh 7 (k32 h) h 1139 [] []) (hk33 : ∀ (h : cz_H), cz_T K D 73 h0 oh 7 (k33 h) h 1152 [] []) (hk34 : ∀ (h : cz_H), cz_T K D 73 h0 oh 7 (k34 h) h 1189 [] []) (hk35 : ∀ (h : cz_H), cz_T K D 73 h0 oh 7 (k35 h) h 1238 [] []) (hk36 : ∀ (h : cz_H), cz_T K D 73 h0 oh 7 (k36 h) h 1263 [] []) (hk37 : ∀ (h : cz_H), cz_T K D 73 h0 oh 7 (k37 h) h 1288 [] []) (hk38 : ∀ (h : cz_H), cz_T K D 73 h0 oh 7 (k38 h) h 1301 [] []) (hk39 : ∀ (h : cz_H), cz_T K D 73 h0 oh 7 (k39 h) h 1326 [] []) (hk40 : ∀ (h : cz_H), cz_T K D 73 h0 oh 7 (k40 h) h 1351 [] []) (hk41 : ∀ (h : cz_H), cz_T K D 73 h0 oh 7 (k41 h) h 1376 [] []) (hk42 : ∀ (h : cz_H), cz_T K D 73 h0 oh 7 (k42 h) h 1401 [] []) (hk43 : ∀ (h : cz_H), cz_T K D 73 h0 oh 7 (k43 h) h 1409 [] []) : ∀ (n : Nat) (l4 : Int32) (h : cz_H), cz_T K D 73 h0 oh 7 (fn_L_law_23 l0 l1 l2 l3 k0 k1 k2 k3 k4 k5 k6 k7 k8 k9 k10 k11 k12 k13 k14 k15 k16 k17 k18 k19 k20 k21 k22 k23 k24 k25 k26 k27 k28 k29 k30 k31 k32 k33 k34 k35 k36 k37 k38 k39 k40 k41 k42 k43 n l4 h) h 23 [(0, cz_r l0), (1, cz_r l1), (2, cz_r l2), (3, cz_r l3), (4, cz_i l4)] [] := by
  intro n
  induction n with
  | zero => intros; exact ct_none
  | succ n ih =>
    intro l4 h
    rw [fn_L_law_23]
    refine ct_iload (k := 4) S dL_law_23 rfl ?_
    refine ct_aload_n (k := 0) S dL_law_25 rfl rfl ?_
    refine ct_alen S dL_law_26 (fun x13 => ?_)
    refine ct_bipush (v := 6) S dL_law_27 kB_6 ?_
    refine ct_isub S dL_law_29 ?_
    refine ct_icmp_gt (tgt := 1409) S dL_law_30 (by decide) ?_ ?_
    · exact ct_sub [] rfl (hk43 h)
    · refine ct_aload_n (k := 0) S dL_law_33 rfl rfl ?_
      refine ct_iload (k := 4) S dL_law_34 rfl ?_
      refine ct_iald S dL_law_36 (fun x14 => ?_)
      refine ct_bipush (v := 63) S dL_law_37 kB_63 ?_
      refine ct_iand S dL_law_39 ?_
      refine ct_leti (fun x15 => ?_)
      refine ct_case ?_ (fun c0_ => ?_)
      · refine ct_tableIn (tgt := 220) S dL_law_40 (by decide) (by decide) rfl (by decide) ?_
        refine ct_aload_n (k := 1) S dL_law_220 rfl rfl ?_
        refine ct_aload_n (k := 0) S dL_law_221 rfl rfl ?_
        refine ct_iload (k := 4) S dL_law_222 rfl ?_
        refine ct_iconst (v := 1) S dL_law_224 kI_1 ?_
        refine ct_iadd S dL_law_225 ?_
        refine ct_iald S dL_law_226 (fun x793 => ?_)
        refine ct_aload_n (k := 0) S dL_law_227 rfl rfl ?_
        refine ct_iload (k := 4) S dL_law_228 rfl ?_
        refine ct_iconst (v := 2) S dL_law_230 kI_2 ?_
        refine ct_iadd S dL_law_231 ?_
        refine ct_iald S dL_law_232 (fun x794 => ?_)
        refine ct_aload_n (k := 0) S dL_law_233 rfl rfl ?_
        refine ct_iload (k := 4) S dL_law_234 rfl ?_
        refine ct_iconst (v := 3) S dL_law_236 kI_3 ?_
        refine ct_iadd S dL_law_237 ?_
        refine ct_iald S dL_law_238 (fun x795 => ?_)
        refine ct_aload_n (k := 0) S dL_law_239 rfl rfl ?_
        refine ct_iload (k := 4) S dL_law_240 rfl ?_
        refine ct_iconst (v := 4) S dL_law_242 kI_4 ?_
        refine ct_iadd S dL_law_243 ?_
        refine ct_iald S dL_law_244 (fun x796 => ?_)
        refine ct_aload_n (k := 0) S dL_law_245 rfl rfl ?_
        refine ct_iload (k := 4) S dL_law_246 rfl ?_
        refine ct_iconst (v := 5) S dL_law_248 kI_5 ?_
        refine ct_iadd S dL_law_249 ?_
        refine ct_iald S dL_law_250 (fun x797 => ?_)
        refine ct_rc (fun b798 ci799 V800 hb801 hc802 hi803 => ?_)
        refine ct_cI (st := []) (cg_virtual (av := [cz_i x793, cz_i x794, cz_i x795, cz_i x796, cz_i x797]) S hb801 hc802 hi803 (fun _ e => mt_X1_feed e) md_X1_feed q435 q436 se_HeldCoats_feed__IIIII_I_HeldCoats (by decide) (Nat.le_of_ble_eq_true rfl) rfl dL_law_251) (fun x805 h804 => ?_)
        refine ct_aload_n (k := 2) S dL_law_254 rfl rfl ?_
        refine ct_aload_n (k := 0) S dL_law_255 rfl rfl ?_
        refine ct_iload (k := 4) S dL_law_256 rfl ?_
        refine ct_iconst (v := 1) S dL_law_258 kI_1 ?_
        refine ct_iadd S dL_law_259 ?_
        refine ct_iald S dL_law_260 (fun x806 => ?_)
        refine ct_aload_n (k := 0) S dL_law_261 rfl rfl ?_
        refine ct_iload (k := 4) S dL_law_262 rfl ?_
        refine ct_iconst (v := 2) S dL_law_264 kI_2 ?_
        refine ct_iadd S dL_law_265 ?_
        refine ct_iald S dL_law_266 (fun x807 => ?_)
        refine ct_aload_n (k := 0) S dL_law_267 rfl rfl ?_
        refine ct_iload (k := 4) S dL_law_268 rfl ?_
        refine ct_iconst (v := 3) S dL_law_270 kI_3 ?_
        refine ct_iadd S dL_law_271 ?_
        refine ct_iald S dL_law_272 (fun x808 => ?_)
        refine ct_aload_n (k := 0) S dL_law_273 rfl rfl ?_
        refine ct_iload (k := 4) S dL_law_274 rfl ?_
        refine ct_iconst (v := 4) S dL_law_276 kI_4 ?_
        refine ct_iadd S dL_law_277 ?_
        refine ct_iald S dL_law_278 (fun x809 => ?_)
        refine ct_aload_n (k := 0) S dL_law_279 rfl rfl ?_
        refine ct_iload (k := 4) S dL_law_280 rfl ?_
        refine ct_iconst (v := 5) S dL_law_282 kI_5 ?_
        refine ct_iadd S dL_law_283 ?_
        refine ct_iald S dL_law_284 (fun x810 => ?_)
        refine ct_rc (fun b811 ci812 V813 hb814 hc815 hi816 => ?_)
        refine ct_cI (st := [cz_i x805]) (cg_virtual (av := [cz_i x806, cz_i x807, cz_i x808, cz_i x809, cz_i x810]) S hb814 hc815 hi816 (fun _ e => mt_X5_feed e) md_X5_feed q1872 q1873 se_HeldCoatsModel_feed__IIIII_I_HeldCoatsModel (by decide) (Nat.le_of_ble_eq_true rfl) rfl dL_law_285) (fun x818 h817 => ?_)
        refine ct_icmp_eq (tgt := 1403) S dL_law_288 (by decide) ?_ ?_
        · refine ct_iincL (j := 4) (L2 := fun x819 => [(4, cz_i x819), (0, cz_r l0), (1, cz_r l1), (2, cz_r l2), (3, cz_r l3)]) S dL_law_1403 rfl kI_6 (by decide) (fun _ => rfl) (fun x819 => ?_)
          refine ct_goto (tgt := 23) S dL_law_1406 (by decide) ?_
          exact ct_sub [1, 2, 3, 4, 0] rfl (ih x819 h817)
        · exact ct_sub [] rfl (hk0 h817)
      · refine ct_case ?_ (fun c1_ => ?_)
        · refine ct_tableIn (tgt := 293) S dL_law_40 (by decide) (by decide) rfl (by decide) ?_
          refine ct_aload_n (k := 1) S dL_law_293 rfl rfl ?_
          refine ct_aload_n (k := 0) S dL_law_294 rfl rfl ?_
          refine ct_iload (k := 4) S dL_law_295 rfl ?_
          refine ct_iconst (v := 1) S dL_law_297 kI_1 ?_
          refine ct_iadd S dL_law_298 ?_
          refine ct_iald S dL_law_299 (fun x774 => ?_)
          refine ct_rc (fun b775 ci776 V777 hb778 hc779 hi780 => ?_)
          refine ct_cI (st := []) (cg_virtual (av := [cz_i x774]) S hb778 hc779 hi780 (fun _ e => mt_X1_end e) md_X1_end q443 q444 se_HeldCoats_end__I_Z_HeldCoats (by decide) (Nat.le_of_ble_eq_true rfl) rfl dL_law_300) (fun x782 h781 => ?_)
          refine ct_aload_n (k := 2) S dL_law_303 rfl rfl ?_
          refine ct_aload_n (k := 0) S dL_law_304 rfl rfl ?_
          refine ct_iload (k := 4) S dL_law_305 rfl ?_
          refine ct_iconst (v := 1) S dL_law_307 kI_1 ?_
          refine ct_iadd S dL_law_308 ?_
          refine ct_iald S dL_law_309 (fun x783 => ?_)
          refine ct_rc (fun b784 ci785 V786 hb787 hc788 hi789 => ?_)
          refine ct_cI (st := [cz_i x782]) (cg_virtual (av := [cz_i x783]) S hb787 hc788 hi789 (fun _ e => mt_X5_end e) md_X5_end q1881 q1882 se_HeldCoatsModel_end__I_Z_HeldCoatsModel (by decide) (Nat.le_of_ble_eq_true rfl) rfl dL_law_310) (fun x791 h790 => ?_)
          refine ct_icmp_eq (tgt := 1403) S dL_law_313 (by decide) ?_ ?_
          · refine ct_iincL (j := 4) (L2 := fun x792 => [(4, cz_i x792), (0, cz_r l0), (1, cz_r l1), (2, cz_r l2), (3, cz_r l3)]) S dL_law_1403 rfl kI_6 (by decide) (fun _ => rfl) (fun x792 => ?_)
            refine ct_goto (tgt := 23) S dL_law_1406 (by decide) ?_
            exact ct_sub [1, 2, 3, 4, 0] rfl (ih x792 h790)
          · exact ct_sub [] rfl (hk1 h790)
        · refine ct_case ?_ (fun c2_ => ?_)
          · refine ct_tableIn (tgt := 318) S dL_law_40 (by decide) (by decide) rfl (by decide) ?_
            refine ct_aload_n (k := 1) S dL_law_318 rfl rfl ?_
            refine ct_rc (fun b757 ci758 V759 hb760 hc761 hi762 => ?_)
            refine ct_cI (st := []) (cg_virtual (av := []) S hb760 hc761 hi762 (fun _ e => mt_X1_capital e) md_X1_capital q447 q448 se_HeldCoats_capital___I_HeldCoats (by decide) (Nat.le_of_ble_eq_true rfl) rfl dL_law_319) (fun x764 h763 => ?_)
            refine ct_aload_n (k := 2) S dL_law_322 rfl rfl ?_
            refine ct_rc (fun b765 ci766 V767 hb768 hc769 hi770 => ?_)
            refine ct_cI (st := [cz_i x764]) (cg_virtual (av := []) S hb768 hc769 hi770 (fun _ e => mt_X5_capital e) md_X5_capital q2068 q2069 se_HeldCoatsModel_capital___I_HeldCoatsModel (by decide) (Nat.le_of_ble_eq_true rfl) rfl dL_law_323) (fun x772 h771 => ?_)
            refine ct_icmp_eq (tgt := 1403) S dL_law_326 (by decide) ?_ ?_
            · refine ct_iincL (j := 4) (L2 := fun x773 => [(4, cz_i x773), (0, cz_r l0), (1, cz_r l1), (2, cz_r l2), (3, cz_r l3)]) S dL_law_1403 rfl kI_6 (by decide) (fun _ => rfl) (fun x773 => ?_)
              refine ct_goto (tgt := 23) S dL_law_1406 (by decide) ?_
              exact ct_sub [1, 2, 3, 4, 0] rfl (ih x773 h771)
            · exact ct_sub [] rfl (hk2 h771)
          · refine ct_case ?_ (fun c3_ => ?_)
            · refine ct_tableIn (tgt := 331) S dL_law_40 (by decide) (by decide) rfl (by decide) ?_
              refine ct_aload_n (k := 1) S dL_law_331 rfl rfl ?_
              refine ct_rc (fun b740 ci741 V742 hb743 hc744 hi745 => ?_)
              refine ct_cI (st := []) (cg_virtual (av := []) S hb743 hc744 hi745 (fun _ e => mt_X1_fault e) md_X1_fault q1074 q1075 se_HeldCoats_fault___I_HeldCoats (by decide) (Nat.le_of_ble_eq_true rfl) rfl dL_law_332) (fun x747 h746 => ?_)
              refine ct_aload_n (k := 2) S dL_law_335 rfl rfl ?_
              refine ct_rc (fun b748 ci749 V750 hb751 hc752 hi753 => ?_)
              refine ct_cI (st := [cz_i x747]) (cg_virtual (av := []) S hb751 hc752 hi753 (fun _ e => mt_X5_fault e) md_X5_fault q2152 q2153 se_HeldCoatsModel_fault___I_HeldCoatsModel (by decide) (Nat.le_of_ble_eq_true rfl) rfl dL_law_336) (fun x755 h754 => ?_)
              refine ct_icmp_eq (tgt := 1403) S dL_law_339 (by decide) ?_ ?_
              · refine ct_iincL (j := 4) (L2 := fun x756 => [(4, cz_i x756), (0, cz_r l0), (1, cz_r l1), (2, cz_r l2), (3, cz_r l3)]) S dL_law_1403 rfl kI_6 (by decide) (fun _ => rfl) (fun x756 => ?_)
                refine ct_goto (tgt := 23) S dL_law_1406 (by decide) ?_
                exact ct_sub [1, 2, 3, 4, 0] rfl (ih x756 h754)
              · exact ct_sub [] rfl (hk3 h754)
            · refine ct_case ?_ (fun c4_ => ?_)
              · refine ct_tableIn (tgt := 344) S dL_law_40 (by decide) (by decide) rfl (by decide) ?_
                refine ct_aload_n (k := 1) S dL_law_344 rfl rfl ?_
                refine ct_aload_n (k := 0) S dL_law_345 rfl rfl ?_
                refine ct_iload (k := 4) S dL_law_346 rfl ?_
                refine ct_iconst (v := 1) S dL_law_348 kI_1 ?_
                refine ct_iadd S dL_law_349 ?_
                refine ct_iald S dL_law_350 (fun x719 => ?_)
                refine ct_aload_n (k := 0) S dL_law_351 rfl rfl ?_
                refine ct_iload (k := 4) S dL_law_352 rfl ?_
                refine ct_iconst (v := 2) S dL_law_354 kI_2 ?_
                refine ct_iadd S dL_law_355 ?_
                refine ct_iald S dL_law_356 (fun x720 => ?_)
                refine ct_rc (fun b721 ci722 V723 hb724 hc725 hi726 => ?_)
                refine ct_cI (st := []) (cg_virtual (av := [cz_i x719, cz_i x720]) S hb724 hc725 hi726 (fun _ e => mt_X1_seat e) md_X1_seat q1078 q1079 se_HeldCoats_seat__II_I_HeldCoats (by decide) (Nat.le_of_ble_eq_true rfl) rfl dL_law_357) (fun x728 h727 => ?_)
                refine ct_aload_n (k := 2) S dL_law_360 rfl rfl ?_
                refine ct_aload_n (k := 0) S dL_law_361 rfl rfl ?_
                refine ct_iload (k := 4) S dL_law_362 rfl ?_
                refine ct_iconst (v := 1) S dL_law_364 kI_1 ?_
                refine ct_iadd S dL_law_365 ?_
                refine ct_iald S dL_law_366 (fun x729 => ?_)
                refine ct_aload_n (k := 0) S dL_law_367 rfl rfl ?_
                refine ct_iload (k := 4) S dL_law_368 rfl ?_
                refine ct_iconst (v := 2) S dL_law_370 kI_2 ?_
                refine ct_iadd S dL_law_371 ?_
                refine ct_iald S dL_law_372 (fun x730 => ?_)
                refine ct_rc (fun b731 ci732 V733 hb734 hc735 hi736 => ?_)
                refine ct_cI (st := [cz_i x728]) (cg_virtual (av := [cz_i x729, cz_i x730]) S hb734 hc735 hi736 (fun _ e => mt_X5_seat e) md_X5_seat q2156 q2157 se_HeldCoatsModel_seat__II_I_HeldCoatsModel (by decide) (Nat.le_of_ble_eq_true rfl) rfl dL_law_373) (fun x738 h737 => ?_)
                refine ct_icmp_eq (tgt := 1403) S dL_law_376 (by decide) ?_ ?_
                · refine ct_iincL (j := 4) (L2 := fun x739 => [(4, cz_i x739), (0, cz_r l0), (1, cz_r l1), (2, cz_r l2), (3, cz_r l3)]) S dL_law_1403 rfl kI_6 (by decide) (fun _ => rfl) (fun x739 => ?_)
                  refine ct_goto (tgt := 23) S dL_law_1406 (by decide) ?_
                  exact ct_sub [1, 2, 3, 4, 0] rfl (ih x739 h737)
                · exact ct_sub [] rfl (hk4 h737)
              · refine ct_case ?_ (fun c5_ => ?_)
                · refine ct_tableIn (tgt := 381) S dL_law_40 (by decide) (by decide) rfl (by decide) ?_
                  refine ct_aload_n (k := 1) S dL_law_381 rfl rfl ?_
                  refine ct_aload_n (k := 0) S dL_law_382 rfl rfl ?_
                  refine ct_iload (k := 4) S dL_law_383 rfl ?_
                  refine ct_iconst (v := 1) S dL_law_385 kI_1 ?_
                  refine ct_iadd S dL_law_386 ?_
                  refine ct_iald S dL_law_387 (fun x694 => ?_)
                  refine ct_aload_n (k := 0) S dL_law_388 rfl rfl ?_
                  refine ct_iload (k := 4) S dL_law_389 rfl ?_
                  refine ct_iconst (v := 2) S dL_law_391 kI_2 ?_
                  refine ct_iadd S dL_law_392 ?_
                  refine ct_iald S dL_law_393 (fun x695 => ?_)
                  refine ct_aload_n (k := 3) S dL_law_394 rfl rfl ?_
                  refine ct_cI (st := []) (cg_static (av := [cz_r l1, cz_i x694, cz_i x695, cz_r l3]) S (fun _ e => mt_X0_man hfl e) md_X0_man (Or.inl q1818) q1819 (by decide) (Nat.le_of_ble_eq_true rfl) rfl dL_law_395) (fun x697 h696 => ?_)
                  refine ct_istore (L' := [(5, cz_i x697), (0, cz_r l0), (1, cz_r l1), (2, cz_r l2), (3, cz_r l3), (4, cz_i l4)]) S dL_law_398 (by decide) rfl ?_
                  refine ct_aload_n (k := 3) S dL_law_400 rfl rfl ?_
                  refine ct_aload_n (k := 1) S dL_law_401 rfl rfl ?_
                  refine ct_iload (k := 5) S dL_law_402 rfl ?_
                  refine ct_iconst (v := 1) S dL_law_404 kI_1 ?_
                  refine ct_iadd S dL_law_405 ?_
                  refine ct_iald S dL_law_406 (fun x698 => ?_)
                  refine ct_aload_n (k := 1) S dL_law_407 rfl rfl ?_
                  refine ct_iload (k := 5) S dL_law_408 rfl ?_
                  refine ct_iconst (v := 2) S dL_law_410 kI_2 ?_
                  refine ct_iadd S dL_law_411 ?_
                  refine ct_iald S dL_law_412 (fun x699 => ?_)
                  refine ct_rc (fun b700 ci701 V702 hb703 hc704 hi705 => ?_)
                  refine ct_cI (st := []) (cg_virtual (av := [cz_i x698, cz_i x699]) S hb703 hc704 hi705 (fun _ e => mt_X5_man e) md_X5_man q2184 q2185 se_HeldCoatsModel_man__II_I_HeldCoatsModel (by decide) (Nat.le_of_ble_eq_true rfl) rfl dL_law_413) (fun x707 h706 => ?_)
                  refine ct_istore (L' := [(6, cz_i x707), (5, cz_i x697), (0, cz_r l0), (1, cz_r l1), (2, cz_r l2), (3, cz_r l3), (4, cz_i l4)]) S dL_law_416 (by decide) rfl ?_
                  refine ct_aload_n (k := 4) S dL_law_418 rfl rfl ?_
                  refine ct_rc (fun b708 ci709 V710 hb711 hc712 hi713 => ?_)
                  refine ct_cI (st := []) (cg_virtual (av := []) S hb711 hc712 hi713 (fun _ e => mt_X5_thrown e) md_X5_thrown q1868 q1869 se_HeldCoatsModel_thrown___I_HeldCoatsModel (by decide) (Nat.le_of_ble_eq_true rfl) rfl dL_law_419) (fun x715 h714 => ?_)
                  refine ct_iload (k := 1) S dL_law_422 rfl ?_
                  refine ct_icmp_eq (tgt := 429) S dL_law_424 (by decide) ?_ ?_
                  · refine ct_iload (k := 1) S dL_law_429 rfl ?_
                    refine ct_if_ne (tgt := 446) S dL_law_431 (by decide) ?_ ?_
                    · refine ct_goto (tgt := 1403) S dL_law_446 (by decide) ?_
                      refine ct_iincL (j := 6) (L2 := fun x716 => [(4, cz_i x716), (6, cz_i x707), (5, cz_i x697), (0, cz_r l0), (1, cz_r l1), (2, cz_r l2), (3, cz_r l3)]) S dL_law_1403 rfl kI_6 (by decide) (fun _ => rfl) (fun x716 => ?_)
                      refine ct_goto (tgt := 23) S dL_law_1406 (by decide) ?_
                      exact ct_sub [3, 4, 5, 6, 0] rfl (ih x716 h714)
                    · refine ct_aload_n (k := 5) S dL_law_434 rfl rfl ?_
                      refine ct_iconst (v := 0) S dL_law_435 kI_0 ?_
                      refine ct_lald S dL_law_436 (fun y717 => ?_)
                      refine ct_iload (k := 0) S dL_law_437 rfl ?_
                      refine ct_i2l S dL_law_439 ?_
                      refine ct_lcmp S dL_law_440 ?_
                      refine ct_if_eq (tgt := 446) S dL_law_441 (by decide) ?_ ?_
                      · refine ct_goto (tgt := 1403) S dL_law_446 (by decide) ?_
                        refine ct_iincL (j := 6) (L2 := fun x718 => [(4, cz_i x718), (6, cz_i x707), (5, cz_i x697), (0, cz_r l0), (1, cz_r l1), (2, cz_r l2), (3, cz_r l3)]) S dL_law_1403 rfl kI_6 (by decide) (fun _ => rfl) (fun x718 => ?_)
                        refine ct_goto (tgt := 23) S dL_law_1406 (by decide) ?_
                        exact ct_sub [3, 4, 5, 6, 0] rfl (ih x718 h714)
                      · exact ct_sub [] rfl (hk6 h714)
                  · exact ct_sub [] rfl (hk5 h714)
                · refine ct_case ?_ (fun c6_ => ?_)
                  · refine ct_tableIn (tgt := 449) S dL_law_40 (by decide) (by decide) rfl (by decide) ?_
                    refine ct_aload_n (k := 1) S dL_law_449 rfl rfl ?_
                    refine ct_aload_n (k := 0) S dL_law_450 rfl rfl ?_
                    refine ct_iload (k := 4) S dL_law_451 rfl ?_
                    refine ct_iconst (v := 1) S dL_law_453 kI_1 ?_
                    refine ct_iadd S dL_law_454 ?_
                    refine ct_iald S dL_law_455 (fun x669 => ?_)
                    refine ct_aload_n (k := 0) S dL_law_456 rfl rfl ?_
                    refine ct_iload (k := 4) S dL_law_457 rfl ?_
                    refine ct_iconst (v := 2) S dL_law_459 kI_2 ?_
                    refine ct_iadd S dL_law_460 ?_
                    refine ct_iald S dL_law_461 (fun x670 => ?_)
                    refine ct_aload_n (k := 3) S dL_law_462 rfl rfl ?_
                    refine ct_cI (st := []) (cg_static (av := [cz_r l1, cz_i x669, cz_i x670, cz_r l3]) S (fun _ e => mt_X0_coat hfl e) md_X0_coat (Or.inl q1860) q1861 (by decide) (Nat.le_of_ble_eq_true rfl) rfl dL_law_463) (fun x672 h671 => ?_)
                    refine ct_istore (L' := [(5, cz_i x672), (0, cz_r l0), (1, cz_r l1), (2, cz_r l2), (3, cz_r l3), (4, cz_i l4)]) S dL_law_466 (by decide) rfl ?_
                    refine ct_aload_n (k := 3) S dL_law_468 rfl rfl ?_
                    refine ct_aload_n (k := 1) S dL_law_469 rfl rfl ?_
                    refine ct_iload (k := 5) S dL_law_470 rfl ?_
                    refine ct_iconst (v := 1) S dL_law_472 kI_1 ?_
                    refine ct_iadd S dL_law_473 ?_
                    refine ct_iald S dL_law_474 (fun x673 => ?_)
                    refine ct_aload_n (k := 1) S dL_law_475 rfl rfl ?_
                    refine ct_iload (k := 5) S dL_law_476 rfl ?_
                    refine ct_iconst (v := 2) S dL_law_478 kI_2 ?_
                    refine ct_iadd S dL_law_479 ?_
                    refine ct_iald S dL_law_480 (fun x674 => ?_)
                    refine ct_rc (fun b675 ci676 V677 hb678 hc679 hi680 => ?_)
                    refine ct_cI (st := []) (cg_virtual (av := [cz_i x673, cz_i x674]) S hb678 hc679 hi680 (fun _ e => mt_X5_coat e) md_X5_coat q2215 q2216 se_HeldCoatsModel_coat__II_I_HeldCoatsModel (by decide) (Nat.le_of_ble_eq_true rfl) rfl dL_law_481) (fun x682 h681 => ?_)
                    refine ct_istore (L' := [(6, cz_i x682), (5, cz_i x672), (0, cz_r l0), (1, cz_r l1), (2, cz_r l2), (3, cz_r l3), (4, cz_i l4)]) S dL_law_484 (by decide) rfl ?_
                    refine ct_aload_n (k := 4) S dL_law_486 rfl rfl ?_
                    refine ct_rc (fun b683 ci684 V685 hb686 hc687 hi688 => ?_)
                    refine ct_cI (st := []) (cg_virtual (av := []) S hb686 hc687 hi688 (fun _ e => mt_X5_thrown e) md_X5_thrown q1868 q1869 se_HeldCoatsModel_thrown___I_HeldCoatsModel (by decide) (Nat.le_of_ble_eq_true rfl) rfl dL_law_487) (fun x690 h689 => ?_)
                    refine ct_iload (k := 1) S dL_law_490 rfl ?_
                    refine ct_icmp_eq (tgt := 497) S dL_law_492 (by decide) ?_ ?_
                    · refine ct_iload (k := 1) S dL_law_497 rfl ?_
                      refine ct_if_ne (tgt := 514) S dL_law_499 (by decide) ?_ ?_
                      · refine ct_goto (tgt := 1403) S dL_law_514 (by decide) ?_
                        refine ct_iincL (j := 6) (L2 := fun x691 => [(4, cz_i x691), (6, cz_i x682), (5, cz_i x672), (0, cz_r l0), (1, cz_r l1), (2, cz_r l2), (3, cz_r l3)]) S dL_law_1403 rfl kI_6 (by decide) (fun _ => rfl) (fun x691 => ?_)
                        refine ct_goto (tgt := 23) S dL_law_1406 (by decide) ?_
                        exact ct_sub [3, 4, 5, 6, 0] rfl (ih x691 h689)
                      · refine ct_aload_n (k := 5) S dL_law_502 rfl rfl ?_
                        refine ct_iconst (v := 0) S dL_law_503 kI_0 ?_
                        refine ct_lald S dL_law_504 (fun y692 => ?_)
                        refine ct_iload (k := 0) S dL_law_505 rfl ?_
                        refine ct_i2l S dL_law_507 ?_
                        refine ct_lcmp S dL_law_508 ?_
                        refine ct_if_eq (tgt := 514) S dL_law_509 (by decide) ?_ ?_
                        · refine ct_goto (tgt := 1403) S dL_law_514 (by decide) ?_
                          refine ct_iincL (j := 6) (L2 := fun x693 => [(4, cz_i x693), (6, cz_i x682), (5, cz_i x672), (0, cz_r l0), (1, cz_r l1), (2, cz_r l2), (3, cz_r l3)]) S dL_law_1403 rfl kI_6 (by decide) (fun _ => rfl) (fun x693 => ?_)
                          refine ct_goto (tgt := 23) S dL_law_1406 (by decide) ?_
                          exact ct_sub [3, 4, 5, 6, 0] rfl (ih x693 h689)
                        · exact ct_sub [] rfl (hk8 h689)
                    · exact ct_sub [] rfl (hk7 h689)
                  · refine ct_case ?_ (fun c7_ => ?_)
                    · refine ct_tableIn (tgt := 517) S dL_law_40 (by decide) (by decide) rfl (by decide) ?_
                      refine ct_aload_n (k := 1) S dL_law_517 rfl rfl ?_
                      refine ct_aload_n (k := 0) S dL_law_518 rfl rfl ?_
                      refine ct_iload (k := 4) S dL_law_519 rfl ?_
                      refine ct_iconst (v := 1) S dL_law_521 kI_1 ?_
                      refine ct_iadd S dL_law_522 ?_
                      refine ct_iald S dL_law_523 (fun x650 => ?_)
                      refine ct_rc (fun b651 ci652 V653 hb654 hc655 hi656 => ?_)
                      refine ct_cI (st := []) (cg_virtual (av := [cz_i x650]) S hb654 hc655 hi656 (fun _ e => mt_X1_now e) md_X1_now q1118 q1119 se_HeldCoats_now__I_I_HeldCoats (by decide) (Nat.le_of_ble_eq_true rfl) rfl dL_law_524) (fun x658 h657 => ?_)
                      refine ct_aload_n (k := 2) S dL_law_527 rfl rfl ?_
                      refine ct_aload_n (k := 0) S dL_law_528 rfl rfl ?_
                      refine ct_iload (k := 4) S dL_law_529 rfl ?_
                      refine ct_iconst (v := 1) S dL_law_531 kI_1 ?_
                      refine ct_iadd S dL_law_532 ?_
                      refine ct_iald S dL_law_533 (fun x659 => ?_)
                      refine ct_rc (fun b660 ci661 V662 hb663 hc664 hi665 => ?_)
                      refine ct_cI (st := [cz_i x658]) (cg_virtual (av := [cz_i x659]) S hb663 hc664 hi665 (fun _ e => mt_X5_now e) md_X5_now q2223 q2224 se_HeldCoatsModel_now__I_I_HeldCoatsModel (by decide) (Nat.le_of_ble_eq_true rfl) rfl dL_law_534) (fun x667 h666 => ?_)
                      refine ct_icmp_eq (tgt := 1403) S dL_law_537 (by decide) ?_ ?_
                      · refine ct_iincL (j := 4) (L2 := fun x668 => [(4, cz_i x668), (0, cz_r l0), (1, cz_r l1), (2, cz_r l2), (3, cz_r l3)]) S dL_law_1403 rfl kI_6 (by decide) (fun _ => rfl) (fun x668 => ?_)
                        refine ct_goto (tgt := 23) S dL_law_1406 (by decide) ?_
                        exact ct_sub [1, 2, 3, 4, 0] rfl (ih x668 h666)
                      · exact ct_sub [] rfl (hk9 h666)
                    · refine ct_case ?_ (fun c8_ => ?_)
                      · refine ct_tableIn (tgt := 542) S dL_law_40 (by decide) (by decide) rfl (by decide) ?_
                        refine ct_aload_n (k := 1) S dL_law_542 rfl rfl ?_
                        refine ct_aload_n (k := 0) S dL_law_543 rfl rfl ?_
                        refine ct_iload (k := 4) S dL_law_544 rfl ?_
                        refine ct_iconst (v := 1) S dL_law_546 kI_1 ?_
                        refine ct_iadd S dL_law_547 ?_
                        refine ct_iald S dL_law_548 (fun x629 => ?_)
                        refine ct_aload_n (k := 0) S dL_law_549 rfl rfl ?_
                        refine ct_iload (k := 4) S dL_law_550 rfl ?_
                        refine ct_iconst (v := 2) S dL_law_552 kI_2 ?_
                        refine ct_iadd S dL_law_553 ?_
                        refine ct_iald S dL_law_554 (fun x630 => ?_)
                        refine ct_rc (fun b631 ci632 V633 hb634 hc635 hi636 => ?_)
                        refine ct_cI (st := []) (cg_virtual (av := [cz_i x629, cz_i x630]) S hb634 hc635 hi636 (fun _ e => mt_X1_lay e) md_X1_lay q1138 q1139 se_HeldCoats_lay__II_I_HeldCoats (by decide) (Nat.le_of_ble_eq_true rfl) rfl dL_law_555) (fun x638 h637 => ?_)
                        refine ct_aload_n (k := 2) S dL_law_558 rfl rfl ?_
                        refine ct_aload_n (k := 0) S dL_law_559 rfl rfl ?_
                        refine ct_iload (k := 4) S dL_law_560 rfl ?_
                        refine ct_iconst (v := 1) S dL_law_562 kI_1 ?_
                        refine ct_iadd S dL_law_563 ?_
                        refine ct_iald S dL_law_564 (fun x639 => ?_)
                        refine ct_aload_n (k := 0) S dL_law_565 rfl rfl ?_
                        refine ct_iload (k := 4) S dL_law_566 rfl ?_
                        refine ct_iconst (v := 2) S dL_law_568 kI_2 ?_
                        refine ct_iadd S dL_law_569 ?_
                        refine ct_iald S dL_law_570 (fun x640 => ?_)
                        refine ct_rc (fun b641 ci642 V643 hb644 hc645 hi646 => ?_)
                        refine ct_cI (st := [cz_i x638]) (cg_virtual (av := [cz_i x639, cz_i x640]) S hb644 hc645 hi646 (fun _ e => mt_X5_lay e) md_X5_lay q2235 q2236 se_HeldCoatsModel_lay__II_I_HeldCoatsModel (by decide) (Nat.le_of_ble_eq_true rfl) rfl dL_law_571) (fun x648 h647 => ?_)
                        refine ct_icmp_eq (tgt := 1403) S dL_law_574 (by decide) ?_ ?_
                        · refine ct_iincL (j := 4) (L2 := fun x649 => [(4, cz_i x649), (0, cz_r l0), (1, cz_r l1), (2, cz_r l2), (3, cz_r l3)]) S dL_law_1403 rfl kI_6 (by decide) (fun _ => rfl) (fun x649 => ?_)
                          refine ct_goto (tgt := 23) S dL_law_1406 (by decide) ?_
                          exact ct_sub [1, 2, 3, 4, 0] rfl (ih x649 h647)
                        · exact ct_sub [] rfl (hk10 h647)
                      · refine ct_case ?_ (fun c9_ => ?_)
                        · refine ct_tableIn (tgt := 579) S dL_law_40 (by decide) (by decide) rfl (by decide) ?_
                          refine ct_aload_n (k := 1) S dL_law_579 rfl rfl ?_
                          refine ct_aload_n (k := 0) S dL_law_580 rfl rfl ?_
                          refine ct_iload (k := 4) S dL_law_581 rfl ?_
                          refine ct_iconst (v := 1) S dL_law_583 kI_1 ?_
                          refine ct_iadd S dL_law_584 ?_
                          refine ct_iald S dL_law_585 (fun x608 => ?_)
                          refine ct_aload_n (k := 0) S dL_law_586 rfl rfl ?_
                          refine ct_iload (k := 4) S dL_law_587 rfl ?_
                          refine ct_iconst (v := 2) S dL_law_589 kI_2 ?_
                          refine ct_iadd S dL_law_590 ?_
                          refine ct_iald S dL_law_591 (fun x609 => ?_)
                          refine ct_rc (fun b610 ci611 V612 hb613 hc614 hi615 => ?_)
                          refine ct_cI (st := []) (cg_virtual (av := [cz_i x608, cz_i x609]) S hb613 hc614 hi615 (fun _ e => mt_X1_wear e) md_X1_wear q1305 q1306 se_HeldCoats_wear__II_I_HeldCoats (by decide) (Nat.le_of_ble_eq_true rfl) rfl dL_law_592) (fun x617 h616 => ?_)
                          refine ct_aload_n (k := 2) S dL_law_595 rfl rfl ?_
                          refine ct_aload_n (k := 0) S dL_law_596 rfl rfl ?_
                          refine ct_iload (k := 4) S dL_law_597 rfl ?_
                          refine ct_iconst (v := 1) S dL_law_599 kI_1 ?_
                          refine ct_iadd S dL_law_600 ?_
                          refine ct_iald S dL_law_601 (fun x618 => ?_)
                          refine ct_aload_n (k := 0) S dL_law_602 rfl rfl ?_
                          refine ct_iload (k := 4) S dL_law_603 rfl ?_
                          refine ct_iconst (v := 2) S dL_law_605 kI_2 ?_
                          refine ct_iadd S dL_law_606 ?_
                          refine ct_iald S dL_law_607 (fun x619 => ?_)
                          refine ct_rc (fun b620 ci621 V622 hb623 hc624 hi625 => ?_)
                          refine ct_cI (st := [cz_i x617]) (cg_virtual (av := [cz_i x618, cz_i x619]) S hb623 hc624 hi625 (fun _ e => mt_X5_wear e) md_X5_wear q2255 q2256 se_HeldCoatsModel_wear__II_I_HeldCoatsModel (by decide) (Nat.le_of_ble_eq_true rfl) rfl dL_law_608) (fun x627 h626 => ?_)
                          refine ct_icmp_eq (tgt := 1403) S dL_law_611 (by decide) ?_ ?_
                          · refine ct_iincL (j := 4) (L2 := fun x628 => [(4, cz_i x628), (0, cz_r l0), (1, cz_r l1), (2, cz_r l2), (3, cz_r l3)]) S dL_law_1403 rfl kI_6 (by decide) (fun _ => rfl) (fun x628 => ?_)
                            refine ct_goto (tgt := 23) S dL_law_1406 (by decide) ?_
                            exact ct_sub [1, 2, 3, 4, 0] rfl (ih x628 h626)
                          · exact ct_sub [] rfl (hk11 h626)
                        · refine ct_case ?_ (fun c10_ => ?_)
                          · refine ct_tableIn (tgt := 616) S dL_law_40 (by decide) (by decide) rfl (by decide) ?_
                            refine ct_aload_n (k := 1) S dL_law_616 rfl rfl ?_
                            refine ct_aload_n (k := 0) S dL_law_617 rfl rfl ?_
                            refine ct_iload (k := 4) S dL_law_618 rfl ?_
                            refine ct_iconst (v := 1) S dL_law_620 kI_1 ?_
                            refine ct_iadd S dL_law_621 ?_
                            refine ct_iald S dL_law_622 (fun x587 => ?_)
                            refine ct_aload_n (k := 0) S dL_law_623 rfl rfl ?_
                            refine ct_iload (k := 4) S dL_law_624 rfl ?_
                            refine ct_iconst (v := 2) S dL_law_626 kI_2 ?_
                            refine ct_iadd S dL_law_627 ?_
                            refine ct_iald S dL_law_628 (fun x588 => ?_)
                            refine ct_rc (fun b589 ci590 V591 hb592 hc593 hi594 => ?_)
                            refine ct_cI (st := []) (cg_virtual (av := [cz_i x587, cz_i x588]) S hb592 hc593 hi594 (fun _ e => mt_X1_lend e) md_X1_lend q1326 q1327 se_HeldCoats_lend__II_I_HeldCoats (by decide) (Nat.le_of_ble_eq_true rfl) rfl dL_law_629) (fun x596 h595 => ?_)
                            refine ct_aload_n (k := 2) S dL_law_632 rfl rfl ?_
                            refine ct_aload_n (k := 0) S dL_law_633 rfl rfl ?_
                            refine ct_iload (k := 4) S dL_law_634 rfl ?_
                            refine ct_iconst (v := 1) S dL_law_636 kI_1 ?_
                            refine ct_iadd S dL_law_637 ?_
                            refine ct_iald S dL_law_638 (fun x597 => ?_)
                            refine ct_aload_n (k := 0) S dL_law_639 rfl rfl ?_
                            refine ct_iload (k := 4) S dL_law_640 rfl ?_
                            refine ct_iconst (v := 2) S dL_law_642 kI_2 ?_
                            refine ct_iadd S dL_law_643 ?_
                            refine ct_iald S dL_law_644 (fun x598 => ?_)
                            refine ct_rc (fun b599 ci600 V601 hb602 hc603 hi604 => ?_)
                            refine ct_cI (st := [cz_i x596]) (cg_virtual (av := [cz_i x597, cz_i x598]) S hb602 hc603 hi604 (fun _ e => mt_X5_lend e) md_X5_lend q2271 q2272 se_HeldCoatsModel_lend__II_I_HeldCoatsModel (by decide) (Nat.le_of_ble_eq_true rfl) rfl dL_law_645) (fun x606 h605 => ?_)
                            refine ct_icmp_eq (tgt := 1403) S dL_law_648 (by decide) ?_ ?_
                            · refine ct_iincL (j := 4) (L2 := fun x607 => [(4, cz_i x607), (0, cz_r l0), (1, cz_r l1), (2, cz_r l2), (3, cz_r l3)]) S dL_law_1403 rfl kI_6 (by decide) (fun _ => rfl) (fun x607 => ?_)
                              refine ct_goto (tgt := 23) S dL_law_1406 (by decide) ?_
                              exact ct_sub [1, 2, 3, 4, 0] rfl (ih x607 h605)
                            · exact ct_sub [] rfl (hk12 h605)
                          · refine ct_case ?_ (fun c11_ => ?_)
                            · refine ct_tableIn (tgt := 653) S dL_law_40 (by decide) (by decide) rfl (by decide) ?_
                              refine ct_aload_n (k := 1) S dL_law_653 rfl rfl ?_
                              refine ct_aload_n (k := 0) S dL_law_654 rfl rfl ?_
                              refine ct_iload (k := 4) S dL_law_655 rfl ?_
                              refine ct_iconst (v := 1) S dL_law_657 kI_1 ?_
                              refine ct_iadd S dL_law_658 ?_
                              refine ct_iald S dL_law_659 (fun x568 => ?_)
                              refine ct_rc (fun b569 ci570 V571 hb572 hc573 hi574 => ?_)
                              refine ct_cI (st := []) (cg_virtual (av := [cz_i x568]) S hb572 hc573 hi574 (fun _ e => mt_X1_keep e) md_X1_keep q1339 q1340 se_HeldCoats_keep__I_I_HeldCoats (by decide) (Nat.le_of_ble_eq_true rfl) rfl dL_law_660) (fun x576 h575 => ?_)
                              refine ct_aload_n (k := 2) S dL_law_663 rfl rfl ?_
                              refine ct_aload_n (k := 0) S dL_law_664 rfl rfl ?_
                              refine ct_iload (k := 4) S dL_law_665 rfl ?_
                              refine ct_iconst (v := 1) S dL_law_667 kI_1 ?_
                              refine ct_iadd S dL_law_668 ?_
                              refine ct_iald S dL_law_669 (fun x577 => ?_)
                              refine ct_rc (fun b578 ci579 V580 hb581 hc582 hi583 => ?_)
                              refine ct_cI (st := [cz_i x576]) (cg_virtual (av := [cz_i x577]) S hb581 hc582 hi583 (fun _ e => mt_X5_keep e) md_X5_keep q2279 q2280 se_HeldCoatsModel_keep__I_I_HeldCoatsModel (by decide) (Nat.le_of_ble_eq_true rfl) rfl dL_law_670) (fun x585 h584 => ?_)
                              refine ct_icmp_eq (tgt := 1403) S dL_law_673 (by decide) ?_ ?_
                              · refine ct_iincL (j := 4) (L2 := fun x586 => [(4, cz_i x586), (0, cz_r l0), (1, cz_r l1), (2, cz_r l2), (3, cz_r l3)]) S dL_law_1403 rfl kI_6 (by decide) (fun _ => rfl) (fun x586 => ?_)
                                refine ct_goto (tgt := 23) S dL_law_1406 (by decide) ?_
                                exact ct_sub [1, 2, 3, 4, 0] rfl (ih x586 h584)
                              · exact ct_sub [] rfl (hk13 h584)
                            · refine ct_case ?_ (fun c12_ => ?_)
                              · refine ct_tableIn (tgt := 678) S dL_law_40 (by decide) (by decide) rfl (by decide) ?_
                                refine ct_aload_n (k := 1) S dL_law_678 rfl rfl ?_
                                refine ct_aload_n (k := 0) S dL_law_679 rfl rfl ?_
                                refine ct_iload (k := 4) S dL_law_680 rfl ?_
                                refine ct_iconst (v := 1) S dL_law_682 kI_1 ?_
                                refine ct_iadd S dL_law_683 ?_
                                refine ct_iald S dL_law_684 (fun x549 => ?_)
                                refine ct_rc (fun b550 ci551 V552 hb553 hc554 hi555 => ?_)
                                refine ct_cI (st := []) (cg_virtual (av := [cz_i x549]) S hb553 hc554 hi555 (fun _ e => mt_X1_days e) md_X1_days q1351 q1352 se_HeldCoats_days__I_I_HeldCoats (by decide) (Nat.le_of_ble_eq_true rfl) rfl dL_law_685) (fun x557 h556 => ?_)
                                refine ct_aload_n (k := 2) S dL_law_688 rfl rfl ?_
                                refine ct_aload_n (k := 0) S dL_law_689 rfl rfl ?_
                                refine ct_iload (k := 4) S dL_law_690 rfl ?_
                                refine ct_iconst (v := 1) S dL_law_692 kI_1 ?_
                                refine ct_iadd S dL_law_693 ?_
                                refine ct_iald S dL_law_694 (fun x558 => ?_)
                                refine ct_rc (fun b559 ci560 V561 hb562 hc563 hi564 => ?_)
                                refine ct_cI (st := [cz_i x557]) (cg_virtual (av := [cz_i x558]) S hb562 hc563 hi564 (fun _ e => mt_X5_days e) md_X5_days q2287 q2288 se_HeldCoatsModel_days__I_I_HeldCoatsModel (by decide) (Nat.le_of_ble_eq_true rfl) rfl dL_law_695) (fun x566 h565 => ?_)
                                refine ct_icmp_eq (tgt := 1403) S dL_law_698 (by decide) ?_ ?_
                                · refine ct_iincL (j := 4) (L2 := fun x567 => [(4, cz_i x567), (0, cz_r l0), (1, cz_r l1), (2, cz_r l2), (3, cz_r l3)]) S dL_law_1403 rfl kI_6 (by decide) (fun _ => rfl) (fun x567 => ?_)
                                  refine ct_goto (tgt := 23) S dL_law_1406 (by decide) ?_
                                  exact ct_sub [1, 2, 3, 4, 0] rfl (ih x567 h565)
                                · exact ct_sub [] rfl (hk14 h565)
                              · refine ct_case ?_ (fun c13_ => ?_)
                                · refine ct_tableIn (tgt := 703) S dL_law_40 (by decide) (by decide) rfl (by decide) ?_
                                  refine ct_aload_n (k := 1) S dL_law_703 rfl rfl ?_
                                  refine ct_rc (fun b532 ci533 V534 hb535 hc536 hi537 => ?_)
                                  refine ct_cI (st := []) (cg_virtual (av := []) S hb535 hc536 hi537 (fun _ e => mt_X1_undo e) md_X1_undo q1358 q1359 se_HeldCoats_undo___I_HeldCoats (by decide) (Nat.le_of_ble_eq_true rfl) rfl dL_law_704) (fun x539 h538 => ?_)
                                  refine ct_aload_n (k := 2) S dL_law_707 rfl rfl ?_
                                  refine ct_rc (fun b540 ci541 V542 hb543 hc544 hi545 => ?_)
                                  refine ct_cI (st := [cz_i x539]) (cg_virtual (av := []) S hb543 hc544 hi545 (fun _ e => mt_X5_undo e) md_X5_undo q2303 q2304 se_HeldCoatsModel_undo___I_HeldCoatsModel (by decide) (Nat.le_of_ble_eq_true rfl) rfl dL_law_708) (fun x547 h546 => ?_)
                                  refine ct_icmp_eq (tgt := 1403) S dL_law_711 (by decide) ?_ ?_
                                  · refine ct_iincL (j := 4) (L2 := fun x548 => [(4, cz_i x548), (0, cz_r l0), (1, cz_r l1), (2, cz_r l2), (3, cz_r l3)]) S dL_law_1403 rfl kI_6 (by decide) (fun _ => rfl) (fun x548 => ?_)
                                    refine ct_goto (tgt := 23) S dL_law_1406 (by decide) ?_
                                    exact ct_sub [1, 2, 3, 4, 0] rfl (ih x548 h546)
                                  · exact ct_sub [] rfl (hk15 h546)
                                · refine ct_case ?_ (fun c14_ => ?_)
                                  · refine ct_tableIn (tgt := 716) S dL_law_40 (by decide) (by decide) rfl (by decide) ?_
                                    refine ct_aload_n (k := 1) S dL_law_716 rfl rfl ?_
                                    refine ct_aload_n (k := 0) S dL_law_717 rfl rfl ?_
                                    refine ct_iload (k := 4) S dL_law_718 rfl ?_
                                    refine ct_iconst (v := 1) S dL_law_720 kI_1 ?_
                                    refine ct_iadd S dL_law_721 ?_
                                    refine ct_iald S dL_law_722 (fun x511 => ?_)
                                    refine ct_aload_n (k := 0) S dL_law_723 rfl rfl ?_
                                    refine ct_iload (k := 4) S dL_law_724 rfl ?_
                                    refine ct_iconst (v := 2) S dL_law_726 kI_2 ?_
                                    refine ct_iadd S dL_law_727 ?_
                                    refine ct_iald S dL_law_728 (fun x512 => ?_)
                                    refine ct_rc (fun b513 ci514 V515 hb516 hc517 hi518 => ?_)
                                    refine ct_cI (st := []) (cg_virtual (av := [cz_i x511, cz_i x512]) S hb516 hc517 hi518 (fun _ e => mt_X1_best e) md_X1_best q1362 q1363 se_HeldCoats_best__II_I_HeldCoats (by decide) (Nat.le_of_ble_eq_true rfl) rfl dL_law_729) (fun x520 h519 => ?_)
                                    refine ct_aload_n (k := 2) S dL_law_732 rfl rfl ?_
                                    refine ct_aload_n (k := 0) S dL_law_733 rfl rfl ?_
                                    refine ct_iload (k := 4) S dL_law_734 rfl ?_
                                    refine ct_iconst (v := 1) S dL_law_736 kI_1 ?_
                                    refine ct_iadd S dL_law_737 ?_
                                    refine ct_iald S dL_law_738 (fun x521 => ?_)
                                    refine ct_aload_n (k := 0) S dL_law_739 rfl rfl ?_
                                    refine ct_iload (k := 4) S dL_law_740 rfl ?_
                                    refine ct_iconst (v := 2) S dL_law_742 kI_2 ?_
                                    refine ct_iadd S dL_law_743 ?_
                                    refine ct_iald S dL_law_744 (fun x522 => ?_)
                                    refine ct_rc (fun b523 ci524 V525 hb526 hc527 hi528 => ?_)
                                    refine ct_cI (st := [cz_i x520]) (cg_virtual (av := [cz_i x521, cz_i x522]) S hb526 hc527 hi528 (fun _ e => mt_X5_best e) md_X5_best q2307 q2308 se_HeldCoatsModel_best__II_I_HeldCoatsModel (by decide) (Nat.le_of_ble_eq_true rfl) rfl dL_law_745) (fun x530 h529 => ?_)
                                    refine ct_icmp_eq (tgt := 1403) S dL_law_748 (by decide) ?_ ?_
                                    · refine ct_iincL (j := 4) (L2 := fun x531 => [(4, cz_i x531), (0, cz_r l0), (1, cz_r l1), (2, cz_r l2), (3, cz_r l3)]) S dL_law_1403 rfl kI_6 (by decide) (fun _ => rfl) (fun x531 => ?_)
                                      refine ct_goto (tgt := 23) S dL_law_1406 (by decide) ?_
                                      exact ct_sub [1, 2, 3, 4, 0] rfl (ih x531 h529)
                                    · exact ct_sub [] rfl (hk16 h529)
                                  · refine ct_case ?_ (fun c15_ => ?_)
                                    · refine ct_tableIn (tgt := 753) S dL_law_40 (by decide) (by decide) rfl (by decide) ?_
                                      refine ct_aload_n (k := 1) S dL_law_753 rfl rfl ?_
                                      refine ct_rc (fun b494 ci495 V496 hb497 hc498 hi499 => ?_)
                                      refine ct_cI (st := []) (cg_virtual (av := []) S hb497 hc498 hi499 (fun _ e => mt_X1_laid e) md_X1_laid q1391 q1392 se_HeldCoats_laid___I_HeldCoats (by decide) (Nat.le_of_ble_eq_true rfl) rfl dL_law_754) (fun x501 h500 => ?_)
                                      refine ct_aload_n (k := 2) S dL_law_757 rfl rfl ?_
                                      refine ct_rc (fun b502 ci503 V504 hb505 hc506 hi507 => ?_)
                                      refine ct_cI (st := [cz_i x501]) (cg_virtual (av := []) S hb505 hc506 hi507 (fun _ e => mt_X5_laid e) md_X5_laid q2318 q2319 se_HeldCoatsModel_laid___I_HeldCoatsModel (by decide) (Nat.le_of_ble_eq_true rfl) rfl dL_law_758) (fun x509 h508 => ?_)
                                      refine ct_icmp_eq (tgt := 1403) S dL_law_761 (by decide) ?_ ?_
                                      · refine ct_iincL (j := 4) (L2 := fun x510 => [(4, cz_i x510), (0, cz_r l0), (1, cz_r l1), (2, cz_r l2), (3, cz_r l3)]) S dL_law_1403 rfl kI_6 (by decide) (fun _ => rfl) (fun x510 => ?_)
                                        refine ct_goto (tgt := 23) S dL_law_1406 (by decide) ?_
                                        exact ct_sub [1, 2, 3, 4, 0] rfl (ih x510 h508)
                                      · exact ct_sub [] rfl (hk17 h508)
                                    · refine ct_case ?_ (fun c16_ => ?_)
                                      · refine ct_tableIn (tgt := 766) S dL_law_40 (by decide) (by decide) rfl (by decide) ?_
                                        refine ct_aload_n (k := 1) S dL_law_766 rfl rfl ?_
                                        refine ct_aload_n (k := 0) S dL_law_767 rfl rfl ?_
                                        refine ct_iload (k := 4) S dL_law_768 rfl ?_
                                        refine ct_iconst (v := 1) S dL_law_770 kI_1 ?_
                                        refine ct_iadd S dL_law_771 ?_
                                        refine ct_iald S dL_law_772 (fun x469 => ?_)
                                        refine ct_aload_n (k := 0) S dL_law_773 rfl rfl ?_
                                        refine ct_iload (k := 4) S dL_law_774 rfl ?_
                                        refine ct_iconst (v := 2) S dL_law_776 kI_2 ?_
                                        refine ct_iadd S dL_law_777 ?_
                                        refine ct_iald S dL_law_778 (fun x470 => ?_)
                                        refine ct_aload_n (k := 0) S dL_law_779 rfl rfl ?_
                                        refine ct_iload (k := 4) S dL_law_780 rfl ?_
                                        refine ct_iconst (v := 3) S dL_law_782 kI_3 ?_
                                        refine ct_iadd S dL_law_783 ?_
                                        refine ct_iald S dL_law_784 (fun x471 => ?_)
                                        refine ct_aload_n (k := 0) S dL_law_785 rfl rfl ?_
                                        refine ct_iload (k := 4) S dL_law_786 rfl ?_
                                        refine ct_iconst (v := 4) S dL_law_788 kI_4 ?_
                                        refine ct_iadd S dL_law_789 ?_
                                        refine ct_iald S dL_law_790 (fun x472 => ?_)
                                        refine ct_rc (fun b473 ci474 V475 hb476 hc477 hi478 => ?_)
                                        refine ct_cI (st := []) (cg_virtual (av := [cz_i x469, cz_i x470, cz_i x471, cz_i x472]) S hb476 hc477 hi478 (fun _ e => mt_X1_share e) md_X1_share q1395 q1396 se_HeldCoats_share__IIII_I_HeldCoats (by decide) (Nat.le_of_ble_eq_true rfl) rfl dL_law_791) (fun x480 h479 => ?_)
                                        refine ct_aload_n (k := 2) S dL_law_794 rfl rfl ?_
                                        refine ct_aload_n (k := 0) S dL_law_795 rfl rfl ?_
                                        refine ct_iload (k := 4) S dL_law_796 rfl ?_
                                        refine ct_iconst (v := 1) S dL_law_798 kI_1 ?_
                                        refine ct_iadd S dL_law_799 ?_
                                        refine ct_iald S dL_law_800 (fun x481 => ?_)
                                        refine ct_aload_n (k := 0) S dL_law_801 rfl rfl ?_
                                        refine ct_iload (k := 4) S dL_law_802 rfl ?_
                                        refine ct_iconst (v := 2) S dL_law_804 kI_2 ?_
                                        refine ct_iadd S dL_law_805 ?_
                                        refine ct_iald S dL_law_806 (fun x482 => ?_)
                                        refine ct_aload_n (k := 0) S dL_law_807 rfl rfl ?_
                                        refine ct_iload (k := 4) S dL_law_808 rfl ?_
                                        refine ct_iconst (v := 3) S dL_law_810 kI_3 ?_
                                        refine ct_iadd S dL_law_811 ?_
                                        refine ct_iald S dL_law_812 (fun x483 => ?_)
                                        refine ct_aload_n (k := 0) S dL_law_813 rfl rfl ?_
                                        refine ct_iload (k := 4) S dL_law_814 rfl ?_
                                        refine ct_iconst (v := 4) S dL_law_816 kI_4 ?_
                                        refine ct_iadd S dL_law_817 ?_
                                        refine ct_iald S dL_law_818 (fun x484 => ?_)
                                        refine ct_rc (fun b485 ci486 V487 hb488 hc489 hi490 => ?_)
                                        refine ct_cI (st := [cz_i x480]) (cg_virtual (av := [cz_i x481, cz_i x482, cz_i x483, cz_i x484]) S hb488 hc489 hi490 (fun _ e => mt_X5_share e) md_X5_share q2322 q2323 se_HeldCoatsModel_share__IIII_I_HeldCoatsModel (by decide) (Nat.le_of_ble_eq_true rfl) rfl dL_law_819) (fun x492 h491 => ?_)
                                        refine ct_icmp_eq (tgt := 1403) S dL_law_822 (by decide) ?_ ?_
                                        · refine ct_iincL (j := 4) (L2 := fun x493 => [(4, cz_i x493), (0, cz_r l0), (1, cz_r l1), (2, cz_r l2), (3, cz_r l3)]) S dL_law_1403 rfl kI_6 (by decide) (fun _ => rfl) (fun x493 => ?_)
                                          refine ct_goto (tgt := 23) S dL_law_1406 (by decide) ?_
                                          exact ct_sub [1, 2, 3, 4, 0] rfl (ih x493 h491)
                                        · exact ct_sub [] rfl (hk18 h491)
                                      · refine ct_case ?_ (fun c17_ => ?_)
                                        · refine ct_tableIn (tgt := 827) S dL_law_40 (by decide) (by decide) rfl (by decide) ?_
                                          refine ct_aload_n (k := 1) S dL_law_827 rfl rfl ?_
                                          refine ct_rc (fun b452 ci453 V454 hb455 hc456 hi457 => ?_)
                                          refine ct_cI (st := []) (cg_virtual (av := []) S hb455 hc456 hi457 (fun _ e => mt_X1_turns e) md_X1_turns q1408 q1409 se_HeldCoats_turns___I_HeldCoats (by decide) (Nat.le_of_ble_eq_true rfl) rfl dL_law_828) (fun x459 h458 => ?_)
                                          refine ct_aload_n (k := 2) S dL_law_831 rfl rfl ?_
                                          refine ct_rc (fun b460 ci461 V462 hb463 hc464 hi465 => ?_)
                                          refine ct_cI (st := [cz_i x459]) (cg_virtual (av := []) S hb463 hc464 hi465 (fun _ e => mt_X5_turns e) md_X5_turns q2330 q2331 se_HeldCoatsModel_turns___I_HeldCoatsModel (by decide) (Nat.le_of_ble_eq_true rfl) rfl dL_law_832) (fun x467 h466 => ?_)
                                          refine ct_icmp_eq (tgt := 1403) S dL_law_835 (by decide) ?_ ?_
                                          · refine ct_iincL (j := 4) (L2 := fun x468 => [(4, cz_i x468), (0, cz_r l0), (1, cz_r l1), (2, cz_r l2), (3, cz_r l3)]) S dL_law_1403 rfl kI_6 (by decide) (fun _ => rfl) (fun x468 => ?_)
                                            refine ct_goto (tgt := 23) S dL_law_1406 (by decide) ?_
                                            exact ct_sub [1, 2, 3, 4, 0] rfl (ih x468 h466)
                                          · exact ct_sub [] rfl (hk19 h466)
                                        · refine ct_case ?_ (fun c18_ => ?_)
                                          · refine ct_tableIn (tgt := 840) S dL_law_40 (by decide) (by decide) rfl (by decide) ?_
                                            refine ct_aload_n (k := 1) S dL_law_840 rfl rfl ?_
                                            refine ct_aload_n (k := 0) S dL_law_841 rfl rfl ?_
                                            refine ct_iload (k := 4) S dL_law_842 rfl ?_
                                            refine ct_iconst (v := 1) S dL_law_844 kI_1 ?_
                                            refine ct_iadd S dL_law_845 ?_
                                            refine ct_iald S dL_law_846 (fun x433 => ?_)
                                            refine ct_rc (fun b434 ci435 V436 hb437 hc438 hi439 => ?_)
                                            refine ct_cI (st := []) (cg_virtual (av := [cz_i x433]) S hb437 hc438 hi439 (fun _ e => mt_X1_ahead e) md_X1_ahead q1412 q1413 se_HeldCoats_ahead__I_I_HeldCoats (by decide) (Nat.le_of_ble_eq_true rfl) rfl dL_law_847) (fun x441 h440 => ?_)
                                            refine ct_aload_n (k := 2) S dL_law_850 rfl rfl ?_
                                            refine ct_aload_n (k := 0) S dL_law_851 rfl rfl ?_
                                            refine ct_iload (k := 4) S dL_law_852 rfl ?_
                                            refine ct_iconst (v := 1) S dL_law_854 kI_1 ?_
                                            refine ct_iadd S dL_law_855 ?_
                                            refine ct_iald S dL_law_856 (fun x442 => ?_)
                                            refine ct_rc (fun b443 ci444 V445 hb446 hc447 hi448 => ?_)
                                            refine ct_cI (st := [cz_i x441]) (cg_virtual (av := [cz_i x442]) S hb446 hc447 hi448 (fun _ e => mt_X5_ahead e) md_X5_ahead q2334 q2335 se_HeldCoatsModel_ahead__I_I_HeldCoatsModel (by decide) (Nat.le_of_ble_eq_true rfl) rfl dL_law_857) (fun x450 h449 => ?_)
                                            refine ct_icmp_eq (tgt := 1403) S dL_law_860 (by decide) ?_ ?_
                                            · refine ct_iincL (j := 4) (L2 := fun x451 => [(4, cz_i x451), (0, cz_r l0), (1, cz_r l1), (2, cz_r l2), (3, cz_r l3)]) S dL_law_1403 rfl kI_6 (by decide) (fun _ => rfl) (fun x451 => ?_)
                                              refine ct_goto (tgt := 23) S dL_law_1406 (by decide) ?_
                                              exact ct_sub [1, 2, 3, 4, 0] rfl (ih x451 h449)
                                            · exact ct_sub [] rfl (hk20 h449)
                                          · refine ct_case ?_ (fun c19_ => ?_)
                                            · refine ct_tableIn (tgt := 865) S dL_law_40 (by decide) (by decide) rfl (by decide) ?_
                                              refine ct_aload_n (k := 1) S dL_law_865 rfl rfl ?_
                                              refine ct_aload_n (k := 0) S dL_law_866 rfl rfl ?_
                                              refine ct_iload (k := 4) S dL_law_867 rfl ?_
                                              refine ct_iconst (v := 1) S dL_law_869 kI_1 ?_
                                              refine ct_iadd S dL_law_870 ?_
                                              refine ct_iald S dL_law_871 (fun x414 => ?_)
                                              refine ct_rc (fun b415 ci416 V417 hb418 hc419 hi420 => ?_)
                                              refine ct_cI (st := []) (cg_virtual (av := [cz_i x414]) S hb418 hc419 hi420 (fun _ e => mt_X1_queue e) md_X1_queue q1416 q1417 se_HeldCoats_queue__I_I_HeldCoats (by decide) (Nat.le_of_ble_eq_true rfl) rfl dL_law_872) (fun x422 h421 => ?_)
                                              refine ct_aload_n (k := 2) S dL_law_875 rfl rfl ?_
                                              refine ct_aload_n (k := 0) S dL_law_876 rfl rfl ?_
                                              refine ct_iload (k := 4) S dL_law_877 rfl ?_
                                              refine ct_iconst (v := 1) S dL_law_879 kI_1 ?_
                                              refine ct_iadd S dL_law_880 ?_
                                              refine ct_iald S dL_law_881 (fun x423 => ?_)
                                              refine ct_rc (fun b424 ci425 V426 hb427 hc428 hi429 => ?_)
                                              refine ct_cI (st := [cz_i x422]) (cg_virtual (av := [cz_i x423]) S hb427 hc428 hi429 (fun _ e => mt_X5_queue e) md_X5_queue q2342 q2343 se_HeldCoatsModel_queue__I_I_HeldCoatsModel (by decide) (Nat.le_of_ble_eq_true rfl) rfl dL_law_882) (fun x431 h430 => ?_)
                                              refine ct_icmp_eq (tgt := 1403) S dL_law_885 (by decide) ?_ ?_
                                              · refine ct_iincL (j := 4) (L2 := fun x432 => [(4, cz_i x432), (0, cz_r l0), (1, cz_r l1), (2, cz_r l2), (3, cz_r l3)]) S dL_law_1403 rfl kI_6 (by decide) (fun _ => rfl) (fun x432 => ?_)
                                                refine ct_goto (tgt := 23) S dL_law_1406 (by decide) ?_
                                                exact ct_sub [1, 2, 3, 4, 0] rfl (ih x432 h430)
                                              · exact ct_sub [] rfl (hk21 h430)
                                            · refine ct_case ?_ (fun c20_ => ?_)
                                              · refine ct_tableIn (tgt := 890) S dL_law_40 (by decide) (by decide) rfl (by decide) ?_
                                                refine ct_aload_n (k := 1) S dL_law_890 rfl rfl ?_
                                                refine ct_aload_n (k := 0) S dL_law_891 rfl rfl ?_
                                                refine ct_iload (k := 4) S dL_law_892 rfl ?_
                                                refine ct_iconst (v := 1) S dL_law_894 kI_1 ?_
                                                refine ct_iadd S dL_law_895 ?_
                                                refine ct_iald S dL_law_896 (fun x395 => ?_)
                                                refine ct_rc (fun b396 ci397 V398 hb399 hc400 hi401 => ?_)
                                                refine ct_cI (st := []) (cg_virtual (av := [cz_i x395]) S hb399 hc400 hi401 (fun _ e => mt_X1_bribes e) md_X1_bribes q1420 q1421 se_HeldCoats_bribes__I_I_HeldCoats (by decide) (Nat.le_of_ble_eq_true rfl) rfl dL_law_897) (fun x403 h402 => ?_)
                                                refine ct_aload_n (k := 2) S dL_law_900 rfl rfl ?_
                                                refine ct_aload_n (k := 0) S dL_law_901 rfl rfl ?_
                                                refine ct_iload (k := 4) S dL_law_902 rfl ?_
                                                refine ct_iconst (v := 1) S dL_law_904 kI_1 ?_
                                                refine ct_iadd S dL_law_905 ?_
                                                refine ct_iald S dL_law_906 (fun x404 => ?_)
                                                refine ct_rc (fun b405 ci406 V407 hb408 hc409 hi410 => ?_)
                                                refine ct_cI (st := [cz_i x403]) (cg_virtual (av := [cz_i x404]) S hb408 hc409 hi410 (fun _ e => mt_X5_bribes e) md_X5_bribes q2346 q2347 se_HeldCoatsModel_bribes__I_I_HeldCoatsModel (by decide) (Nat.le_of_ble_eq_true rfl) rfl dL_law_907) (fun x412 h411 => ?_)
                                                refine ct_icmp_eq (tgt := 1403) S dL_law_910 (by decide) ?_ ?_
                                                · refine ct_iincL (j := 4) (L2 := fun x413 => [(4, cz_i x413), (0, cz_r l0), (1, cz_r l1), (2, cz_r l2), (3, cz_r l3)]) S dL_law_1403 rfl kI_6 (by decide) (fun _ => rfl) (fun x413 => ?_)
                                                  refine ct_goto (tgt := 23) S dL_law_1406 (by decide) ?_
                                                  exact ct_sub [1, 2, 3, 4, 0] rfl (ih x413 h411)
                                                · exact ct_sub [] rfl (hk22 h411)
                                              · refine ct_case ?_ (fun c21_ => ?_)
                                                · refine ct_tableIn (tgt := 915) S dL_law_40 (by decide) (by decide) rfl (by decide) ?_
                                                  refine ct_aload_n (k := 1) S dL_law_915 rfl rfl ?_
                                                  refine ct_aload_n (k := 0) S dL_law_916 rfl rfl ?_
                                                  refine ct_iload (k := 4) S dL_law_917 rfl ?_
                                                  refine ct_iconst (v := 1) S dL_law_919 kI_1 ?_
                                                  refine ct_iadd S dL_law_920 ?_
                                                  refine ct_iald S dL_law_921 (fun x374 => ?_)
                                                  refine ct_aload_n (k := 0) S dL_law_922 rfl rfl ?_
                                                  refine ct_iload (k := 4) S dL_law_923 rfl ?_
                                                  refine ct_iconst (v := 2) S dL_law_925 kI_2 ?_
                                                  refine ct_iadd S dL_law_926 ?_
                                                  refine ct_iald S dL_law_927 (fun x375 => ?_)
                                                  refine ct_rc (fun b376 ci377 V378 hb379 hc380 hi381 => ?_)
                                                  refine ct_cI (st := []) (cg_virtual (av := [cz_i x374, cz_i x375]) S hb379 hc380 hi381 (fun _ e => mt_X1_frost e) md_X1_frost q1428 q1429 se_HeldCoats_frost__II_I_HeldCoats (by decide) (Nat.le_of_ble_eq_true rfl) rfl dL_law_928) (fun x383 h382 => ?_)
                                                  refine ct_aload_n (k := 2) S dL_law_931 rfl rfl ?_
                                                  refine ct_aload_n (k := 0) S dL_law_932 rfl rfl ?_
                                                  refine ct_iload (k := 4) S dL_law_933 rfl ?_
                                                  refine ct_iconst (v := 1) S dL_law_935 kI_1 ?_
                                                  refine ct_iadd S dL_law_936 ?_
                                                  refine ct_iald S dL_law_937 (fun x384 => ?_)
                                                  refine ct_aload_n (k := 0) S dL_law_938 rfl rfl ?_
                                                  refine ct_iload (k := 4) S dL_law_939 rfl ?_
                                                  refine ct_iconst (v := 2) S dL_law_941 kI_2 ?_
                                                  refine ct_iadd S dL_law_942 ?_
                                                  refine ct_iald S dL_law_943 (fun x385 => ?_)
                                                  refine ct_rc (fun b386 ci387 V388 hb389 hc390 hi391 => ?_)
                                                  refine ct_cI (st := [cz_i x383]) (cg_virtual (av := [cz_i x384, cz_i x385]) S hb389 hc390 hi391 (fun _ e => mt_X5_frost e) md_X5_frost q2350 q2351 se_HeldCoatsModel_frost__II_I_HeldCoatsModel (by decide) (Nat.le_of_ble_eq_true rfl) rfl dL_law_944) (fun x393 h392 => ?_)
                                                  refine ct_icmp_eq (tgt := 1403) S dL_law_947 (by decide) ?_ ?_
                                                  · refine ct_iincL (j := 4) (L2 := fun x394 => [(4, cz_i x394), (0, cz_r l0), (1, cz_r l1), (2, cz_r l2), (3, cz_r l3)]) S dL_law_1403 rfl kI_6 (by decide) (fun _ => rfl) (fun x394 => ?_)
                                                    refine ct_goto (tgt := 23) S dL_law_1406 (by decide) ?_
                                                    exact ct_sub [1, 2, 3, 4, 0] rfl (ih x394 h392)
                                                  · exact ct_sub [] rfl (hk23 h392)
                                                · refine ct_case ?_ (fun c22_ => ?_)
                                                  · refine ct_tableIn (tgt := 952) S dL_law_40 (by decide) (by decide) rfl (by decide) ?_
                                                    refine ct_aload_n (k := 1) S dL_law_952 rfl rfl ?_
                                                    refine ct_aload_n (k := 0) S dL_law_953 rfl rfl ?_
                                                    refine ct_iload (k := 4) S dL_law_954 rfl ?_
                                                    refine ct_iconst (v := 1) S dL_law_956 kI_1 ?_
                                                    refine ct_iadd S dL_law_957 ?_
                                                    refine ct_iald S dL_law_958 (fun x353 => ?_)
                                                    refine ct_aload_n (k := 0) S dL_law_959 rfl rfl ?_
                                                    refine ct_iload (k := 4) S dL_law_960 rfl ?_
                                                    refine ct_iconst (v := 2) S dL_law_962 kI_2 ?_
                                                    refine ct_iadd S dL_law_963 ?_
                                                    refine ct_iald S dL_law_964 (fun x354 => ?_)
                                                    refine ct_rc (fun b355 ci356 V357 hb358 hc359 hi360 => ?_)
                                                    refine ct_cI (st := []) (cg_virtual (av := [cz_i x353, cz_i x354]) S hb358 hc359 hi360 (fun _ e => mt_X1_frostAt e) md_X1_frostAt q1436 q1437 se_HeldCoats_frostAt__II_I_HeldCoats (by decide) (Nat.le_of_ble_eq_true rfl) rfl dL_law_965) (fun x362 h361 => ?_)
                                                    refine ct_aload_n (k := 2) S dL_law_968 rfl rfl ?_
                                                    refine ct_aload_n (k := 0) S dL_law_969 rfl rfl ?_
                                                    refine ct_iload (k := 4) S dL_law_970 rfl ?_
                                                    refine ct_iconst (v := 1) S dL_law_972 kI_1 ?_
                                                    refine ct_iadd S dL_law_973 ?_
                                                    refine ct_iald S dL_law_974 (fun x363 => ?_)
                                                    refine ct_aload_n (k := 0) S dL_law_975 rfl rfl ?_
                                                    refine ct_iload (k := 4) S dL_law_976 rfl ?_
                                                    refine ct_iconst (v := 2) S dL_law_978 kI_2 ?_
                                                    refine ct_iadd S dL_law_979 ?_
                                                    refine ct_iald S dL_law_980 (fun x364 => ?_)
                                                    refine ct_rc (fun b365 ci366 V367 hb368 hc369 hi370 => ?_)
                                                    refine ct_cI (st := [cz_i x362]) (cg_virtual (av := [cz_i x363, cz_i x364]) S hb368 hc369 hi370 (fun _ e => mt_X5_frostAt e) md_X5_frostAt q2362 q2363 se_HeldCoatsModel_frostAt__II_I_HeldCoatsModel (by decide) (Nat.le_of_ble_eq_true rfl) rfl dL_law_981) (fun x372 h371 => ?_)
                                                    refine ct_icmp_eq (tgt := 1403) S dL_law_984 (by decide) ?_ ?_
                                                    · refine ct_iincL (j := 4) (L2 := fun x373 => [(4, cz_i x373), (0, cz_r l0), (1, cz_r l1), (2, cz_r l2), (3, cz_r l3)]) S dL_law_1403 rfl kI_6 (by decide) (fun _ => rfl) (fun x373 => ?_)
                                                      refine ct_goto (tgt := 23) S dL_law_1406 (by decide) ?_
                                                      exact ct_sub [1, 2, 3, 4, 0] rfl (ih x373 h371)
                                                    · exact ct_sub [] rfl (hk24 h371)
                                                  · refine ct_case ?_ (fun c23_ => ?_)
                                                    · refine ct_tableIn (tgt := 989) S dL_law_40 (by decide) (by decide) rfl (by decide) ?_
                                                      refine ct_aload_n (k := 1) S dL_law_989 rfl rfl ?_
                                                      refine ct_aload_n (k := 0) S dL_law_990 rfl rfl ?_
                                                      refine ct_iload (k := 4) S dL_law_991 rfl ?_
                                                      refine ct_iconst (v := 1) S dL_law_993 kI_1 ?_
                                                      refine ct_iadd S dL_law_994 ?_
                                                      refine ct_iald S dL_law_995 (fun x334 => ?_)
                                                      refine ct_rc (fun b335 ci336 V337 hb338 hc339 hi340 => ?_)
                                                      refine ct_cI (st := []) (cg_virtual (av := [cz_i x334]) S hb338 hc339 hi340 (fun _ e => mt_X1_word e) md_X1_word q1440 q1441 se_HeldCoats_word__I_I_HeldCoats (by decide) (Nat.le_of_ble_eq_true rfl) rfl dL_law_996) (fun x342 h341 => ?_)
                                                      refine ct_aload_n (k := 2) S dL_law_999 rfl rfl ?_
                                                      refine ct_aload_n (k := 0) S dL_law_1000 rfl rfl ?_
                                                      refine ct_iload (k := 4) S dL_law_1001 rfl ?_
                                                      refine ct_iconst (v := 1) S dL_law_1003 kI_1 ?_
                                                      refine ct_iadd S dL_law_1004 ?_
                                                      refine ct_iald S dL_law_1005 (fun x343 => ?_)
                                                      refine ct_rc (fun b344 ci345 V346 hb347 hc348 hi349 => ?_)
                                                      refine ct_cI (st := [cz_i x342]) (cg_virtual (av := [cz_i x343]) S hb347 hc348 hi349 (fun _ e => mt_X5_word e) md_X5_word q2366 q2367 se_HeldCoatsModel_word__I_I_HeldCoatsModel (by decide) (Nat.le_of_ble_eq_true rfl) rfl dL_law_1006) (fun x351 h350 => ?_)
                                                      refine ct_icmp_eq (tgt := 1403) S dL_law_1009 (by decide) ?_ ?_
                                                      · refine ct_iincL (j := 4) (L2 := fun x352 => [(4, cz_i x352), (0, cz_r l0), (1, cz_r l1), (2, cz_r l2), (3, cz_r l3)]) S dL_law_1403 rfl kI_6 (by decide) (fun _ => rfl) (fun x352 => ?_)
                                                        refine ct_goto (tgt := 23) S dL_law_1406 (by decide) ?_
                                                        exact ct_sub [1, 2, 3, 4, 0] rfl (ih x352 h350)
                                                      · exact ct_sub [] rfl (hk25 h350)
                                                    · refine ct_case ?_ (fun c24_ => ?_)
                                                      · refine ct_tableIn (tgt := 1014) S dL_law_40 (by decide) (by decide) rfl (by decide) ?_
                                                        refine ct_aload_n (k := 1) S dL_law_1014 rfl rfl ?_
                                                        refine ct_rc (fun b317 ci318 V319 hb320 hc321 hi322 => ?_)
                                                        refine ct_cI (st := []) (cg_virtual (av := []) S hb320 hc321 hi322 (fun _ e => mt_X1_bare e) md_X1_bare q1445 q1446 se_HeldCoats_bare___I_HeldCoats (by decide) (Nat.le_of_ble_eq_true rfl) rfl dL_law_1015) (fun x324 h323 => ?_)
                                                        refine ct_aload_n (k := 2) S dL_law_1018 rfl rfl ?_
                                                        refine ct_rc (fun b325 ci326 V327 hb328 hc329 hi330 => ?_)
                                                        refine ct_cI (st := [cz_i x324]) (cg_virtual (av := []) S hb328 hc329 hi330 (fun _ e => mt_X5_bare e) md_X5_bare q2378 q2379 se_HeldCoatsModel_bare___I_HeldCoatsModel (by decide) (Nat.le_of_ble_eq_true rfl) rfl dL_law_1019) (fun x332 h331 => ?_)
                                                        refine ct_icmp_eq (tgt := 1403) S dL_law_1022 (by decide) ?_ ?_
                                                        · refine ct_iincL (j := 4) (L2 := fun x333 => [(4, cz_i x333), (0, cz_r l0), (1, cz_r l1), (2, cz_r l2), (3, cz_r l3)]) S dL_law_1403 rfl kI_6 (by decide) (fun _ => rfl) (fun x333 => ?_)
                                                          refine ct_goto (tgt := 23) S dL_law_1406 (by decide) ?_
                                                          exact ct_sub [1, 2, 3, 4, 0] rfl (ih x333 h331)
                                                        · exact ct_sub [] rfl (hk26 h331)
                                                      · refine ct_case ?_ (fun c25_ => ?_)
                                                        · refine ct_tableIn (tgt := 1027) S dL_law_40 (by decide) (by decide) rfl (by decide) ?_
                                                          refine ct_aload_n (k := 1) S dL_law_1027 rfl rfl ?_
                                                          refine ct_aload_n (k := 0) S dL_law_1028 rfl rfl ?_
                                                          refine ct_iload (k := 4) S dL_law_1029 rfl ?_
                                                          refine ct_iconst (v := 1) S dL_law_1031 kI_1 ?_
                                                          refine ct_iadd S dL_law_1032 ?_
                                                          refine ct_iald S dL_law_1033 (fun x298 => ?_)
                                                          refine ct_rc (fun b299 ci300 V301 hb302 hc303 hi304 => ?_)
                                                          refine ct_cI (st := []) (cg_virtual (av := [cz_i x298]) S hb302 hc303 hi304 (fun _ e => mt_X1_rules e) md_X1_rules q1453 q1454 se_HeldCoats_rules__I_I_HeldCoats (by decide) (Nat.le_of_ble_eq_true rfl) rfl dL_law_1034) (fun x306 h305 => ?_)
                                                          refine ct_aload_n (k := 2) S dL_law_1037 rfl rfl ?_
                                                          refine ct_aload_n (k := 0) S dL_law_1038 rfl rfl ?_
                                                          refine ct_iload (k := 4) S dL_law_1039 rfl ?_
                                                          refine ct_iconst (v := 1) S dL_law_1041 kI_1 ?_
                                                          refine ct_iadd S dL_law_1042 ?_
                                                          refine ct_iald S dL_law_1043 (fun x307 => ?_)
                                                          refine ct_rc (fun b308 ci309 V310 hb311 hc312 hi313 => ?_)
                                                          refine ct_cI (st := [cz_i x306]) (cg_virtual (av := [cz_i x307]) S hb311 hc312 hi313 (fun _ e => mt_X5_rules e) md_X5_rules q2386 q2387 se_HeldCoatsModel_rules__I_I_HeldCoatsModel (by decide) (Nat.le_of_ble_eq_true rfl) rfl dL_law_1044) (fun x315 h314 => ?_)
                                                          refine ct_icmp_eq (tgt := 1403) S dL_law_1047 (by decide) ?_ ?_
                                                          · refine ct_iincL (j := 4) (L2 := fun x316 => [(4, cz_i x316), (0, cz_r l0), (1, cz_r l1), (2, cz_r l2), (3, cz_r l3)]) S dL_law_1403 rfl kI_6 (by decide) (fun _ => rfl) (fun x316 => ?_)
                                                            refine ct_goto (tgt := 23) S dL_law_1406 (by decide) ?_
                                                            exact ct_sub [1, 2, 3, 4, 0] rfl (ih x316 h314)
                                                          · exact ct_sub [] rfl (hk27 h314)
                                                        · refine ct_case ?_ (fun c26_ => ?_)
                                                          · refine ct_tableIn (tgt := 1052) S dL_law_40 (by decide) (by decide) rfl (by decide) ?_
                                                            refine ct_aload_n (k := 1) S dL_law_1052 rfl rfl ?_
                                                            refine ct_aload_n (k := 0) S dL_law_1053 rfl rfl ?_
                                                            refine ct_iload (k := 4) S dL_law_1054 rfl ?_
                                                            refine ct_iconst (v := 1) S dL_law_1056 kI_1 ?_
                                                            refine ct_iadd S dL_law_1057 ?_
                                                            refine ct_iald S dL_law_1058 (fun x277 => ?_)
                                                            refine ct_aload_n (k := 0) S dL_law_1059 rfl rfl ?_
                                                            refine ct_iload (k := 4) S dL_law_1060 rfl ?_
                                                            refine ct_iconst (v := 2) S dL_law_1062 kI_2 ?_
                                                            refine ct_iadd S dL_law_1063 ?_
                                                            refine ct_iald S dL_law_1064 (fun x278 => ?_)
                                                            refine ct_rc (fun b279 ci280 V281 hb282 hc283 hi284 => ?_)
                                                            refine ct_cI (st := []) (cg_virtual (av := [cz_i x277, cz_i x278]) S hb282 hc283 hi284 (fun _ e => mt_X1_harm e) md_X1_harm q1457 q1458 se_HeldCoats_harm__II_I_HeldCoats (by decide) (Nat.le_of_ble_eq_true rfl) rfl dL_law_1065) (fun x286 h285 => ?_)
                                                            refine ct_aload_n (k := 2) S dL_law_1068 rfl rfl ?_
                                                            refine ct_aload_n (k := 0) S dL_law_1069 rfl rfl ?_
                                                            refine ct_iload (k := 4) S dL_law_1070 rfl ?_
                                                            refine ct_iconst (v := 1) S dL_law_1072 kI_1 ?_
                                                            refine ct_iadd S dL_law_1073 ?_
                                                            refine ct_iald S dL_law_1074 (fun x287 => ?_)
                                                            refine ct_aload_n (k := 0) S dL_law_1075 rfl rfl ?_
                                                            refine ct_iload (k := 4) S dL_law_1076 rfl ?_
                                                            refine ct_iconst (v := 2) S dL_law_1078 kI_2 ?_
                                                            refine ct_iadd S dL_law_1079 ?_
                                                            refine ct_iald S dL_law_1080 (fun x288 => ?_)
                                                            refine ct_rc (fun b289 ci290 V291 hb292 hc293 hi294 => ?_)
                                                            refine ct_cI (st := [cz_i x286]) (cg_virtual (av := [cz_i x287, cz_i x288]) S hb292 hc293 hi294 (fun _ e => mt_X5_harm e) md_X5_harm q2390 q2391 se_HeldCoatsModel_harm__II_I_HeldCoatsModel (by decide) (Nat.le_of_ble_eq_true rfl) rfl dL_law_1081) (fun x296 h295 => ?_)
                                                            refine ct_icmp_eq (tgt := 1403) S dL_law_1084 (by decide) ?_ ?_
                                                            · refine ct_iincL (j := 4) (L2 := fun x297 => [(4, cz_i x297), (0, cz_r l0), (1, cz_r l1), (2, cz_r l2), (3, cz_r l3)]) S dL_law_1403 rfl kI_6 (by decide) (fun _ => rfl) (fun x297 => ?_)
                                                              refine ct_goto (tgt := 23) S dL_law_1406 (by decide) ?_
                                                              exact ct_sub [1, 2, 3, 4, 0] rfl (ih x297 h295)
                                                            · exact ct_sub [] rfl (hk28 h295)
                                                          · refine ct_case ?_ (fun c27_ => ?_)
                                                            · refine ct_tableIn (tgt := 1089) S dL_law_40 (by decide) (by decide) rfl (by decide) ?_
                                                              refine ct_aload_n (k := 1) S dL_law_1089 rfl rfl ?_
                                                              refine ct_rc (fun b260 ci261 V262 hb263 hc264 hi265 => ?_)
                                                              refine ct_cI (st := []) (cg_virtual (av := []) S hb263 hc264 hi265 (fun _ e => mt_X1_hooks e) md_X1_hooks q1461 q1462 se_HeldCoats_hooks___I_HeldCoats (by decide) (Nat.le_of_ble_eq_true rfl) rfl dL_law_1090) (fun x267 h266 => ?_)
                                                              refine ct_aload_n (k := 2) S dL_law_1093 rfl rfl ?_
                                                              refine ct_rc (fun b268 ci269 V270 hb271 hc272 hi273 => ?_)
                                                              refine ct_cI (st := [cz_i x267]) (cg_virtual (av := []) S hb271 hc272 hi273 (fun _ e => mt_X5_hooks e) md_X5_hooks q2394 q2395 se_HeldCoatsModel_hooks___I_HeldCoatsModel (by decide) (Nat.le_of_ble_eq_true rfl) rfl dL_law_1094) (fun x275 h274 => ?_)
                                                              refine ct_icmp_eq (tgt := 1403) S dL_law_1097 (by decide) ?_ ?_
                                                              · refine ct_iincL (j := 4) (L2 := fun x276 => [(4, cz_i x276), (0, cz_r l0), (1, cz_r l1), (2, cz_r l2), (3, cz_r l3)]) S dL_law_1403 rfl kI_6 (by decide) (fun _ => rfl) (fun x276 => ?_)
                                                                refine ct_goto (tgt := 23) S dL_law_1406 (by decide) ?_
                                                                exact ct_sub [1, 2, 3, 4, 0] rfl (ih x276 h274)
                                                              · exact ct_sub [] rfl (hk29 h274)
                                                            · refine ct_case ?_ (fun c28_ => ?_)
                                                              · refine ct_tableIn (tgt := 1102) S dL_law_40 (by decide) (by decide) rfl (by decide) ?_
                                                                refine ct_aload_n (k := 1) S dL_law_1102 rfl rfl ?_
                                                                refine ct_rc (fun b243 ci244 V245 hb246 hc247 hi248 => ?_)
                                                                refine ct_cI (st := []) (cg_virtual (av := []) S hb246 hc247 hi248 (fun _ e => mt_X1_surely e) md_X1_surely q1474 q1475 se_HeldCoats_surely___I_HeldCoats (by decide) (Nat.le_of_ble_eq_true rfl) rfl dL_law_1103) (fun x250 h249 => ?_)
                                                                refine ct_aload_n (k := 2) S dL_law_1106 rfl rfl ?_
                                                                refine ct_rc (fun b251 ci252 V253 hb254 hc255 hi256 => ?_)
                                                                refine ct_cI (st := [cz_i x250]) (cg_virtual (av := []) S hb254 hc255 hi256 (fun _ e => mt_X5_surely e) md_X5_surely q2402 q2403 se_HeldCoatsModel_surely___I_HeldCoatsModel (by decide) (Nat.le_of_ble_eq_true rfl) rfl dL_law_1107) (fun x258 h257 => ?_)
                                                                refine ct_icmp_eq (tgt := 1403) S dL_law_1110 (by decide) ?_ ?_
                                                                · refine ct_iincL (j := 4) (L2 := fun x259 => [(4, cz_i x259), (0, cz_r l0), (1, cz_r l1), (2, cz_r l2), (3, cz_r l3)]) S dL_law_1403 rfl kI_6 (by decide) (fun _ => rfl) (fun x259 => ?_)
                                                                  refine ct_goto (tgt := 23) S dL_law_1406 (by decide) ?_
                                                                  exact ct_sub [1, 2, 3, 4, 0] rfl (ih x259 h257)
                                                                · exact ct_sub [] rfl (hk30 h257)
                                                              · refine ct_case ?_ (fun c29_ => ?_)
                                                                · refine ct_tableIn (tgt := 1115) S dL_law_40 (by decide) (by decide) rfl (by decide) ?_
                                                                  refine ct_aload_n (k := 1) S dL_law_1115 rfl rfl ?_
                                                                  refine ct_rc (fun b226 ci227 V228 hb229 hc230 hi231 => ?_)
                                                                  refine ct_cI (st := []) (cg_virtual (av := []) S hb229 hc230 hi231 (fun _ e => mt_X1_never e) md_X1_never q1478 q1479 se_HeldCoats_never___I_HeldCoats (by decide) (Nat.le_of_ble_eq_true rfl) rfl dL_law_1116) (fun x233 h232 => ?_)
                                                                  refine ct_aload_n (k := 2) S dL_law_1119 rfl rfl ?_
                                                                  refine ct_rc (fun b234 ci235 V236 hb237 hc238 hi239 => ?_)
                                                                  refine ct_cI (st := [cz_i x233]) (cg_virtual (av := []) S hb237 hc238 hi239 (fun _ e => mt_X5_never e) md_X5_never q2406 q2407 se_HeldCoatsModel_never___I_HeldCoatsModel (by decide) (Nat.le_of_ble_eq_true rfl) rfl dL_law_1120) (fun x241 h240 => ?_)
                                                                  refine ct_icmp_eq (tgt := 1403) S dL_law_1123 (by decide) ?_ ?_
                                                                  · refine ct_iincL (j := 4) (L2 := fun x242 => [(4, cz_i x242), (0, cz_r l0), (1, cz_r l1), (2, cz_r l2), (3, cz_r l3)]) S dL_law_1403 rfl kI_6 (by decide) (fun _ => rfl) (fun x242 => ?_)
                                                                    refine ct_goto (tgt := 23) S dL_law_1406 (by decide) ?_
                                                                    exact ct_sub [1, 2, 3, 4, 0] rfl (ih x242 h240)
                                                                  · exact ct_sub [] rfl (hk31 h240)
                                                                · refine ct_case ?_ (fun c30_ => ?_)
                                                                  · refine ct_tableIn (tgt := 1128) S dL_law_40 (by decide) (by decide) rfl (by decide) ?_
                                                                    refine ct_aload_n (k := 1) S dL_law_1128 rfl rfl ?_
                                                                    refine ct_rc (fun b209 ci210 V211 hb212 hc213 hi214 => ?_)
                                                                    refine ct_cI (st := []) (cg_virtual (av := []) S hb212 hc213 hi214 (fun _ e => mt_X1_rounds e) md_X1_rounds q1482 q1483 se_HeldCoats_rounds___I_HeldCoats (by decide) (Nat.le_of_ble_eq_true rfl) rfl dL_law_1129) (fun x216 h215 => ?_)
                                                                    refine ct_aload_n (k := 2) S dL_law_1132 rfl rfl ?_
                                                                    refine ct_rc (fun b217 ci218 V219 hb220 hc221 hi222 => ?_)
                                                                    refine ct_cI (st := [cz_i x216]) (cg_virtual (av := []) S hb220 hc221 hi222 (fun _ e => mt_X5_rounds e) md_X5_rounds q2410 q2411 se_HeldCoatsModel_rounds___I_HeldCoatsModel (by decide) (Nat.le_of_ble_eq_true rfl) rfl dL_law_1133) (fun x224 h223 => ?_)
                                                                    refine ct_icmp_eq (tgt := 1403) S dL_law_1136 (by decide) ?_ ?_
                                                                    · refine ct_iincL (j := 4) (L2 := fun x225 => [(4, cz_i x225), (0, cz_r l0), (1, cz_r l1), (2, cz_r l2), (3, cz_r l3)]) S dL_law_1403 rfl kI_6 (by decide) (fun _ => rfl) (fun x225 => ?_)
                                                                      refine ct_goto (tgt := 23) S dL_law_1406 (by decide) ?_
                                                                      exact ct_sub [1, 2, 3, 4, 0] rfl (ih x225 h223)
                                                                    · exact ct_sub [] rfl (hk32 h223)
                                                                  · refine ct_case ?_ (fun c31_ => ?_)
                                                                    · refine ct_tableIn (tgt := 1141) S dL_law_40 (by decide) (by decide) rfl (by decide) ?_
                                                                      refine ct_aload_n (k := 1) S dL_law_1141 rfl rfl ?_
                                                                      refine ct_rc (fun b192 ci193 V194 hb195 hc196 hi197 => ?_)
                                                                      refine ct_cI (st := []) (cg_virtual (av := []) S hb195 hc196 hi197 (fun _ e => mt_X1_price e) md_X1_price q1490 q1491 se_HeldCoats_price___I_HeldCoats (by decide) (Nat.le_of_ble_eq_true rfl) rfl dL_law_1142) (fun x199 h198 => ?_)
                                                                      refine ct_aload_n (k := 2) S dL_law_1145 rfl rfl ?_
                                                                      refine ct_rc (fun b200 ci201 V202 hb203 hc204 hi205 => ?_)
                                                                      refine ct_cI (st := [cz_i x199]) (cg_virtual (av := []) S hb203 hc204 hi205 (fun _ e => mt_X5_price e) md_X5_price q2414 q2415 se_HeldCoatsModel_price___I_HeldCoatsModel (by decide) (Nat.le_of_ble_eq_true rfl) rfl dL_law_1146) (fun x207 h206 => ?_)
                                                                      refine ct_icmp_eq (tgt := 1403) S dL_law_1149 (by decide) ?_ ?_
                                                                      · refine ct_iincL (j := 4) (L2 := fun x208 => [(4, cz_i x208), (0, cz_r l0), (1, cz_r l1), (2, cz_r l2), (3, cz_r l3)]) S dL_law_1403 rfl kI_6 (by decide) (fun _ => rfl) (fun x208 => ?_)
                                                                        refine ct_goto (tgt := 23) S dL_law_1406 (by decide) ?_
                                                                        exact ct_sub [1, 2, 3, 4, 0] rfl (ih x208 h206)
                                                                      · exact ct_sub [] rfl (hk33 h206)
                                                                    · refine ct_case ?_ (fun c32_ => ?_)
                                                                      · refine ct_tableIn (tgt := 1154) S dL_law_40 (by decide) (by decide) rfl (by decide) ?_
                                                                        refine ct_aload_n (k := 1) S dL_law_1154 rfl rfl ?_
                                                                        refine ct_aload_n (k := 0) S dL_law_1155 rfl rfl ?_
                                                                        refine ct_iload (k := 4) S dL_law_1156 rfl ?_
                                                                        refine ct_iconst (v := 1) S dL_law_1158 kI_1 ?_
                                                                        refine ct_iadd S dL_law_1159 ?_
                                                                        refine ct_iald S dL_law_1160 (fun x171 => ?_)
                                                                        refine ct_aload_n (k := 0) S dL_law_1161 rfl rfl ?_
                                                                        refine ct_iload (k := 4) S dL_law_1162 rfl ?_
                                                                        refine ct_iconst (v := 2) S dL_law_1164 kI_2 ?_
                                                                        refine ct_iadd S dL_law_1165 ?_
                                                                        refine ct_iald S dL_law_1166 (fun x172 => ?_)
                                                                        refine ct_rc (fun b173 ci174 V175 hb176 hc177 hi178 => ?_)
                                                                        refine ct_cI (st := []) (cg_virtual (av := [cz_i x171, cz_i x172]) S hb176 hc177 hi178 (fun _ e => mt_X1_drawn e) md_X1_drawn q1494 q1495 se_HeldCoats_drawn__II_I_HeldCoats (by decide) (Nat.le_of_ble_eq_true rfl) rfl dL_law_1167) (fun x180 h179 => ?_)
                                                                        refine ct_aload_n (k := 2) S dL_law_1170 rfl rfl ?_
                                                                        refine ct_aload_n (k := 0) S dL_law_1171 rfl rfl ?_
                                                                        refine ct_iload (k := 4) S dL_law_1172 rfl ?_
                                                                        refine ct_iconst (v := 1) S dL_law_1174 kI_1 ?_
                                                                        refine ct_iadd S dL_law_1175 ?_
                                                                        refine ct_iald S dL_law_1176 (fun x181 => ?_)
                                                                        refine ct_aload_n (k := 0) S dL_law_1177 rfl rfl ?_
                                                                        refine ct_iload (k := 4) S dL_law_1178 rfl ?_
                                                                        refine ct_iconst (v := 2) S dL_law_1180 kI_2 ?_
                                                                        refine ct_iadd S dL_law_1181 ?_
                                                                        refine ct_iald S dL_law_1182 (fun x182 => ?_)
                                                                        refine ct_rc (fun b183 ci184 V185 hb186 hc187 hi188 => ?_)
                                                                        refine ct_cI (st := [cz_i x180]) (cg_virtual (av := [cz_i x181, cz_i x182]) S hb186 hc187 hi188 (fun _ e => mt_X5_drawn e) md_X5_drawn q2418 q2419 se_HeldCoatsModel_drawn__II_I_HeldCoatsModel (by decide) (Nat.le_of_ble_eq_true rfl) rfl dL_law_1183) (fun x190 h189 => ?_)
                                                                        refine ct_icmp_eq (tgt := 1403) S dL_law_1186 (by decide) ?_ ?_
                                                                        · refine ct_iincL (j := 4) (L2 := fun x191 => [(4, cz_i x191), (0, cz_r l0), (1, cz_r l1), (2, cz_r l2), (3, cz_r l3)]) S dL_law_1403 rfl kI_6 (by decide) (fun _ => rfl) (fun x191 => ?_)
                                                                          refine ct_goto (tgt := 23) S dL_law_1406 (by decide) ?_
                                                                          exact ct_sub [1, 2, 3, 4, 0] rfl (ih x191 h189)
                                                                        · exact ct_sub [] rfl (hk34 h189)
                                                                      · refine ct_case ?_ (fun c33_ => ?_)
                                                                        · refine ct_tableIn (tgt := 1191) S dL_law_40 (by decide) (by decide) rfl (by decide) ?_
                                                                          refine ct_aload_n (k := 1) S dL_law_1191 rfl rfl ?_
                                                                          refine ct_aload_n (k := 0) S dL_law_1192 rfl rfl ?_
                                                                          refine ct_iload (k := 4) S dL_law_1193 rfl ?_
                                                                          refine ct_iconst (v := 1) S dL_law_1195 kI_1 ?_
                                                                          refine ct_iadd S dL_law_1196 ?_
                                                                          refine ct_iald S dL_law_1197 (fun x148 => ?_)
                                                                          refine ct_aload_n (k := 0) S dL_law_1198 rfl rfl ?_
                                                                          refine ct_iload (k := 4) S dL_law_1199 rfl ?_
                                                                          refine ct_iconst (v := 2) S dL_law_1201 kI_2 ?_
                                                                          refine ct_iadd S dL_law_1202 ?_
                                                                          refine ct_iald S dL_law_1203 (fun x149 => ?_)
                                                                          refine ct_aload_n (k := 0) S dL_law_1204 rfl rfl ?_
                                                                          refine ct_iload (k := 4) S dL_law_1205 rfl ?_
                                                                          refine ct_iconst (v := 3) S dL_law_1207 kI_3 ?_
                                                                          refine ct_iadd S dL_law_1208 ?_
                                                                          refine ct_iald S dL_law_1209 (fun x150 => ?_)
                                                                          refine ct_rc (fun b151 ci152 V153 hb154 hc155 hi156 => ?_)
                                                                          refine ct_cI (st := []) (cg_virtual (av := [cz_i x148, cz_i x149, cz_i x150]) S hb154 hc155 hi156 (fun _ e => mt_X1_odds e) md_X1_odds q1516 q1517 se_HeldCoats_odds__III_I_HeldCoats (by decide) (Nat.le_of_ble_eq_true rfl) rfl dL_law_1210) (fun x158 h157 => ?_)
                                                                          refine ct_aload_n (k := 2) S dL_law_1213 rfl rfl ?_
                                                                          refine ct_aload_n (k := 0) S dL_law_1214 rfl rfl ?_
                                                                          refine ct_iload (k := 4) S dL_law_1215 rfl ?_
                                                                          refine ct_iconst (v := 1) S dL_law_1217 kI_1 ?_
                                                                          refine ct_iadd S dL_law_1218 ?_
                                                                          refine ct_iald S dL_law_1219 (fun x159 => ?_)
                                                                          refine ct_aload_n (k := 0) S dL_law_1220 rfl rfl ?_
                                                                          refine ct_iload (k := 4) S dL_law_1221 rfl ?_
                                                                          refine ct_iconst (v := 2) S dL_law_1223 kI_2 ?_
                                                                          refine ct_iadd S dL_law_1224 ?_
                                                                          refine ct_iald S dL_law_1225 (fun x160 => ?_)
                                                                          refine ct_aload_n (k := 0) S dL_law_1226 rfl rfl ?_
                                                                          refine ct_iload (k := 4) S dL_law_1227 rfl ?_
                                                                          refine ct_iconst (v := 3) S dL_law_1229 kI_3 ?_
                                                                          refine ct_iadd S dL_law_1230 ?_
                                                                          refine ct_iald S dL_law_1231 (fun x161 => ?_)
                                                                          refine ct_rc (fun b162 ci163 V164 hb165 hc166 hi167 => ?_)
                                                                          refine ct_cI (st := [cz_i x158]) (cg_virtual (av := [cz_i x159, cz_i x160, cz_i x161]) S hb165 hc166 hi167 (fun _ e => mt_X5_odds e) md_X5_odds q2435 q2436 se_HeldCoatsModel_odds__III_I_HeldCoatsModel (by decide) (Nat.le_of_ble_eq_true rfl) rfl dL_law_1232) (fun x169 h168 => ?_)
                                                                          refine ct_icmp_eq (tgt := 1403) S dL_law_1235 (by decide) ?_ ?_
                                                                          · refine ct_iincL (j := 4) (L2 := fun x170 => [(4, cz_i x170), (0, cz_r l0), (1, cz_r l1), (2, cz_r l2), (3, cz_r l3)]) S dL_law_1403 rfl kI_6 (by decide) (fun _ => rfl) (fun x170 => ?_)
                                                                            refine ct_goto (tgt := 23) S dL_law_1406 (by decide) ?_
                                                                            exact ct_sub [1, 2, 3, 4, 0] rfl (ih x170 h168)
                                                                          · exact ct_sub [] rfl (hk35 h168)
                                                                        · refine ct_case ?_ (fun c34_ => ?_)
                                                                          · refine ct_tableIn (tgt := 1240) S dL_law_40 (by decide) (by decide) rfl (by decide) ?_
                                                                            refine ct_aload_n (k := 1) S dL_law_1240 rfl rfl ?_
                                                                            refine ct_aload_n (k := 0) S dL_law_1241 rfl rfl ?_
                                                                            refine ct_iload (k := 4) S dL_law_1242 rfl ?_
                                                                            refine ct_iconst (v := 1) S dL_law_1244 kI_1 ?_
                                                                            refine ct_iadd S dL_law_1245 ?_
                                                                            refine ct_iald S dL_law_1246 (fun x129 => ?_)
                                                                            refine ct_rc (fun b130 ci131 V132 hb133 hc134 hi135 => ?_)
                                                                            refine ct_cI (st := []) (cg_virtual (av := [cz_i x129]) S hb133 hc134 hi135 (fun _ e => mt_X1_book e) md_X1_book q1520 q1521 se_HeldCoats_book__I_I_HeldCoats (by decide) (Nat.le_of_ble_eq_true rfl) rfl dL_law_1247) (fun x137 h136 => ?_)
                                                                            refine ct_aload_n (k := 2) S dL_law_1250 rfl rfl ?_
                                                                            refine ct_aload_n (k := 0) S dL_law_1251 rfl rfl ?_
                                                                            refine ct_iload (k := 4) S dL_law_1252 rfl ?_
                                                                            refine ct_iconst (v := 1) S dL_law_1254 kI_1 ?_
                                                                            refine ct_iadd S dL_law_1255 ?_
                                                                            refine ct_iald S dL_law_1256 (fun x138 => ?_)
                                                                            refine ct_rc (fun b139 ci140 V141 hb142 hc143 hi144 => ?_)
                                                                            refine ct_cI (st := [cz_i x137]) (cg_virtual (av := [cz_i x138]) S hb142 hc143 hi144 (fun _ e => mt_X5_book e) md_X5_book q2439 q2440 se_HeldCoatsModel_book__I_I_HeldCoatsModel (by decide) (Nat.le_of_ble_eq_true rfl) rfl dL_law_1257) (fun x146 h145 => ?_)
                                                                            refine ct_icmp_eq (tgt := 1403) S dL_law_1260 (by decide) ?_ ?_
                                                                            · refine ct_iincL (j := 4) (L2 := fun x147 => [(4, cz_i x147), (0, cz_r l0), (1, cz_r l1), (2, cz_r l2), (3, cz_r l3)]) S dL_law_1403 rfl kI_6 (by decide) (fun _ => rfl) (fun x147 => ?_)
                                                                              refine ct_goto (tgt := 23) S dL_law_1406 (by decide) ?_
                                                                              exact ct_sub [1, 2, 3, 4, 0] rfl (ih x147 h145)
                                                                            · exact ct_sub [] rfl (hk36 h145)
                                                                          · refine ct_case ?_ (fun c35_ => ?_)
                                                                            · refine ct_tableIn (tgt := 1265) S dL_law_40 (by decide) (by decide) rfl (by decide) ?_
                                                                              refine ct_aload_n (k := 1) S dL_law_1265 rfl rfl ?_
                                                                              refine ct_aload_n (k := 0) S dL_law_1266 rfl rfl ?_
                                                                              refine ct_iload (k := 4) S dL_law_1267 rfl ?_
                                                                              refine ct_iconst (v := 1) S dL_law_1269 kI_1 ?_
                                                                              refine ct_iadd S dL_law_1270 ?_
                                                                              refine ct_iald S dL_law_1271 (fun x110 => ?_)
                                                                              refine ct_rc (fun b111 ci112 V113 hb114 hc115 hi116 => ?_)
                                                                              refine ct_cI (st := []) (cg_virtual (av := [cz_i x110]) S hb114 hc115 hi116 (fun _ e => mt_X1_told e) md_X1_told q1618 q1619 se_HeldCoats_told__I_I_HeldCoats (by decide) (Nat.le_of_ble_eq_true rfl) rfl dL_law_1272) (fun x118 h117 => ?_)
                                                                              refine ct_aload_n (k := 2) S dL_law_1275 rfl rfl ?_
                                                                              refine ct_aload_n (k := 0) S dL_law_1276 rfl rfl ?_
                                                                              refine ct_iload (k := 4) S dL_law_1277 rfl ?_
                                                                              refine ct_iconst (v := 1) S dL_law_1279 kI_1 ?_
                                                                              refine ct_iadd S dL_law_1280 ?_
                                                                              refine ct_iald S dL_law_1281 (fun x119 => ?_)
                                                                              refine ct_rc (fun b120 ci121 V122 hb123 hc124 hi125 => ?_)
                                                                              refine ct_cI (st := [cz_i x118]) (cg_virtual (av := [cz_i x119]) S hb123 hc124 hi125 (fun _ e => mt_X5_told e) md_X5_told q2451 q2452 se_HeldCoatsModel_told__I_I_HeldCoatsModel (by decide) (Nat.le_of_ble_eq_true rfl) rfl dL_law_1282) (fun x127 h126 => ?_)
                                                                              refine ct_icmp_eq (tgt := 1403) S dL_law_1285 (by decide) ?_ ?_
                                                                              · refine ct_iincL (j := 4) (L2 := fun x128 => [(4, cz_i x128), (0, cz_r l0), (1, cz_r l1), (2, cz_r l2), (3, cz_r l3)]) S dL_law_1403 rfl kI_6 (by decide) (fun _ => rfl) (fun x128 => ?_)
                                                                                refine ct_goto (tgt := 23) S dL_law_1406 (by decide) ?_
                                                                                exact ct_sub [1, 2, 3, 4, 0] rfl (ih x128 h126)
                                                                              · exact ct_sub [] rfl (hk37 h126)
                                                                            · refine ct_case ?_ (fun c36_ => ?_)
                                                                              · refine ct_tableIn (tgt := 1290) S dL_law_40 (by decide) (by decide) rfl (by decide) ?_
                                                                                refine ct_aload_n (k := 1) S dL_law_1290 rfl rfl ?_
                                                                                refine ct_rc (fun b93 ci94 V95 hb96 hc97 hi98 => ?_)
                                                                                refine ct_cI (st := []) (cg_virtual (av := []) S hb96 hc97 hi98 (fun _ e => mt_X1_sentence e) md_X1_sentence q1622 q1623 se_HeldCoats_sentence___I_HeldCoats (by decide) (Nat.le_of_ble_eq_true rfl) rfl dL_law_1291) (fun x100 h99 => ?_)
                                                                                refine ct_aload_n (k := 2) S dL_law_1294 rfl rfl ?_
                                                                                refine ct_rc (fun b101 ci102 V103 hb104 hc105 hi106 => ?_)
                                                                                refine ct_cI (st := [cz_i x100]) (cg_virtual (av := []) S hb104 hc105 hi106 (fun _ e => mt_X5_sentence e) md_X5_sentence q2455 q2456 se_HeldCoatsModel_sentence___I_HeldCoatsModel (by decide) (Nat.le_of_ble_eq_true rfl) rfl dL_law_1295) (fun x108 h107 => ?_)
                                                                                refine ct_icmp_eq (tgt := 1403) S dL_law_1298 (by decide) ?_ ?_
                                                                                · refine ct_iincL (j := 4) (L2 := fun x109 => [(4, cz_i x109), (0, cz_r l0), (1, cz_r l1), (2, cz_r l2), (3, cz_r l3)]) S dL_law_1403 rfl kI_6 (by decide) (fun _ => rfl) (fun x109 => ?_)
                                                                                  refine ct_goto (tgt := 23) S dL_law_1406 (by decide) ?_
                                                                                  exact ct_sub [1, 2, 3, 4, 0] rfl (ih x109 h107)
                                                                                · exact ct_sub [] rfl (hk38 h107)
                                                                              · refine ct_case ?_ (fun c37_ => ?_)
                                                                                · refine ct_tableIn (tgt := 1303) S dL_law_40 (by decide) (by decide) rfl (by decide) ?_
                                                                                  refine ct_aload_n (k := 1) S dL_law_1303 rfl rfl ?_
                                                                                  refine ct_aload_n (k := 0) S dL_law_1304 rfl rfl ?_
                                                                                  refine ct_iload (k := 4) S dL_law_1305 rfl ?_
                                                                                  refine ct_iconst (v := 1) S dL_law_1307 kI_1 ?_
                                                                                  refine ct_iadd S dL_law_1308 ?_
                                                                                  refine ct_iald S dL_law_1309 (fun x74 => ?_)
                                                                                  refine ct_rc (fun b75 ci76 V77 hb78 hc79 hi80 => ?_)
                                                                                  refine ct_cI (st := []) (cg_virtual (av := [cz_i x74]) S hb78 hc79 hi80 (fun _ e => mt_X1_said e) md_X1_said q1774 q1775 se_HeldCoats_said__I_I_HeldCoats (by decide) (Nat.le_of_ble_eq_true rfl) rfl dL_law_1310) (fun x82 h81 => ?_)
                                                                                  refine ct_aload_n (k := 2) S dL_law_1313 rfl rfl ?_
                                                                                  refine ct_aload_n (k := 0) S dL_law_1314 rfl rfl ?_
                                                                                  refine ct_iload (k := 4) S dL_law_1315 rfl ?_
                                                                                  refine ct_iconst (v := 1) S dL_law_1317 kI_1 ?_
                                                                                  refine ct_iadd S dL_law_1318 ?_
                                                                                  refine ct_iald S dL_law_1319 (fun x83 => ?_)
                                                                                  refine ct_rc (fun b84 ci85 V86 hb87 hc88 hi89 => ?_)
                                                                                  refine ct_cI (st := [cz_i x82]) (cg_virtual (av := [cz_i x83]) S hb87 hc88 hi89 (fun _ e => mt_X5_said e) md_X5_said q2483 q2484 se_HeldCoatsModel_said__I_I_HeldCoatsModel (by decide) (Nat.le_of_ble_eq_true rfl) rfl dL_law_1320) (fun x91 h90 => ?_)
                                                                                  refine ct_icmp_eq (tgt := 1403) S dL_law_1323 (by decide) ?_ ?_
                                                                                  · refine ct_iincL (j := 4) (L2 := fun x92 => [(4, cz_i x92), (0, cz_r l0), (1, cz_r l1), (2, cz_r l2), (3, cz_r l3)]) S dL_law_1403 rfl kI_6 (by decide) (fun _ => rfl) (fun x92 => ?_)
                                                                                    refine ct_goto (tgt := 23) S dL_law_1406 (by decide) ?_
                                                                                    exact ct_sub [1, 2, 3, 4, 0] rfl (ih x92 h90)
                                                                                  · exact ct_sub [] rfl (hk39 h90)
                                                                                · refine ct_case ?_ (fun c38_ => ?_)
                                                                                  · refine ct_tableIn (tgt := 1328) S dL_law_40 (by decide) (by decide) rfl (by decide) ?_
                                                                                    refine ct_aload_n (k := 1) S dL_law_1328 rfl rfl ?_
                                                                                    refine ct_aload_n (k := 0) S dL_law_1329 rfl rfl ?_
                                                                                    refine ct_iload (k := 4) S dL_law_1330 rfl ?_
                                                                                    refine ct_iconst (v := 1) S dL_law_1332 kI_1 ?_
                                                                                    refine ct_iadd S dL_law_1333 ?_
                                                                                    refine ct_iald S dL_law_1334 (fun x55 => ?_)
                                                                                    refine ct_rc (fun b56 ci57 V58 hb59 hc60 hi61 => ?_)
                                                                                    refine ct_cI (st := []) (cg_virtual (av := [cz_i x55]) S hb59 hc60 hi61 (fun _ e => mt_X1_image e) md_X1_image q1806 q1807 se_HeldCoats_image__I_Z_HeldCoats (by decide) (Nat.le_of_ble_eq_true rfl) rfl dL_law_1335) (fun x63 h62 => ?_)
                                                                                    refine ct_aload_n (k := 2) S dL_law_1338 rfl rfl ?_
                                                                                    refine ct_aload_n (k := 0) S dL_law_1339 rfl rfl ?_
                                                                                    refine ct_iload (k := 4) S dL_law_1340 rfl ?_
                                                                                    refine ct_iconst (v := 1) S dL_law_1342 kI_1 ?_
                                                                                    refine ct_iadd S dL_law_1343 ?_
                                                                                    refine ct_iald S dL_law_1344 (fun x64 => ?_)
                                                                                    refine ct_rc (fun b65 ci66 V67 hb68 hc69 hi70 => ?_)
                                                                                    refine ct_cI (st := [cz_i x63]) (cg_virtual (av := [cz_i x64]) S hb68 hc69 hi70 (fun _ e => mt_X5_image e) md_X5_image q2495 q2496 se_HeldCoatsModel_image__I_Z_HeldCoatsModel (by decide) (Nat.le_of_ble_eq_true rfl) rfl dL_law_1345) (fun x72 h71 => ?_)
                                                                                    refine ct_icmp_eq (tgt := 1403) S dL_law_1348 (by decide) ?_ ?_
                                                                                    · refine ct_iincL (j := 4) (L2 := fun x73 => [(4, cz_i x73), (0, cz_r l0), (1, cz_r l1), (2, cz_r l2), (3, cz_r l3)]) S dL_law_1403 rfl kI_6 (by decide) (fun _ => rfl) (fun x73 => ?_)
                                                                                      refine ct_goto (tgt := 23) S dL_law_1406 (by decide) ?_
                                                                                      exact ct_sub [1, 2, 3, 4, 0] rfl (ih x73 h71)
                                                                                    · exact ct_sub [] rfl (hk40 h71)
                                                                                  · refine ct_case ?_ (fun c39_ => ?_)
                                                                                    · refine ct_tableIn (tgt := 1353) S dL_law_40 (by decide) (by decide) rfl (by decide) ?_
                                                                                      refine ct_aload_n (k := 1) S dL_law_1353 rfl rfl ?_
                                                                                      refine ct_aload_n (k := 0) S dL_law_1354 rfl rfl ?_
                                                                                      refine ct_iload (k := 4) S dL_law_1355 rfl ?_
                                                                                      refine ct_iconst (v := 1) S dL_law_1357 kI_1 ?_
                                                                                      refine ct_iadd S dL_law_1358 ?_
                                                                                      refine ct_iald S dL_law_1359 (fun x36 => ?_)
                                                                                      refine ct_rc (fun b37 ci38 V39 hb40 hc41 hi42 => ?_)
                                                                                      refine ct_cI (st := []) (cg_virtual (av := [cz_i x36]) S hb40 hc41 hi42 (fun _ e => mt_X1_restore e) md_X1_restore q1810 q1811 se_HeldCoats_restore__I_Z_HeldCoats (by decide) (Nat.le_of_ble_eq_true rfl) rfl dL_law_1360) (fun x44 h43 => ?_)
                                                                                      refine ct_aload_n (k := 2) S dL_law_1363 rfl rfl ?_
                                                                                      refine ct_aload_n (k := 0) S dL_law_1364 rfl rfl ?_
                                                                                      refine ct_iload (k := 4) S dL_law_1365 rfl ?_
                                                                                      refine ct_iconst (v := 1) S dL_law_1367 kI_1 ?_
                                                                                      refine ct_iadd S dL_law_1368 ?_
                                                                                      refine ct_iald S dL_law_1369 (fun x45 => ?_)
                                                                                      refine ct_rc (fun b46 ci47 V48 hb49 hc50 hi51 => ?_)
                                                                                      refine ct_cI (st := [cz_i x44]) (cg_virtual (av := [cz_i x45]) S hb49 hc50 hi51 (fun _ e => mt_X5_restore e) md_X5_restore q2499 q2500 se_HeldCoatsModel_restore__I_Z_HeldCoatsModel (by decide) (Nat.le_of_ble_eq_true rfl) rfl dL_law_1370) (fun x53 h52 => ?_)
                                                                                      refine ct_icmp_eq (tgt := 1403) S dL_law_1373 (by decide) ?_ ?_
                                                                                      · refine ct_iincL (j := 4) (L2 := fun x54 => [(4, cz_i x54), (0, cz_r l0), (1, cz_r l1), (2, cz_r l2), (3, cz_r l3)]) S dL_law_1403 rfl kI_6 (by decide) (fun _ => rfl) (fun x54 => ?_)
                                                                                        refine ct_goto (tgt := 23) S dL_law_1406 (by decide) ?_
                                                                                        exact ct_sub [1, 2, 3, 4, 0] rfl (ih x54 h52)
                                                                                      · exact ct_sub [] rfl (hk41 h52)
                                                                                    · refine ct_case ?_ (fun c40_ => ?_)
                                                                                      · refine ct_tableIn (tgt := 1378) S dL_law_40 (by decide) (by decide) rfl (by decide) ?_
                                                                                        refine ct_aload_n (k := 1) S dL_law_1378 rfl rfl ?_
                                                                                        refine ct_aload_n (k := 0) S dL_law_1379 rfl rfl ?_
                                                                                        refine ct_iload (k := 4) S dL_law_1380 rfl ?_
                                                                                        refine ct_iconst (v := 1) S dL_law_1382 kI_1 ?_
                                                                                        refine ct_iadd S dL_law_1383 ?_
                                                                                        refine ct_iald S dL_law_1384 (fun x17 => ?_)
                                                                                        refine ct_rc (fun b18 ci19 V20 hb21 hc22 hi23 => ?_)
                                                                                        refine ct_cI (st := []) (cg_virtual (av := [cz_i x17]) S hb21 hc22 hi23 (fun _ e => mt_X1_count e) md_X1_count q1814 q1815 se_HeldCoats_count__I_I_HeldCoats (by decide) (Nat.le_of_ble_eq_true rfl) rfl dL_law_1385) (fun x25 h24 => ?_)
                                                                                        refine ct_aload_n (k := 2) S dL_law_1388 rfl rfl ?_
                                                                                        refine ct_aload_n (k := 0) S dL_law_1389 rfl rfl ?_
                                                                                        refine ct_iload (k := 4) S dL_law_1390 rfl ?_
                                                                                        refine ct_iconst (v := 1) S dL_law_1392 kI_1 ?_
                                                                                        refine ct_iadd S dL_law_1393 ?_
                                                                                        refine ct_iald S dL_law_1394 (fun x26 => ?_)
                                                                                        refine ct_rc (fun b27 ci28 V29 hb30 hc31 hi32 => ?_)
                                                                                        refine ct_cI (st := [cz_i x25]) (cg_virtual (av := [cz_i x26]) S hb30 hc31 hi32 (fun _ e => mt_X5_count e) md_X5_count q2503 q2504 se_HeldCoatsModel_count__I_I_HeldCoatsModel (by decide) (Nat.le_of_ble_eq_true rfl) rfl dL_law_1395) (fun x34 h33 => ?_)
                                                                                        refine ct_icmp_eq (tgt := 1403) S dL_law_1398 (by decide) ?_ ?_
                                                                                        · refine ct_iincL (j := 4) (L2 := fun x35 => [(4, cz_i x35), (0, cz_r l0), (1, cz_r l1), (2, cz_r l2), (3, cz_r l3)]) S dL_law_1403 rfl kI_6 (by decide) (fun _ => rfl) (fun x35 => ?_)
                                                                                          refine ct_goto (tgt := 23) S dL_law_1406 (by decide) ?_
                                                                                          exact ct_sub [1, 2, 3, 4, 0] rfl (ih x35 h33)
                                                                                        · exact ct_sub [] rfl (hk42 h33)
                                                                                      · refine ct_tableOut (tgt := 1403) S dL_law_40 (by have := lv_neT c0_ (show (0 : Int32).toInt = 0 by decide); have := lv_neT c1_ (show (1 : Int32).toInt = 1 by decide); have := lv_neT c2_ (show (2 : Int32).toInt = 2 by decide); have := lv_neT c3_ (show (3 : Int32).toInt = 3 by decide); have := lv_neT c4_ (show (4 : Int32).toInt = 4 by decide); have := lv_neT c5_ (show (5 : Int32).toInt = 5 by decide); have := lv_neT c6_ (show (6 : Int32).toInt = 6 by decide); have := lv_neT c7_ (show (7 : Int32).toInt = 7 by decide); have := lv_neT c8_ (show (8 : Int32).toInt = 8 by decide); have := lv_neT c9_ (show (9 : Int32).toInt = 9 by decide); have := lv_neT c10_ (show (10 : Int32).toInt = 10 by decide); have := lv_neT c11_ (show (11 : Int32).toInt = 11 by decide); have := lv_neT c12_ (show (12 : Int32).toInt = 12 by decide); have := lv_neT c13_ (show (13 : Int32).toInt = 13 by decide); have := lv_neT c14_ (show (14 : Int32).toInt = 14 by decide); have := lv_neT c15_ (show (15 : Int32).toInt = 15 by decide); have := lv_neT c16_ (show (16 : Int32).toInt = 16 by decide); have := lv_neT c17_ (show (17 : Int32).toInt = 17 by decide); have := lv_neT c18_ (show (18 : Int32).toInt = 18 by decide); have := lv_neT c19_ (show (19 : Int32).toInt = 19 by decide); have := lv_neT c20_ (show (20 : Int32).toInt = 20 by decide); have := lv_neT c21_ (show (21 : Int32).toInt = 21 by decide); have := lv_neT c22_ (show (22 : Int32).toInt = 22 by decide); have := lv_neT c23_ (show (23 : Int32).toInt = 23 by decide); have := lv_neT c24_ (show (24 : Int32).toInt = 24 by decide); have := lv_neT c25_ (show (25 : Int32).toInt = 25 by decide); have := lv_neT c26_ (show (26 : Int32).toInt = 26 by decide); have := lv_neT c27_ (show (27 : Int32).toInt = 27 by decide); have := lv_neT c28_ (show (28 : Int32).toInt = 28 by decide); have := lv_neT c29_ (show (29 : Int32).toInt = 29 by decide); have := lv_neT c30_ (show (30 : Int32).toInt = 30 by decide); have := lv_neT c31_ (show (31 : Int32).toInt = 31 by decide); have := lv_neT c32_ (show (32 : Int32).toInt = 32 by decide); have := lv_neT c33_ (show (33 : Int32).toInt = 33 by decide); have := lv_neT c34_ (show (34 : Int32).toInt = 34 by decide); have := lv_neT c35_ (show (35 : Int32).toInt = 35 by decide); have := lv_neT c36_ (show (36 : Int32).toInt = 36 by decide); have := lv_neT c37_ (show (37 : Int32).toInt = 37 by decide); have := lv_neT c38_ (show (38 : Int32).toInt = 38 by decide); have := lv_neT c39_ (show (39 : Int32).toInt = 39 by decide); have := lv_neT c40_ (show (40 : Int32).toInt = 40 by decide); omega) (by decide) ?_
                                                                                        refine ct_iincL (j := 4) (L2 := fun x16 => [(4, cz_i x16), (0, cz_r l0), (1, cz_r l1), (2, cz_r l2), (3, cz_r l3)]) S dL_law_1403 rfl kI_6 (by decide) (fun _ => rfl) (fun x16 => ?_)
                                                                                        refine ct_goto (tgt := 23) S dL_law_1406 (by decide) ?_
                                                                                        exact ct_sub [1, 2, 3, 4, 0] rfl (ih x16 h)
set_option maxHeartbeats 4000000 in
set_option maxRecDepth 100000 in
noncomputable def fn_L_law (l0 : Option Nat) (h : cz_H) : cz_Z := cz_newo h 0 18 (fun r1 h2 => cz_nn' r1 (cz_cV (fn_X1_init r1 h2) (fun h5 => cz_newo h5 5 49 (fun r6 h7 => cz_nn' r6 (cz_cV (fn_X5_init r6 h7) (fun h10 => cz_newj h10 1 (fun r11 h12 => fn_L_law_23 l0 r1 r6 r11 (fun (h820 : cz_H) => some (.inl (some (cz_i 0)), h820)) (fun (h821 : cz_H) => some (.inl (some (cz_i 0)), h821)) (fun (h822 : cz_H) => some (.inl (some (cz_i 0)), h822)) (fun (h823 : cz_H) => some (.inl (some (cz_i 0)), h823)) (fun (h824 : cz_H) => some (.inl (some (cz_i 0)), h824)) (fun (h825 : cz_H) => some (.inl (some (cz_i 0)), h825)) (fun (h826 : cz_H) => some (.inl (some (cz_i 0)), h826)) (fun (h827 : cz_H) => some (.inl (some (cz_i 0)), h827)) (fun (h828 : cz_H) => some (.inl (some (cz_i 0)), h828)) (fun (h829 : cz_H) => some (.inl (some (cz_i 0)), h829)) (fun (h830 : cz_H) => some (.inl (some (cz_i 0)), h830)) (fun (h831 : cz_H) => some (.inl (some (cz_i 0)), h831)) (fun (h832 : cz_H) => some (.inl (some (cz_i 0)), h832)) (fun (h833 : cz_H) => some (.inl (some (cz_i 0)), h833)) (fun (h834 : cz_H) => some (.inl (some (cz_i 0)), h834)) (fun (h835 : cz_H) => some (.inl (some (cz_i 0)), h835)) (fun (h836 : cz_H) => some (.inl (some (cz_i 0)), h836)) (fun (h837 : cz_H) => some (.inl (some (cz_i 0)), h837)) (fun (h838 : cz_H) => some (.inl (some (cz_i 0)), h838)) (fun (h839 : cz_H) => some (.inl (some (cz_i 0)), h839)) (fun (h840 : cz_H) => some (.inl (some (cz_i 0)), h840)) (fun (h841 : cz_H) => some (.inl (some (cz_i 0)), h841)) (fun (h842 : cz_H) => some (.inl (some (cz_i 0)), h842)) (fun (h843 : cz_H) => some (.inl (some (cz_i 0)), h843)) (fun (h844 : cz_H) => some (.inl (some (cz_i 0)), h844)) (fun (h845 : cz_H) => some (.inl (some (cz_i 0)), h845)) (fun (h846 : cz_H) => some (.inl (some (cz_i 0)), h846)) (fun (h847 : cz_H) => some (.inl (some (cz_i 0)), h847)) (fun (h848 : cz_H) => some (.inl (some (cz_i 0)), h848)) (fun (h849 : cz_H) => some (.inl (some (cz_i 0)), h849)) (fun (h850 : cz_H) => some (.inl (some (cz_i 0)), h850)) (fun (h851 : cz_H) => some (.inl (some (cz_i 0)), h851)) (fun (h852 : cz_H) => some (.inl (some (cz_i 0)), h852)) (fun (h853 : cz_H) => some (.inl (some (cz_i 0)), h853)) (fun (h854 : cz_H) => some (.inl (some (cz_i 0)), h854)) (fun (h855 : cz_H) => some (.inl (some (cz_i 0)), h855)) (fun (h856 : cz_H) => some (.inl (some (cz_i 0)), h856)) (fun (h857 : cz_H) => some (.inl (some (cz_i 0)), h857)) (fun (h858 : cz_H) => some (.inl (some (cz_i 0)), h858)) (fun (h859 : cz_H) => some (.inl (some (cz_i 0)), h859)) (fun (h860 : cz_H) => some (.inl (some (cz_i 0)), h860)) (fun (h861 : cz_H) => some (.inl (some (cz_i 0)), h861)) (fun (h862 : cz_H) => some (.inl (some (cz_i 0)), h862)) (fun (h863 : cz_H) => some (.inl (some (cz_i 1)), h863)) 1000 0 h12)))))))
set_option maxHeartbeats 4000000 in
set_option maxRecDepth 100000 in
theorem wk_L_law {K : cz_K} {D : cz_D} {h0 : cz_H} {oh : cz_O × cz_H} {nm : String} {tb : List ExceptionTableEntry} {l0 : Option Nat} {h : cz_H} (hfl : K.2.1.stackTraces = false) (S : cz_S K D h0 cL_law 7 "HeldCoatsLaw" (Option.some Jvm.ClassFile.FieldType.boolean) nm tb) : cz_T K D 73 h0 oh 7 (fn_L_law l0 h) h 0 [(0, cz_r l0)] [] := by
  unfold fn_L_law
  refine ct_newo S (by decide) cz_cl0 q159 dL_law_0 (fun r1 h2 => ?_)
  refine ct_dup S dL_law_3 rfl ?_
  refine ct_nn (fun b3 hb4 => ?_)
  refine ct_cV (st := [cz_r r1]) (cg_init (av := []) S hb4 (fun _ e => mt_X1_init e) q163 (Or.inl q161) rfl q162 q113 nh_HeldCoats__init____V (by decide) (by decide) (Nat.le_of_ble_eq_true rfl) rfl dL_law_4) (fun h5 => ?_)
  refine ct_astore_n (L' := [(1, cz_r r1), (0, cz_r l0)]) S dL_law_7 rfl (by decide) rfl ?_
  refine ct_newo S (by decide) cz_cl5 q1885 dL_law_8 (fun r6 h7 => ?_)
  refine ct_dup S dL_law_11 rfl ?_
  refine ct_nn (fun b8 hb9 => ?_)
  refine ct_cV (st := [cz_r r6]) (cg_init (av := []) S hb9 (fun _ e => mt_X5_init e) q1888 (Or.inl q1886) rfl q1887 q123 nh_HeldCoatsModel__init____V (by decide) (by decide) (Nat.le_of_ble_eq_true rfl) rfl dL_law_12) (fun h10 => ?_)
  refine ct_astore_n (L' := [(2, cz_r r6), (1, cz_r r1), (0, cz_r l0)]) S dL_law_15 rfl (by decide) rfl ?_
  refine ct_iconst (v := 1) S dL_law_16 kI_1 ?_
  refine ct_newj S dL_law_17 (fun r11 h12 => ?_)
  refine ct_astore_n (L' := [(3, cz_r r11), (2, cz_r r6), (1, cz_r r1), (0, cz_r l0)]) S dL_law_19 rfl (by decide) rfl ?_
  refine ct_iconst (v := 0) S dL_law_20 kI_0 ?_
  refine ct_istore (L' := [(4, cz_i 0), (3, cz_r r11), (2, cz_r r6), (1, cz_r r1), (0, cz_r l0)]) S dL_law_21 (by decide) rfl ?_
  refine ct_sub [4, 3, 2, 1, 0] (L' := [(0, cz_r l0), (1, cz_r r1), (2, cz_r r6), (3, cz_r r11), (4, cz_i 0)]) rfl (wk_L_law_23 hfl S ?_ ?_ ?_ ?_ ?_ ?_ ?_ ?_ ?_ ?_ ?_ ?_ ?_ ?_ ?_ ?_ ?_ ?_ ?_ ?_ ?_ ?_ ?_ ?_ ?_ ?_ ?_ ?_ ?_ ?_ ?_ ?_ ?_ ?_ ?_ ?_ ?_ ?_ ?_ ?_ ?_ ?_ ?_ ?_ 1000 0 h12)
  · intro h820
    refine ct_iconst (v := 0) S dL_law_291 kI_0 ?_
    exact ct_zr (ty := .boolean) S rfl rfl dL_law_292
  · intro h821
    refine ct_iconst (v := 0) S dL_law_316 kI_0 ?_
    exact ct_zr (ty := .boolean) S rfl rfl dL_law_317
  · intro h822
    refine ct_iconst (v := 0) S dL_law_329 kI_0 ?_
    exact ct_zr (ty := .boolean) S rfl rfl dL_law_330
  · intro h823
    refine ct_iconst (v := 0) S dL_law_342 kI_0 ?_
    exact ct_zr (ty := .boolean) S rfl rfl dL_law_343
  · intro h824
    refine ct_iconst (v := 0) S dL_law_379 kI_0 ?_
    exact ct_zr (ty := .boolean) S rfl rfl dL_law_380
  · intro h825
    refine ct_iconst (v := 0) S dL_law_427 kI_0 ?_
    exact ct_zr (ty := .boolean) S rfl rfl dL_law_428
  · intro h826
    refine ct_iconst (v := 0) S dL_law_444 kI_0 ?_
    exact ct_zr (ty := .boolean) S rfl rfl dL_law_445
  · intro h827
    refine ct_iconst (v := 0) S dL_law_495 kI_0 ?_
    exact ct_zr (ty := .boolean) S rfl rfl dL_law_496
  · intro h828
    refine ct_iconst (v := 0) S dL_law_512 kI_0 ?_
    exact ct_zr (ty := .boolean) S rfl rfl dL_law_513
  · intro h829
    refine ct_iconst (v := 0) S dL_law_540 kI_0 ?_
    exact ct_zr (ty := .boolean) S rfl rfl dL_law_541
  · intro h830
    refine ct_iconst (v := 0) S dL_law_577 kI_0 ?_
    exact ct_zr (ty := .boolean) S rfl rfl dL_law_578
  · intro h831
    refine ct_iconst (v := 0) S dL_law_614 kI_0 ?_
    exact ct_zr (ty := .boolean) S rfl rfl dL_law_615
  · intro h832
    refine ct_iconst (v := 0) S dL_law_651 kI_0 ?_
    exact ct_zr (ty := .boolean) S rfl rfl dL_law_652
  · intro h833
    refine ct_iconst (v := 0) S dL_law_676 kI_0 ?_
    exact ct_zr (ty := .boolean) S rfl rfl dL_law_677
  · intro h834
    refine ct_iconst (v := 0) S dL_law_701 kI_0 ?_
    exact ct_zr (ty := .boolean) S rfl rfl dL_law_702
  · intro h835
    refine ct_iconst (v := 0) S dL_law_714 kI_0 ?_
    exact ct_zr (ty := .boolean) S rfl rfl dL_law_715
  · intro h836
    refine ct_iconst (v := 0) S dL_law_751 kI_0 ?_
    exact ct_zr (ty := .boolean) S rfl rfl dL_law_752
  · intro h837
    refine ct_iconst (v := 0) S dL_law_764 kI_0 ?_
    exact ct_zr (ty := .boolean) S rfl rfl dL_law_765
  · intro h838
    refine ct_iconst (v := 0) S dL_law_825 kI_0 ?_
    exact ct_zr (ty := .boolean) S rfl rfl dL_law_826
  · intro h839
    refine ct_iconst (v := 0) S dL_law_838 kI_0 ?_
    exact ct_zr (ty := .boolean) S rfl rfl dL_law_839
  · intro h840
    refine ct_iconst (v := 0) S dL_law_863 kI_0 ?_
    exact ct_zr (ty := .boolean) S rfl rfl dL_law_864
  · intro h841
    refine ct_iconst (v := 0) S dL_law_888 kI_0 ?_
    exact ct_zr (ty := .boolean) S rfl rfl dL_law_889
  · intro h842
    refine ct_iconst (v := 0) S dL_law_913 kI_0 ?_
    exact ct_zr (ty := .boolean) S rfl rfl dL_law_914
  · intro h843
    refine ct_iconst (v := 0) S dL_law_950 kI_0 ?_
    exact ct_zr (ty := .boolean) S rfl rfl dL_law_951
  · intro h844
    refine ct_iconst (v := 0) S dL_law_987 kI_0 ?_
    exact ct_zr (ty := .boolean) S rfl rfl dL_law_988
  · intro h845
    refine ct_iconst (v := 0) S dL_law_1012 kI_0 ?_
    exact ct_zr (ty := .boolean) S rfl rfl dL_law_1013
  · intro h846
    refine ct_iconst (v := 0) S dL_law_1025 kI_0 ?_
    exact ct_zr (ty := .boolean) S rfl rfl dL_law_1026
  · intro h847
    refine ct_iconst (v := 0) S dL_law_1050 kI_0 ?_
    exact ct_zr (ty := .boolean) S rfl rfl dL_law_1051
  · intro h848
    refine ct_iconst (v := 0) S dL_law_1087 kI_0 ?_
    exact ct_zr (ty := .boolean) S rfl rfl dL_law_1088
  · intro h849
    refine ct_iconst (v := 0) S dL_law_1100 kI_0 ?_
    exact ct_zr (ty := .boolean) S rfl rfl dL_law_1101
  · intro h850
    refine ct_iconst (v := 0) S dL_law_1113 kI_0 ?_
    exact ct_zr (ty := .boolean) S rfl rfl dL_law_1114
  · intro h851
    refine ct_iconst (v := 0) S dL_law_1126 kI_0 ?_
    exact ct_zr (ty := .boolean) S rfl rfl dL_law_1127
  · intro h852
    refine ct_iconst (v := 0) S dL_law_1139 kI_0 ?_
    exact ct_zr (ty := .boolean) S rfl rfl dL_law_1140
  · intro h853
    refine ct_iconst (v := 0) S dL_law_1152 kI_0 ?_
    exact ct_zr (ty := .boolean) S rfl rfl dL_law_1153
  · intro h854
    refine ct_iconst (v := 0) S dL_law_1189 kI_0 ?_
    exact ct_zr (ty := .boolean) S rfl rfl dL_law_1190
  · intro h855
    refine ct_iconst (v := 0) S dL_law_1238 kI_0 ?_
    exact ct_zr (ty := .boolean) S rfl rfl dL_law_1239
  · intro h856
    refine ct_iconst (v := 0) S dL_law_1263 kI_0 ?_
    exact ct_zr (ty := .boolean) S rfl rfl dL_law_1264
  · intro h857
    refine ct_iconst (v := 0) S dL_law_1288 kI_0 ?_
    exact ct_zr (ty := .boolean) S rfl rfl dL_law_1289
  · intro h858
    refine ct_iconst (v := 0) S dL_law_1301 kI_0 ?_
    exact ct_zr (ty := .boolean) S rfl rfl dL_law_1302
  · intro h859
    refine ct_iconst (v := 0) S dL_law_1326 kI_0 ?_
    exact ct_zr (ty := .boolean) S rfl rfl dL_law_1327
  · intro h860
    refine ct_iconst (v := 0) S dL_law_1351 kI_0 ?_
    exact ct_zr (ty := .boolean) S rfl rfl dL_law_1352
  · intro h861
    refine ct_iconst (v := 0) S dL_law_1376 kI_0 ?_
    exact ct_zr (ty := .boolean) S rfl rfl dL_law_1377
  · intro h862
    refine ct_iconst (v := 0) S dL_law_1401 kI_0 ?_
    exact ct_zr (ty := .boolean) S rfl rfl dL_law_1402
  · intro h863
    refine ct_iconst (v := 1) S dL_law_1409 kI_1 ?_
    exact ct_zr (ty := .boolean) S rfl rfl dL_law_1410
