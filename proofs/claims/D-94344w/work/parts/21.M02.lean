section MW
variable {p : Program} {l : Launch} {e : Env} {s : State} {m : MethodId} {args : Array Value} {below : List Frame} {meth : Method} {c : Code} {D : va_G} {A : Nat → Prop} {h : IX} {d : Nat → ClassId}

def M_X6_fault (σ : ST) (p1 : Int32) : Option (ST × Int32) :=
  lt1 (sI σ 99 0 0 0 0) (fun σ_1 => (if p1 = 0 then some (σ_1, (gI σ_1 99 0 0 28)) else (if p1 = 1 then some (σ_1, (gI σ_1 99 0 0 29)) else some (σ_1, (-1)))))
theorem m_M_X6_fault {l : Launch} {D : va_G} {d : Nat → ClassId} {h : IX} {p1 : Int32} {σ : ST} {z : ST × Int32} (hf : M_X6_fault σ p1 = some z) : XM l D d EN yX6_fault cX6_fault 2 (some .int) 0 0 0 [.ref (h 99 0 0), .int p1] h (xct LM okM h d σ) (Qi D (pz z) (cw h LM okM d)) := by
  refine XM.of (by decide +kernel) (Nat.le_of_ble_eq_true rfl) ?_
  intro p e s m below meth c A ls X _ K _ O hl
  have hl : lv_has ls 2 [(0, .ref (h 99 0 0)), (1, .int p1)] := hl
  have hx := X.1.1; have hb := X.1.2.1
  rw [M_X6_fault] at hf
  refine lv_aload_n hx hb dX6_fault_0 rfl (lv_at hl 0 rfl) ?_
  refine lv_iconst (v := 0) hx hb dX6_fault_1 (by decide) ?_
  obtain ⟨σ_1, eσ_1, hf⟩ := lt1_s hf
  refine x_pI X K O 0 rfl LM_99 rfl rfl in_X6 tyX6_ok nmX6 (by decide) q1150 rfl rfl rfl dX6_fault_2 (fun H locs O => ?_)
  rw [← eσ_1] at O
  refine lv_iload_n hx hb dX6_fault_5 rfl (lv_at hl 1 rfl) ?_
  refine lv_if_ne (tgt := 16) hx hb dX6_fault_6 (by decide) (fun c_2 => ?_) (fun c_2 => ?_)
  · replace hf := if_f c_2 hf
    refine lv_iload_n hx hb dX6_fault_16 rfl (lv_at hl 1 rfl) ?_
    refine lv_iconst (v := 1) hx hb dX6_fault_17 (by decide) ?_
    refine lv_icmp_ne (tgt := 28) hx hb dX6_fault_18 (by decide) (fun c_3 => ?_) (fun c_3 => ?_)
    · replace hf := if_f c_3 hf
      refine lv_iconst (v := (-1)) hx hb dX6_fault_28 (by decide) ?_
      exact x_iret X O rfl _ (Option.some.inj hf).symm rfl dX6_fault_29
    · replace hf := if_t c_3 hf
      refine lv_aload_n hx hb dX6_fault_21 rfl (lv_at hl 0 rfl) ?_
      refine x_gI X K O 29 rfl LM_99 rfl rfl in_X6 (by decide) q1179 dX6_fault_22 ?_
      refine lv_goto (tgt := 29) hx hb dX6_fault_25 (by decide) ?_
      exact x_iret X O rfl _ (Option.some.inj hf).symm rfl dX6_fault_29
  · replace hf := if_t c_2 hf
    refine lv_aload_n hx hb dX6_fault_9 rfl (lv_at hl 0 rfl) ?_
    refine x_gI X K O 28 rfl LM_99 rfl rfl in_X6 (by decide) q1178 dX6_fault_10 ?_
    refine lv_goto (tgt := 29) hx hb dX6_fault_13 (by decide) ?_
    exact x_iret X O rfl _ (Option.some.inj hf).symm rfl dX6_fault_29
def M_X6_fact (σ : ST) (p1 : Int32) (p2 : Int32) : Option (ST × Int32) :=
  ck (okI ((9 * p1) + p2) 108) (some (σ, (gI σ 5 0 0 (Int32.toNatClampNeg ((9 * p1) + p2)))))
theorem m_M_X6_fact {l : Launch} {D : va_G} {d : Nat → ClassId} {h : IX} {p1 : Int32} {p2 : Int32} {σ : ST} {z : ST × Int32} (hf : M_X6_fact σ p1 p2 = some z) : XM l D d EN yX6_fact cX6_fact 3 (some .int) 0 0 0 [.ref (h 99 0 0), .int p1, .int p2] h (xct LM okM h d σ) (Qi D (pz z) (cw h LM okM d)) := by
  refine XM.of (by decide +kernel) (Nat.le_of_ble_eq_true rfl) ?_
  intro p e s m below meth c A ls X _ K _ O hl
  have hl : lv_has ls 3 [(0, .ref (h 99 0 0)), (1, .int p1), (2, .int p2)] := hl
  have hx := X.1.1; have hb := X.1.2.1
  rw [M_X6_fact] at hf
  refine lv_aload_n hx hb dX6_fact_0 rfl (lv_at hl 0 rfl) ?_
  refine x_gF X K O 5 rfl LM_99 rfl rfl in_X6 (by decide) q1155 dX6_fact_1 ?_
  refine lv_bipush (v := 9) hx hb dX6_fact_4 (by decide) ?_
  refine lv_iload_n hx hb dX6_fact_6 rfl (lv_at hl 1 rfl) ?_
  refine lv_imul hx hb dX6_fact_7 ?_
  refine lv_iload_n hx hb dX6_fact_8 rfl (lv_at hl 2 rfl) ?_
  refine lv_iadd hx hb dX6_fact_9 ?_
  obtain ⟨c_1, hf⟩ := ck_s hf
  refine x_ild X K O rfl LM_5 c_1 (j := (Int32.toNatClampNeg ((9 * p1) + p2))) rfl dX6_fact_10 ?_
  exact x_iret X O rfl _ (Option.some.inj hf).symm rfl dX6_fact_11
theorem hdV_X6_fact : yX6_fact.cls = RX6 ∧ (yX6_fact.cls ≠ "java/lang/invoke/MethodHandle" ∧ yX6_fact.cls ≠ "java/lang/invoke/VarHandle" ∧ (parseMethodDescriptor yX6_fact.desc).map (fun d => d.parameters.length) = some 2) := by decide +kernel
def M_X6_of (σ : ST) (p1 : Int32) (p2 : Int32) : Option (ST × Int32) :=
  lt1 (sI σ 99 0 0 0 0) (fun σ_1 => bn2 (M_X6_isOne σ_1 p1) (fun σ_2 r_3 => (if r_3 = 0 then some (σ_2, (-10000000)) else bn2 (M_X6_isIn σ_2 p2 0 8) (fun σ_5 r_6 => (if r_6 = 0 then some (σ_5, (-10000000)) else bn2 (M_X6_fact σ_5 p1 p2) (fun σ_8 r_9 => some (σ_8, r_9)))))))
theorem m_M_X6_of {l : Launch} {D : va_G} {d : Nat → ClassId} {h : IX} {p1 : Int32} {p2 : Int32} {σ : ST} {z : ST × Int32} (hf : M_X6_of σ p1 p2 = some z) : XM l D d EN yX6_of cX6_of 3 (some .int) 1 0 0 [.ref (h 99 0 0), .int p1, .int p2] h (xct LM okM h d σ) (Qi D (pz z) (cw h LM okM d)) := by
  refine XM.of (by decide +kernel) (Nat.le_of_ble_eq_true rfl) ?_
  intro p e s m below meth c A ls X _ K _ O hl
  have hl : lv_has ls 3 [(0, .ref (h 99 0 0)), (1, .int p1), (2, .int p2)] := hl
  have hx := X.1.1; have hb := X.1.2.1
  rw [M_X6_of] at hf
  refine lv_aload_n hx hb dX6_of_0 rfl (lv_at hl 0 rfl) ?_
  refine lv_iconst (v := 0) hx hb dX6_of_1 (by decide) ?_
  obtain ⟨σ_1, eσ_1, hf⟩ := lt1_s hf
  refine x_pI X K O 0 rfl LM_99 rfl rfl in_X6 tyX6_ok nmX6 (by decide) q1150 rfl rfl rfl dX6_of_2 (fun H locs O => ?_)
  rw [← eσ_1] at O
  refine lv_aload_n hx hb dX6_of_5 rfl (lv_at hl 0 rfl) ?_
  refine lv_iload_n hx hb dX6_of_6 rfl (lv_at hl 1 rfl) ?_
  obtain ⟨σ_2, r_3, hg, hf⟩ := bn2_s hf
  refine x_calli (x_runV (As := [.int p1]) (rest := []) X K O (xct_obj rfl LM_99) rfl (m_M_X6_isOne hg) EN_b EN_h (lw_V q1339 q1341 qs47 q124 q1342) 1 rfl hl.1 (Nat.le_of_ble_eq_true rfl) hdV_X6_isOne ⟨by decide, by decide⟩ ⟨Nat.le_refl _, Nat.le_refl _⟩ dX6_of_7) (fun r u H locs hp O _ => ?_)
  cases hp
  have O : XH D A s.heap h (xct LM okM h d σ_2) H locs := O
  refine lv_if_eq (tgt := 33) hx hb dX6_of_10 (by decide) (fun c_4 => ?_) (fun c_4 => ?_)
  · replace hf := if_t c_4 hf
    refine lv_ldc (v := (-10000000)) hx hb X.1.2.2.2.1 (X.1.2.2.2.2 _ q1451) dX6_of_33 ?_
    exact x_iret X O rfl _ (Option.some.inj hf).symm rfl dX6_of_35
  · replace hf := if_f c_4 hf
    refine lv_aload_n hx hb dX6_of_13 rfl (lv_at hl 0 rfl) ?_
    refine lv_iload_n hx hb dX6_of_14 rfl (lv_at hl 2 rfl) ?_
    refine lv_iconst (v := 0) hx hb dX6_of_15 (by decide) ?_
    refine lv_bipush (v := 8) hx hb dX6_of_16 (by decide) ?_
    obtain ⟨σ_5, r_6, hg, hf⟩ := bn2_s hf
    refine x_calli (x_runV (As := [.int p2, .int 0, .int 8]) (rest := []) X K O (xct_obj rfl LM_99) rfl (m_M_X6_isIn hg) EN_b EN_h (lw_V q1327 q1329 qs45 q124 q1330) 3 rfl hl.1 (Nat.le_of_ble_eq_true rfl) hdV_X6_isIn ⟨by decide, by decide⟩ ⟨Nat.le_refl _, Nat.le_refl _⟩ dX6_of_18) (fun r u H locs hp O _ => ?_)
    cases hp
    have O : XH D A s.heap h (xct LM okM h d σ_5) H locs := O
    refine lv_if_eq (tgt := 33) hx hb dX6_of_21 (by decide) (fun c_7 => ?_) (fun c_7 => ?_)
    · replace hf := if_t c_7 hf
      refine lv_ldc (v := (-10000000)) hx hb X.1.2.2.2.1 (X.1.2.2.2.2 _ q1451) dX6_of_33 ?_
      exact x_iret X O rfl _ (Option.some.inj hf).symm rfl dX6_of_35
    · replace hf := if_f c_7 hf
      refine lv_aload_n hx hb dX6_of_24 rfl (lv_at hl 0 rfl) ?_
      refine lv_iload_n hx hb dX6_of_25 rfl (lv_at hl 1 rfl) ?_
      refine lv_iload_n hx hb dX6_of_26 rfl (lv_at hl 2 rfl) ?_
      obtain ⟨σ_8, r_9, hg, hf⟩ := bn2_s hf
      refine x_calli (x_runV (As := [.int p1, .int p2]) (rest := []) X K O (xct_obj rfl LM_99) rfl (m_M_X6_fact hg) EN_b EN_h (lw_V q1447 q1449 qs68 q124 q1450) 2 rfl hl.1 (Nat.le_of_ble_eq_true rfl) hdV_X6_fact ⟨by decide, by decide⟩ ⟨Nat.le_refl _, Nat.le_refl _⟩ dX6_of_27) (fun r u H locs hp O _ => ?_)
      cases hp
      have O : XH D A s.heap h (xct LM okM h d σ_8) H locs := O
      refine lv_goto (tgt := 35) hx hb dX6_of_30 (by decide) ?_
      exact x_iret X O rfl _ (Option.some.inj hf).symm rfl dX6_of_35
def M_X6_isSize (σ : ST) (p1 : Int32) : Option (ST × Int32) :=
  (if p1 < 1 then some (σ, 0) else (if 12 < p1 then some (σ, 0) else some (σ, 1)))
theorem m_M_X6_isSize {l : Launch} {D : va_G} {d : Nat → ClassId} {h : IX} {p1 : Int32} {σ : ST} {z : ST × Int32} (hf : M_X6_isSize σ p1 = some z) : XM l D d EN yX6_isSize cX6_isSize 2 (some .boolean) 0 0 0 [.ref (h 99 0 0), .int p1] h (xct LM okM h d σ) (Qi D (pz z) (cw h LM okM d)) := by
  refine XM.of (by decide +kernel) (Nat.le_of_ble_eq_true rfl) ?_
  intro p e s m below meth c A ls X _ K _ O hl
  have hl : lv_has ls 2 [(0, .ref (h 99 0 0)), (1, .int p1)] := hl
  have hx := X.1.1; have hb := X.1.2.1
  rw [M_X6_isSize] at hf
  refine lv_iload_n hx hb dX6_isSize_0 rfl (lv_at hl 1 rfl) ?_
  refine lv_iconst (v := 1) hx hb dX6_isSize_1 (by decide) ?_
  refine lv_icmp_lt (tgt := 15) hx hb dX6_isSize_2 (by decide) (fun c_1 => ?_) (fun c_1 => ?_)
  · replace hf := if_t c_1 hf
    refine lv_iconst (v := 0) hx hb dX6_isSize_15 (by decide) ?_
    exact x_zret X O rfl rfl _ (Option.some.inj hf).symm rfl dX6_isSize_16
  · replace hf := if_f c_1 hf
    refine lv_iload_n hx hb dX6_isSize_5 rfl (lv_at hl 1 rfl) ?_
    refine lv_bipush (v := 12) hx hb dX6_isSize_6 (by decide) ?_
    refine lv_icmp_gt (tgt := 15) hx hb dX6_isSize_8 (by decide) (fun c_2 => ?_) (fun c_2 => ?_)
    · replace hf := if_t c_2 hf
      refine lv_iconst (v := 0) hx hb dX6_isSize_15 (by decide) ?_
      exact x_zret X O rfl rfl _ (Option.some.inj hf).symm rfl dX6_isSize_16
    · replace hf := if_f c_2 hf
      refine lv_iconst (v := 1) hx hb dX6_isSize_11 (by decide) ?_
      refine lv_goto (tgt := 16) hx hb dX6_isSize_12 (by decide) ?_
      exact x_zret X O rfl rfl _ (Option.some.inj hf).symm rfl dX6_isSize_16
def M_X6_asksOwn (σ : ST) (p1 : Int32) (p2 : Int32) : Option (ST) :=
  bn2 (M_X6_fact σ p1 2) (fun σ_1 r_2 => lt1 (sI σ_1 30 0 0 0 r_2) (fun σ_3 => bn2 (M_X6_fact σ_3 p1 3) (fun σ_4 r_5 => lt1 (sI σ_4 30 0 0 1 r_5) (fun σ_6 => bn2 (M_X6_fact σ_6 p1 4) (fun σ_7 r_8 => lt1 (sI σ_7 30 0 0 2 r_8) (fun σ_9 => bn2 (M_X6_fact σ_9 p1 5) (fun σ_10 r_11 => lt1 (sI σ_10 30 0 0 3 r_11) (fun σ_12 => lt1 (sI σ_12 30 0 0 4 p2) (fun σ_13 => bn2 (M_X6_fact σ_13 p1 1) (fun σ_14 r_15 => lt1 (sI σ_14 30 0 0 5 r_15) (fun σ_16 => lt1 (sI σ_16 30 0 0 6 (gI σ_16 99 0 0 3)) (fun σ_17 => some σ_17))))))))))))
theorem m_M_X6_asksOwn {l : Launch} {D : va_G} {d : Nat → ClassId} {h : IX} {p1 : Int32} {p2 : Int32} {σ : ST} {z : ST} (hf : M_X6_asksOwn σ p1 p2 = some z) : XM l D d EN yX6_asksOwn cX6_asksOwn 3 none 1 0 0 [.ref (h 99 0 0), .int p1, .int p2] h (xct LM okM h d σ) (Qv D (pu z) (cw h LM okM d)) := by
  refine XM.of (by decide +kernel) (Nat.le_of_ble_eq_true rfl) ?_
  intro p e s m below meth c A ls X _ K _ O hl
  have hl : lv_has ls 3 [(0, .ref (h 99 0 0)), (1, .int p1), (2, .int p2)] := hl
  have hx := X.1.1; have hb := X.1.2.1
  rw [M_X6_asksOwn] at hf
  refine lv_aload_n hx hb dX6_asksOwn_0 rfl (lv_at hl 0 rfl) ?_
  refine x_gF X K O 30 rfl LM_99 rfl rfl in_X6 (by decide) q1180 dX6_asksOwn_1 ?_
  refine lv_iconst (v := 0) hx hb dX6_asksOwn_4 (by decide) ?_
  refine lv_aload_n hx hb dX6_asksOwn_5 rfl (lv_at hl 0 rfl) ?_
  refine lv_iload_n hx hb dX6_asksOwn_6 rfl (lv_at hl 1 rfl) ?_
  refine lv_iconst (v := 2) hx hb dX6_asksOwn_7 (by decide) ?_
  obtain ⟨σ_1, r_2, hg, hf⟩ := bn2_s hf
  refine x_calli (x_runV (As := [.int p1, .int 2]) (rest := [.int 0, .ref (h 30 0 0)]) X K O (xct_obj rfl LM_99) rfl (m_M_X6_fact hg) EN_b EN_h (lw_V q1447 q1449 qs68 q124 q1450) 2 rfl hl.1 (Nat.le_of_ble_eq_true rfl) hdV_X6_fact ⟨by decide, by decide⟩ ⟨Nat.le_refl _, Nat.le_refl _⟩ dX6_asksOwn_8) (fun r u H locs hp O _ => ?_)
  cases hp
  have O : XH D A s.heap h (xct LM okM h d σ_1) H locs := O
  obtain ⟨σ_3, eσ_3, hf⟩ := lt1_s hf
  refine x_ist X K O rfl LM_30 (by decide) (j := 0) rfl dX6_asksOwn_11 (fun H locs O => ?_)
  rw [← eσ_3] at O
  refine lv_aload_n hx hb dX6_asksOwn_12 rfl (lv_at hl 0 rfl) ?_
  refine x_gF X K O 30 rfl LM_99 rfl rfl in_X6 (by decide) q1180 dX6_asksOwn_13 ?_
  refine lv_iconst (v := 1) hx hb dX6_asksOwn_16 (by decide) ?_
  refine lv_aload_n hx hb dX6_asksOwn_17 rfl (lv_at hl 0 rfl) ?_
  refine lv_iload_n hx hb dX6_asksOwn_18 rfl (lv_at hl 1 rfl) ?_
  refine lv_iconst (v := 3) hx hb dX6_asksOwn_19 (by decide) ?_
  obtain ⟨σ_4, r_5, hg, hf⟩ := bn2_s hf
  refine x_calli (x_runV (As := [.int p1, .int 3]) (rest := [.int 1, .ref (h 30 0 0)]) X K O (xct_obj rfl LM_99) rfl (m_M_X6_fact hg) EN_b EN_h (lw_V q1447 q1449 qs68 q124 q1450) 2 rfl hl.1 (Nat.le_of_ble_eq_true rfl) hdV_X6_fact ⟨by decide, by decide⟩ ⟨Nat.le_refl _, Nat.le_refl _⟩ dX6_asksOwn_20) (fun r u H locs hp O _ => ?_)
  cases hp
  have O : XH D A s.heap h (xct LM okM h d σ_4) H locs := O
  obtain ⟨σ_6, eσ_6, hf⟩ := lt1_s hf
  refine x_ist X K O rfl LM_30 (by decide) (j := 1) rfl dX6_asksOwn_23 (fun H locs O => ?_)
  rw [← eσ_6] at O
  refine lv_aload_n hx hb dX6_asksOwn_24 rfl (lv_at hl 0 rfl) ?_
  refine x_gF X K O 30 rfl LM_99 rfl rfl in_X6 (by decide) q1180 dX6_asksOwn_25 ?_
  refine lv_iconst (v := 2) hx hb dX6_asksOwn_28 (by decide) ?_
  refine lv_aload_n hx hb dX6_asksOwn_29 rfl (lv_at hl 0 rfl) ?_
  refine lv_iload_n hx hb dX6_asksOwn_30 rfl (lv_at hl 1 rfl) ?_
  refine lv_iconst (v := 4) hx hb dX6_asksOwn_31 (by decide) ?_
  obtain ⟨σ_7, r_8, hg, hf⟩ := bn2_s hf
  refine x_calli (x_runV (As := [.int p1, .int 4]) (rest := [.int 2, .ref (h 30 0 0)]) X K O (xct_obj rfl LM_99) rfl (m_M_X6_fact hg) EN_b EN_h (lw_V q1447 q1449 qs68 q124 q1450) 2 rfl hl.1 (Nat.le_of_ble_eq_true rfl) hdV_X6_fact ⟨by decide, by decide⟩ ⟨Nat.le_refl _, Nat.le_refl _⟩ dX6_asksOwn_32) (fun r u H locs hp O _ => ?_)
  cases hp
  have O : XH D A s.heap h (xct LM okM h d σ_7) H locs := O
  obtain ⟨σ_9, eσ_9, hf⟩ := lt1_s hf
  refine x_ist X K O rfl LM_30 (by decide) (j := 2) rfl dX6_asksOwn_35 (fun H locs O => ?_)
  rw [← eσ_9] at O
  refine lv_aload_n hx hb dX6_asksOwn_36 rfl (lv_at hl 0 rfl) ?_
  refine x_gF X K O 30 rfl LM_99 rfl rfl in_X6 (by decide) q1180 dX6_asksOwn_37 ?_
  refine lv_iconst (v := 3) hx hb dX6_asksOwn_40 (by decide) ?_
  refine lv_aload_n hx hb dX6_asksOwn_41 rfl (lv_at hl 0 rfl) ?_
  refine lv_iload_n hx hb dX6_asksOwn_42 rfl (lv_at hl 1 rfl) ?_
  refine lv_iconst (v := 5) hx hb dX6_asksOwn_43 (by decide) ?_
  obtain ⟨σ_10, r_11, hg, hf⟩ := bn2_s hf
  refine x_calli (x_runV (As := [.int p1, .int 5]) (rest := [.int 3, .ref (h 30 0 0)]) X K O (xct_obj rfl LM_99) rfl (m_M_X6_fact hg) EN_b EN_h (lw_V q1447 q1449 qs68 q124 q1450) 2 rfl hl.1 (Nat.le_of_ble_eq_true rfl) hdV_X6_fact ⟨by decide, by decide⟩ ⟨Nat.le_refl _, Nat.le_refl _⟩ dX6_asksOwn_44) (fun r u H locs hp O _ => ?_)
  cases hp
  have O : XH D A s.heap h (xct LM okM h d σ_10) H locs := O
  obtain ⟨σ_12, eσ_12, hf⟩ := lt1_s hf
  refine x_ist X K O rfl LM_30 (by decide) (j := 3) rfl dX6_asksOwn_47 (fun H locs O => ?_)
  rw [← eσ_12] at O
  refine lv_aload_n hx hb dX6_asksOwn_48 rfl (lv_at hl 0 rfl) ?_
  refine x_gF X K O 30 rfl LM_99 rfl rfl in_X6 (by decide) q1180 dX6_asksOwn_49 ?_
  refine lv_iconst (v := 4) hx hb dX6_asksOwn_52 (by decide) ?_
  refine lv_iload_n hx hb dX6_asksOwn_53 rfl (lv_at hl 2 rfl) ?_
  obtain ⟨σ_13, eσ_13, hf⟩ := lt1_s hf
  refine x_ist X K O rfl LM_30 (by decide) (j := 4) rfl dX6_asksOwn_54 (fun H locs O => ?_)
  rw [← eσ_13] at O
  refine lv_aload_n hx hb dX6_asksOwn_55 rfl (lv_at hl 0 rfl) ?_
  refine x_gF X K O 30 rfl LM_99 rfl rfl in_X6 (by decide) q1180 dX6_asksOwn_56 ?_
  refine lv_iconst (v := 5) hx hb dX6_asksOwn_59 (by decide) ?_
  refine lv_aload_n hx hb dX6_asksOwn_60 rfl (lv_at hl 0 rfl) ?_
  refine lv_iload_n hx hb dX6_asksOwn_61 rfl (lv_at hl 1 rfl) ?_
  refine lv_iconst (v := 1) hx hb dX6_asksOwn_62 (by decide) ?_
  obtain ⟨σ_14, r_15, hg, hf⟩ := bn2_s hf
  refine x_calli (x_runV (As := [.int p1, .int 1]) (rest := [.int 5, .ref (h 30 0 0)]) X K O (xct_obj rfl LM_99) rfl (m_M_X6_fact hg) EN_b EN_h (lw_V q1447 q1449 qs68 q124 q1450) 2 rfl hl.1 (Nat.le_of_ble_eq_true rfl) hdV_X6_fact ⟨by decide, by decide⟩ ⟨Nat.le_refl _, Nat.le_refl _⟩ dX6_asksOwn_63) (fun r u H locs hp O _ => ?_)
  cases hp
  have O : XH D A s.heap h (xct LM okM h d σ_14) H locs := O
  obtain ⟨σ_16, eσ_16, hf⟩ := lt1_s hf
  refine x_ist X K O rfl LM_30 (by decide) (j := 5) rfl dX6_asksOwn_66 (fun H locs O => ?_)
  rw [← eσ_16] at O
  refine lv_aload_n hx hb dX6_asksOwn_67 rfl (lv_at hl 0 rfl) ?_
  refine x_gF X K O 30 rfl LM_99 rfl rfl in_X6 (by decide) q1180 dX6_asksOwn_68 ?_
  refine lv_bipush (v := 6) hx hb dX6_asksOwn_71 (by decide) ?_
  refine lv_aload_n hx hb dX6_asksOwn_73 rfl (lv_at hl 0 rfl) ?_
  refine x_gI X K O 3 rfl LM_99 rfl rfl in_X6 (by decide) q1153 dX6_asksOwn_74 ?_
  obtain ⟨σ_17, eσ_17, hf⟩ := lt1_s hf
  refine x_ist X K O rfl LM_30 (by decide) (j := 6) rfl dX6_asksOwn_77 (fun H locs O => ?_)
  rw [← eσ_17] at O
  exact x_vret X O rfl _ (Option.some.inj hf).symm rfl dX6_asksOwn_78
def M_X6_twoOf (σ : ST) (p1 : Int32) (p2 : Int32) (p3 : Int32) : Option (ST × Int32) :=
  (if p1 = 2 then some (σ, (p2 + p3)) else (if p1 = 3 then some (σ, (p2 - p3)) else (if p1 = 4 then some (σ, (p2 * p3)) else (if p1 = 5 then ck (decide (¬ p3 = 0)) (some (σ, (p2 / p3))) else (if p1 = 6 then (if p3 ≤ p2 then some (σ, 0) else some (σ, 1)) else (if p1 = 7 then (if p2 = p3 then some (σ, 1) else some (σ, 0)) else (if p1 = 8 then (if p2 ≤ p3 then some (σ, 0) else some (σ, 1)) else (if p1 = 10 then some (σ, (p2 * p3)) else (if (p2 + p3) ≤ 0 then some (σ, 0) else some (σ, 1))))))))))
theorem m_M_X6_twoOf {l : Launch} {D : va_G} {d : Nat → ClassId} {h : IX} {p1 : Int32} {p2 : Int32} {p3 : Int32} {σ : ST} {z : ST × Int32} (hf : M_X6_twoOf σ p1 p2 p3 = some z) : XM l D d EN yX6_twoOf cX6_twoOf 4 (some .int) 0 0 0 [.ref (h 99 0 0), .int p1, .int p2, .int p3] h (xct LM okM h d σ) (Qi D (pz z) (cw h LM okM d)) := by
  refine XM.of (by decide +kernel) (Nat.le_of_ble_eq_true rfl) ?_
  intro p e s m below meth c A ls X _ K _ O hl
  have hl : lv_has ls 4 [(0, .ref (h 99 0 0)), (1, .int p1), (2, .int p2), (3, .int p3)] := hl
  have hx := X.1.1; have hb := X.1.2.1
  rw [M_X6_twoOf] at hf
  refine lv_iload_n hx hb dX6_twoOf_0 rfl (lv_at hl 1 rfl) ?_
  refine lv_iconst (v := 2) hx hb dX6_twoOf_1 (by decide) ?_
  refine lv_icmp_ne (tgt := 9) hx hb dX6_twoOf_2 (by decide) (fun c_1 => ?_) (fun c_1 => ?_)
  · replace hf := if_f c_1 hf
    refine lv_iload_n hx hb dX6_twoOf_9 rfl (lv_at hl 1 rfl) ?_
    refine lv_iconst (v := 3) hx hb dX6_twoOf_10 (by decide) ?_
    refine lv_icmp_ne (tgt := 18) hx hb dX6_twoOf_11 (by decide) (fun c_2 => ?_) (fun c_2 => ?_)
    · replace hf := if_f c_2 hf
      refine lv_iload_n hx hb dX6_twoOf_18 rfl (lv_at hl 1 rfl) ?_
      refine lv_iconst (v := 4) hx hb dX6_twoOf_19 (by decide) ?_
      refine lv_icmp_ne (tgt := 27) hx hb dX6_twoOf_20 (by decide) (fun c_3 => ?_) (fun c_3 => ?_)
      · replace hf := if_f c_3 hf
        refine lv_iload_n hx hb dX6_twoOf_27 rfl (lv_at hl 1 rfl) ?_
        refine lv_iconst (v := 5) hx hb dX6_twoOf_28 (by decide) ?_
        refine lv_icmp_ne (tgt := 36) hx hb dX6_twoOf_29 (by decide) (fun c_4 => ?_) (fun c_4 => ?_)
        · replace hf := if_f c_4 hf
          refine lv_iload_n hx hb dX6_twoOf_36 rfl (lv_at hl 1 rfl) ?_
          refine lv_bipush (v := 6) hx hb dX6_twoOf_37 (by decide) ?_
          refine lv_icmp_ne (tgt := 53) hx hb dX6_twoOf_39 (by decide) (fun c_5 => ?_) (fun c_5 => ?_)
          · replace hf := if_f c_5 hf
            refine lv_iload_n hx hb dX6_twoOf_53 rfl (lv_at hl 1 rfl) ?_
            refine lv_bipush (v := 7) hx hb dX6_twoOf_54 (by decide) ?_
            refine lv_icmp_ne (tgt := 70) hx hb dX6_twoOf_56 (by decide) (fun c_6 => ?_) (fun c_6 => ?_)
            · replace hf := if_f c_6 hf
              refine lv_iload_n hx hb dX6_twoOf_70 rfl (lv_at hl 1 rfl) ?_
              refine lv_bipush (v := 8) hx hb dX6_twoOf_71 (by decide) ?_
              refine lv_icmp_ne (tgt := 87) hx hb dX6_twoOf_73 (by decide) (fun c_7 => ?_) (fun c_7 => ?_)
              · replace hf := if_f c_7 hf
                refine lv_iload_n hx hb dX6_twoOf_87 rfl (lv_at hl 1 rfl) ?_
                refine lv_bipush (v := 10) hx hb dX6_twoOf_88 (by decide) ?_
                refine lv_icmp_ne (tgt := 99) hx hb dX6_twoOf_90 (by decide) (fun c_8 => ?_) (fun c_8 => ?_)
                · replace hf := if_f c_8 hf
                  refine lv_iload_n hx hb dX6_twoOf_99 rfl (lv_at hl 2 rfl) ?_
                  refine lv_iload_n hx hb dX6_twoOf_100 rfl (lv_at hl 3 rfl) ?_
                  refine lv_iadd hx hb dX6_twoOf_101 ?_
                  refine lv_if_le (tgt := 109) hx hb dX6_twoOf_102 (by decide) (fun c_9 => ?_) (fun c_9 => ?_)
                  · replace hf := if_t c_9 hf
                    refine lv_iconst (v := 0) hx hb dX6_twoOf_109 (by decide) ?_
                    exact x_iret X O rfl _ (Option.some.inj hf).symm rfl dX6_twoOf_110
                  · replace hf := if_f c_9 hf
                    refine lv_iconst (v := 1) hx hb dX6_twoOf_105 (by decide) ?_
                    refine lv_goto (tgt := 110) hx hb dX6_twoOf_106 (by decide) ?_
                    exact x_iret X O rfl _ (Option.some.inj hf).symm rfl dX6_twoOf_110
                · replace hf := if_t c_8 hf
                  refine lv_iload_n hx hb dX6_twoOf_93 rfl (lv_at hl 2 rfl) ?_
                  refine lv_iload_n hx hb dX6_twoOf_94 rfl (lv_at hl 3 rfl) ?_
                  refine lv_imul hx hb dX6_twoOf_95 ?_
                  refine lv_goto (tgt := 110) hx hb dX6_twoOf_96 (by decide) ?_
                  exact x_iret X O rfl _ (Option.some.inj hf).symm rfl dX6_twoOf_110
              · replace hf := if_t c_7 hf
                refine lv_iload_n hx hb dX6_twoOf_76 rfl (lv_at hl 2 rfl) ?_
                refine lv_iload_n hx hb dX6_twoOf_77 rfl (lv_at hl 3 rfl) ?_
                refine lv_icmp_le (tgt := 85) hx hb dX6_twoOf_78 (by decide) (fun c_10 => ?_) (fun c_10 => ?_)
                · replace hf := if_t c_10 hf
                  refine lv_iconst (v := 0) hx hb dX6_twoOf_85 (by decide) ?_
                  exact x_iret X O rfl _ (Option.some.inj hf).symm rfl dX6_twoOf_86
                · replace hf := if_f c_10 hf
                  refine lv_iconst (v := 1) hx hb dX6_twoOf_81 (by decide) ?_
                  refine lv_goto (tgt := 86) hx hb dX6_twoOf_82 (by decide) ?_
                  exact x_iret X O rfl _ (Option.some.inj hf).symm rfl dX6_twoOf_86
            · replace hf := if_t c_6 hf
              refine lv_iload_n hx hb dX6_twoOf_59 rfl (lv_at hl 2 rfl) ?_
              refine lv_iload_n hx hb dX6_twoOf_60 rfl (lv_at hl 3 rfl) ?_
              refine lv_icmp_ne (tgt := 68) hx hb dX6_twoOf_61 (by decide) (fun c_11 => ?_) (fun c_11 => ?_)
              · replace hf := if_f c_11 hf
                refine lv_iconst (v := 0) hx hb dX6_twoOf_68 (by decide) ?_
                exact x_iret X O rfl _ (Option.some.inj hf).symm rfl dX6_twoOf_69
              · replace hf := if_t c_11 hf
                refine lv_iconst (v := 1) hx hb dX6_twoOf_64 (by decide) ?_
                refine lv_goto (tgt := 69) hx hb dX6_twoOf_65 (by decide) ?_
                exact x_iret X O rfl _ (Option.some.inj hf).symm rfl dX6_twoOf_69
          · replace hf := if_t c_5 hf
            refine lv_iload_n hx hb dX6_twoOf_42 rfl (lv_at hl 2 rfl) ?_
            refine lv_iload_n hx hb dX6_twoOf_43 rfl (lv_at hl 3 rfl) ?_
            refine lv_icmp_ge (tgt := 51) hx hb dX6_twoOf_44 (by decide) (fun c_12 => ?_) (fun c_12 => ?_)
            · replace hf := if_t c_12 hf
              refine lv_iconst (v := 0) hx hb dX6_twoOf_51 (by decide) ?_
              exact x_iret X O rfl _ (Option.some.inj hf).symm rfl dX6_twoOf_52
            · replace hf := if_f c_12 hf
              refine lv_iconst (v := 1) hx hb dX6_twoOf_47 (by decide) ?_
              refine lv_goto (tgt := 52) hx hb dX6_twoOf_48 (by decide) ?_
              exact x_iret X O rfl _ (Option.some.inj hf).symm rfl dX6_twoOf_52
        · replace hf := if_t c_4 hf
          refine lv_iload_n hx hb dX6_twoOf_32 rfl (lv_at hl 2 rfl) ?_
          refine lv_iload_n hx hb dX6_twoOf_33 rfl (lv_at hl 3 rfl) ?_
          obtain ⟨c_13, hf⟩ := ck_s hf
          refine lv_idiv hx hb dX6_twoOf_34 (of_decide_eq_true c_13) ?_
          exact x_iret X O rfl _ (Option.some.inj hf).symm rfl dX6_twoOf_35
      · replace hf := if_t c_3 hf
        refine lv_iload_n hx hb dX6_twoOf_23 rfl (lv_at hl 2 rfl) ?_
        refine lv_iload_n hx hb dX6_twoOf_24 rfl (lv_at hl 3 rfl) ?_
        refine lv_imul hx hb dX6_twoOf_25 ?_
        exact x_iret X O rfl _ (Option.some.inj hf).symm rfl dX6_twoOf_26
    · replace hf := if_t c_2 hf
      refine lv_iload_n hx hb dX6_twoOf_14 rfl (lv_at hl 2 rfl) ?_
      refine lv_iload_n hx hb dX6_twoOf_15 rfl (lv_at hl 3 rfl) ?_
      refine lv_isub hx hb dX6_twoOf_16 ?_
      exact x_iret X O rfl _ (Option.some.inj hf).symm rfl dX6_twoOf_17
  · replace hf := if_t c_1 hf
    refine lv_iload_n hx hb dX6_twoOf_5 rfl (lv_at hl 2 rfl) ?_
    refine lv_iload_n hx hb dX6_twoOf_6 rfl (lv_at hl 3 rfl) ?_
    refine lv_iadd hx hb dX6_twoOf_7 ?_
    exact x_iret X O rfl _ (Option.some.inj hf).symm rfl dX6_twoOf_8
theorem hdV_X6_twoOf : yX6_twoOf.cls = RX6 ∧ (yX6_twoOf.cls ≠ "java/lang/invoke/MethodHandle" ∧ yX6_twoOf.cls ≠ "java/lang/invoke/VarHandle" ∧ (parseMethodDescriptor yX6_twoOf.desc).map (fun d => d.parameters.length) = some 3) := by decide +kernel
def M_X6_isSo_b169 (kb16 : ST → Int32 → Int32 → Int32 → Int32 → Option (ST × Int32)) (σ : ST) (x1 : Int32) (x2 : Int32) (x3 : Int32) (x4 : Int32) : Option (ST × Int32) :=
  lt1 (x4 + 1) (fun x4_1 => kb16 σ x1 x2 x3 x4_1)
theorem w_M_X6_isSo_b169 (X : FX p m c meth s args RX6 cX6_isSo 5 (some .boolean)) (K : XK D d A s) {z : ST × Int32} {kb16 : ST → Int32 → Int32 → Int32 → Int32 → Option (ST × Int32)} (hkb16 : ∀ (σ : ST) (x1 : Int32) (x2 : Int32) (x3 : Int32) (x4 : Int32) (ls : Array Slot) (H : Heap) (locs : List Loc), XH D A s.heap h (xct LM okM h d σ) H locs → lv_has ls 5 [(0, .ref (h 99 0 0)), (1, .int x1), (2, .int x2), (3, .int x3), (4, .int x4)] → kb16 σ x1 x2 x3 x4 = some z → W p l e (rmD 1 0 0) s m args below meth c H locs 0 0 (MQ below (Qi D (pz z) (cw h LM okM d) A) args s 0 0 A) (F0 m 16 ls [])) (σ : ST) (x1 : Int32) (x2 : Int32) (x3 : Int32) (x4 : Int32) (ls : Array Slot) (H : Heap) (locs : List Loc) (O : XH D A s.heap h (xct LM okM h d σ) H locs) (hl : lv_has ls 5 [(0, .ref (h 99 0 0)), (1, .int x1), (2, .int x2), (3, .int x3), (4, .int x4)]) (hf : M_X6_isSo_b169 kb16 σ x1 x2 x3 x4 = some z) : W p l e (rmD 1 0 0) s m args below meth c H locs 0 0 (MQ below (Qi D (pz z) (cw h LM okM d) A) args s 0 0 A) (F0 m 169 ls []) := by
  have hx := X.1.1; have hb := X.1.2.1
  rw [M_X6_isSo_b169] at hf
  obtain ⟨x4_1, ex4_1, hf⟩ := lt1_s hf
  refine lv_iinc (v := x4_1) (lv' := [(4, .int x4_1), (0, .ref (h 99 0 0)), (1, .int x1), (2, .int x2), (3, .int x3)]) hx hb dX6_isSo_169 hl (k := 4) rfl (by rw [ex4_1]; rfl) (by decide) rfl (fun ls hl => ?_)
  refine lv_goto (tgt := 16) hx hb dX6_isSo_172 (by decide) ?_
  exact hkb16 _ _ _ _ _ ls _ _ O (lv_sub hl [1, 2, 3, 4, 0] rfl) hf
def M_X6_isSo_b91 (kb16 : ST → Int32 → Int32 → Int32 → Int32 → Option (ST × Int32)) (σ : ST) (x1 : Int32) (x2 : Int32) (x3 : Int32) (x4 : Int32) (s1 : Int32) (s2 : Int32) : Option (ST × Int32) :=
  ck (okI s1 420) (lt1 (sI σ 31 0 0 (Int32.toNatClampNeg s1) s2) (fun σ_2 => lt1 (x3 + 1) (fun x3_3 => M_X6_isSo_b169 kb16 σ_2 x1 x2 x3_3 x4)))
theorem w_M_X6_isSo_b91 (X : FX p m c meth s args RX6 cX6_isSo 5 (some .boolean)) (K : XK D d A s) {z : ST × Int32} {kb16 : ST → Int32 → Int32 → Int32 → Int32 → Option (ST × Int32)} (hkb16 : ∀ (σ : ST) (x1 : Int32) (x2 : Int32) (x3 : Int32) (x4 : Int32) (ls : Array Slot) (H : Heap) (locs : List Loc), XH D A s.heap h (xct LM okM h d σ) H locs → lv_has ls 5 [(0, .ref (h 99 0 0)), (1, .int x1), (2, .int x2), (3, .int x3), (4, .int x4)] → kb16 σ x1 x2 x3 x4 = some z → W p l e (rmD 1 0 0) s m args below meth c H locs 0 0 (MQ below (Qi D (pz z) (cw h LM okM d) A) args s 0 0 A) (F0 m 16 ls [])) (σ : ST) (x1 : Int32) (x2 : Int32) (x3 : Int32) (x4 : Int32) (s1 : Int32) (s2 : Int32) (ls : Array Slot) (H : Heap) (locs : List Loc) (O : XH D A s.heap h (xct LM okM h d σ) H locs) (hl : lv_has ls 5 [(0, .ref (h 99 0 0)), (1, .int x1), (2, .int x2), (3, .int x3), (4, .int x4)]) (hf : M_X6_isSo_b91 kb16 σ x1 x2 x3 x4 s1 s2 = some z) : W p l e (rmD 1 0 0) s m args below meth c H locs 0 0 (MQ below (Qi D (pz z) (cw h LM okM d) A) args s 0 0 A) (F0 m 91 ls [.int s2, .int s1, .ref (h 31 0 0)]) := by
  have hx := X.1.1; have hb := X.1.2.1
  rw [M_X6_isSo_b91] at hf
  obtain ⟨c_1, hf⟩ := ck_s hf
  obtain ⟨σ_2, eσ_2, hf⟩ := lt1_s hf
  refine x_ist X K O rfl LM_31 c_1 (j := (Int32.toNatClampNeg s1)) rfl dX6_isSo_91 (fun H locs O => ?_)
  rw [← eσ_2] at O
  refine lv_iload_n hx hb dX6_isSo_92 rfl (lv_at hl 3 rfl) ?_
  refine lv_iconst (v := 1) hx hb dX6_isSo_93 (by decide) ?_
  refine lv_iadd hx hb dX6_isSo_94 ?_
  obtain ⟨x3_3, ex3_3, hf⟩ := lt1_s hf
  refine x_top (w := .int x3_3) (by rw [ex3_3]) ?_
  refine lv_istore_n (lv' := [(3, .int x3_3), (0, .ref (h 99 0 0)), (1, .int x1), (2, .int x2), (4, .int x4)]) hx hb dX6_isSo_95 rfl hl (by decide) rfl (fun ls hl => ?_)
  refine lv_goto (tgt := 169) hx hb dX6_isSo_96 (by decide) ?_
  exact w_M_X6_isSo_b169 X K hkb16 _ _ _ _ _ ls _ _ O (lv_sub hl [1, 2, 3, 0, 4] rfl) hf
def M_X6_isSo_b54 (kb16 : ST → Int32 → Int32 → Int32 → Int32 → Option (ST × Int32)) (σ : ST) (x1 : Int32) (x2 : Int32) (x3 : Int32) (x4 : Int32) : Option (ST × Int32) :=
  ck (okI x4 2800) ((if (gI σ 19 0 0 (Int32.toNatClampNeg x4)) = 0 then ck (okI x4 2800) (M_X6_isSo_b91 kb16 σ x1 x2 x3 x4 x3 (gI σ 20 0 0 (Int32.toNatClampNeg x4))) else ck (okI x4 2800) (ck (okI (gI σ 20 0 0 (Int32.toNatClampNeg x4)) 15) (M_X6_isSo_b91 kb16 σ x1 x2 x3 x4 x3 (gI σ 30 0 0 (Int32.toNatClampNeg (gI σ 20 0 0 (Int32.toNatClampNeg x4))))))))
theorem w_M_X6_isSo_b54 (X : FX p m c meth s args RX6 cX6_isSo 5 (some .boolean)) (K : XK D d A s) {z : ST × Int32} {kb16 : ST → Int32 → Int32 → Int32 → Int32 → Option (ST × Int32)} (hkb16 : ∀ (σ : ST) (x1 : Int32) (x2 : Int32) (x3 : Int32) (x4 : Int32) (ls : Array Slot) (H : Heap) (locs : List Loc), XH D A s.heap h (xct LM okM h d σ) H locs → lv_has ls 5 [(0, .ref (h 99 0 0)), (1, .int x1), (2, .int x2), (3, .int x3), (4, .int x4)] → kb16 σ x1 x2 x3 x4 = some z → W p l e (rmD 1 0 0) s m args below meth c H locs 0 0 (MQ below (Qi D (pz z) (cw h LM okM d) A) args s 0 0 A) (F0 m 16 ls [])) (σ : ST) (x1 : Int32) (x2 : Int32) (x3 : Int32) (x4 : Int32) (ls : Array Slot) (H : Heap) (locs : List Loc) (O : XH D A s.heap h (xct LM okM h d σ) H locs) (hl : lv_has ls 5 [(0, .ref (h 99 0 0)), (1, .int x1), (2, .int x2), (3, .int x3), (4, .int x4)]) (hf : M_X6_isSo_b54 kb16 σ x1 x2 x3 x4 = some z) : W p l e (rmD 1 0 0) s m args below meth c H locs 0 0 (MQ below (Qi D (pz z) (cw h LM okM d) A) args s 0 0 A) (F0 m 54 ls []) := by
  have hx := X.1.1; have hb := X.1.2.1
  rw [M_X6_isSo_b54] at hf
  refine lv_aload_n hx hb dX6_isSo_54 rfl (lv_at hl 0 rfl) ?_
  refine x_gF X K O 31 rfl LM_99 rfl rfl in_X6 (by decide) q1181 dX6_isSo_55 ?_
  refine lv_iload_n hx hb dX6_isSo_58 rfl (lv_at hl 3 rfl) ?_
  refine lv_aload_n hx hb dX6_isSo_59 rfl (lv_at hl 0 rfl) ?_
  refine x_gF X K O 19 rfl LM_99 rfl rfl in_X6 (by decide) q1169 dX6_isSo_60 ?_
  refine lv_iload hx hb dX6_isSo_63 (lv_at hl 4 rfl) ?_
  obtain ⟨c_1, hf⟩ := ck_s hf
  refine x_ild X K O rfl LM_19 c_1 (j := (Int32.toNatClampNeg x4)) rfl dX6_isSo_65 ?_
  refine lv_if_ne (tgt := 79) hx hb dX6_isSo_66 (by decide) (fun c_2 => ?_) (fun c_2 => ?_)
  · replace hf := if_f c_2 hf
    refine lv_aload_n hx hb dX6_isSo_79 rfl (lv_at hl 0 rfl) ?_
    refine x_gF X K O 30 rfl LM_99 rfl rfl in_X6 (by decide) q1180 dX6_isSo_80 ?_
    refine lv_aload_n hx hb dX6_isSo_83 rfl (lv_at hl 0 rfl) ?_
    refine x_gF X K O 20 rfl LM_99 rfl rfl in_X6 (by decide) q1170 dX6_isSo_84 ?_
    refine lv_iload hx hb dX6_isSo_87 (lv_at hl 4 rfl) ?_
    obtain ⟨c_3, hf⟩ := ck_s hf
    refine x_ild X K O rfl LM_20 c_3 (j := (Int32.toNatClampNeg x4)) rfl dX6_isSo_89 ?_
    obtain ⟨c_4, hf⟩ := ck_s hf
    refine x_ild X K O rfl LM_30 c_4 (j := (Int32.toNatClampNeg (gI σ 20 0 0 (Int32.toNatClampNeg x4)))) rfl dX6_isSo_90 ?_
    exact w_M_X6_isSo_b91 X K hkb16 _ _ _ _ _ _ _ ls _ _ O (lv_sub hl [0, 1, 2, 3, 4] rfl) hf
  · replace hf := if_t c_2 hf
    refine lv_aload_n hx hb dX6_isSo_69 rfl (lv_at hl 0 rfl) ?_
    refine x_gF X K O 20 rfl LM_99 rfl rfl in_X6 (by decide) q1170 dX6_isSo_70 ?_
    refine lv_iload hx hb dX6_isSo_73 (lv_at hl 4 rfl) ?_
    obtain ⟨c_5, hf⟩ := ck_s hf
    refine x_ild X K O rfl LM_20 c_5 (j := (Int32.toNatClampNeg x4)) rfl dX6_isSo_75 ?_
    refine lv_goto (tgt := 91) hx hb dX6_isSo_76 (by decide) ?_
    exact w_M_X6_isSo_b91 X K hkb16 _ _ _ _ _ _ _ ls _ _ O (lv_sub hl [0, 1, 2, 3, 4] rfl) hf
def M_X6_isSo_b16 : Nat → ST → Int32 → Int32 → Int32 → Int32 → Option (ST × Int32)
  | 0, _, _, _, _, _ => none
  | n + 1, σ, x1, x2, x3, x4 =>
    ck (okI x2 112) ((if ((400 * x1) + (gI σ 18 0 0 (Int32.toNatClampNeg x2))) ≤ x4 then (if (gI σ 31 0 0 0) = 0 then some (σ, 0) else some (σ, 1)) else ck (okI x4 2800) ((if (gI σ 19 0 0 (Int32.toNatClampNeg x4)) = 0 then M_X6_isSo_b54 (M_X6_isSo_b16 n) σ x1 x2 x3 x4 else ck (okI x4 2800) ((if (gI σ 19 0 0 (Int32.toNatClampNeg x4)) = 1 then M_X6_isSo_b54 (M_X6_isSo_b16 n) σ x1 x2 x3 x4 else ck (okI x4 2800) ((if (gI σ 19 0 0 (Int32.toNatClampNeg x4)) = 9 then ck (okI (x3 - 1) 420) (ck (okI (x3 - 1) 420) (lt1 (sI σ 31 0 0 (Int32.toNatClampNeg (x3 - 1)) (1 - (gI σ 31 0 0 (Int32.toNatClampNeg (x3 - 1))))) (fun σ_20 => M_X6_isSo_b169 (M_X6_isSo_b16 n) σ_20 x1 x2 x3 x4))) else lt1 (x3 - 1) (fun x3_10 => ck (okI x4 2800) (ck (okI (x3_10 - 1) 420) (ck (okI x3_10 420) (bn2 (M_X6_twoOf σ (gI σ 19 0 0 (Int32.toNatClampNeg x4)) (gI σ 31 0 0 (Int32.toNatClampNeg (x3_10 - 1))) (gI σ 31 0 0 (Int32.toNatClampNeg x3_10))) (fun σ_14 r_15 => ck (okI (x3_10 - 1) 420) (lt1 (sI σ_14 31 0 0 (Int32.toNatClampNeg (x3_10 - 1)) r_15) (fun σ_17 => M_X6_isSo_b169 (M_X6_isSo_b16 n) σ_17 x1 x2 x3_10 x4)))))))))))))))
theorem w_M_X6_isSo_b16 (X : FX p m c meth s args RX6 cX6_isSo 5 (some .boolean)) (K : XK D d A s) {z : ST × Int32} : ∀ (n : Nat) (σ : ST) (x1 : Int32) (x2 : Int32) (x3 : Int32) (x4 : Int32) (ls : Array Slot) (H : Heap) (locs : List Loc), XH D A s.heap h (xct LM okM h d σ) H locs → lv_has ls 5 [(0, .ref (h 99 0 0)), (1, .int x1), (2, .int x2), (3, .int x3), (4, .int x4)] → M_X6_isSo_b16 n σ x1 x2 x3 x4 = some z → W p l e (rmD 1 0 0) s m args below meth c H locs 0 0 (MQ below (Qi D (pz z) (cw h LM okM d) A) args s 0 0 A) (F0 m 16 ls []) := by
  have hx := X.1.1; have hb := X.1.2.1
  intro n
  induction n with
  | zero =>
    intro σ x1 x2 x3 x4 ls H locs O hl hf
    exact absurd hf (fun q => by cases q)
  | succ n ih =>
    intro σ x1 x2 x3 x4 ls H locs O hl hf
    rw [M_X6_isSo_b16] at hf
    refine lv_iload hx hb dX6_isSo_16 (lv_at hl 4 rfl) ?_
    refine lv_sipush (v := 400) hx hb dX6_isSo_18 (by decide) ?_
    refine lv_iload_n hx hb dX6_isSo_21 rfl (lv_at hl 1 rfl) ?_
    refine lv_imul hx hb dX6_isSo_22 ?_
    refine lv_aload_n hx hb dX6_isSo_23 rfl (lv_at hl 0 rfl) ?_
    refine x_gF X K O 18 rfl LM_99 rfl rfl in_X6 (by decide) q1168 dX6_isSo_24 ?_
    refine lv_iload_n hx hb dX6_isSo_27 rfl (lv_at hl 2 rfl) ?_
    obtain ⟨c_1, hf⟩ := ck_s hf
    refine x_ild X K O rfl LM_18 c_1 (j := (Int32.toNatClampNeg x2)) rfl dX6_isSo_28 ?_
    refine lv_iadd hx hb dX6_isSo_29 ?_
    refine lv_icmp_ge (tgt := 175) hx hb dX6_isSo_30 (by decide) (fun c_2 => ?_) (fun c_2 => ?_)
    · replace hf := if_t c_2 hf
      refine lv_aload_n hx hb dX6_isSo_175 rfl (lv_at hl 0 rfl) ?_
      refine x_gF X K O 31 rfl LM_99 rfl rfl in_X6 (by decide) q1181 dX6_isSo_176 ?_
      refine lv_iconst (v := 0) hx hb dX6_isSo_179 (by decide) ?_
      refine x_ild X K O rfl LM_31 (by decide) (j := 0) rfl dX6_isSo_180 ?_
      refine lv_if_eq (tgt := 188) hx hb dX6_isSo_181 (by decide) (fun c_3 => ?_) (fun c_3 => ?_)
      · replace hf := if_t c_3 hf
        refine lv_iconst (v := 0) hx hb dX6_isSo_188 (by decide) ?_
        exact x_zret X O rfl rfl _ (Option.some.inj hf).symm rfl dX6_isSo_189
      · replace hf := if_f c_3 hf
        refine lv_iconst (v := 1) hx hb dX6_isSo_184 (by decide) ?_
        refine lv_goto (tgt := 189) hx hb dX6_isSo_185 (by decide) ?_
        exact x_zret X O rfl rfl _ (Option.some.inj hf).symm rfl dX6_isSo_189
    · replace hf := if_f c_2 hf
      refine lv_aload_n hx hb dX6_isSo_33 rfl (lv_at hl 0 rfl) ?_
      refine x_gF X K O 19 rfl LM_99 rfl rfl in_X6 (by decide) q1169 dX6_isSo_34 ?_
      refine lv_iload hx hb dX6_isSo_37 (lv_at hl 4 rfl) ?_
      obtain ⟨c_4, hf⟩ := ck_s hf
      refine x_ild X K O rfl LM_19 c_4 (j := (Int32.toNatClampNeg x4)) rfl dX6_isSo_39 ?_
      refine lv_if_eq (tgt := 54) hx hb dX6_isSo_40 (by decide) (fun c_5 => ?_) (fun c_5 => ?_)
      · replace hf := if_t c_5 hf
        exact w_M_X6_isSo_b54 X K ih _ _ _ _ _ ls _ _ O (lv_sub hl [0, 1, 2, 3, 4] rfl) hf
      · replace hf := if_f c_5 hf
        refine lv_aload_n hx hb dX6_isSo_43 rfl (lv_at hl 0 rfl) ?_
        refine x_gF X K O 19 rfl LM_99 rfl rfl in_X6 (by decide) q1169 dX6_isSo_44 ?_
        refine lv_iload hx hb dX6_isSo_47 (lv_at hl 4 rfl) ?_
        obtain ⟨c_6, hf⟩ := ck_s hf
        refine x_ild X K O rfl LM_19 c_6 (j := (Int32.toNatClampNeg x4)) rfl dX6_isSo_49 ?_
        refine lv_iconst (v := 1) hx hb dX6_isSo_50 (by decide) ?_
        refine lv_icmp_ne (tgt := 99) hx hb dX6_isSo_51 (by decide) (fun c_7 => ?_) (fun c_7 => ?_)
        · replace hf := if_f c_7 hf
          refine lv_aload_n hx hb dX6_isSo_99 rfl (lv_at hl 0 rfl) ?_
          refine x_gF X K O 19 rfl LM_99 rfl rfl in_X6 (by decide) q1169 dX6_isSo_100 ?_
          refine lv_iload hx hb dX6_isSo_103 (lv_at hl 4 rfl) ?_
          obtain ⟨c_8, hf⟩ := ck_s hf
          refine x_ild X K O rfl LM_19 c_8 (j := (Int32.toNatClampNeg x4)) rfl dX6_isSo_105 ?_
          refine lv_bipush (v := 9) hx hb dX6_isSo_106 (by decide) ?_
          refine lv_icmp_ne (tgt := 132) hx hb dX6_isSo_108 (by decide) (fun c_9 => ?_) (fun c_9 => ?_)
          · replace hf := if_f c_9 hf
            refine lv_iload_n hx hb dX6_isSo_132 rfl (lv_at hl 3 rfl) ?_
            refine lv_iconst (v := 1) hx hb dX6_isSo_133 (by decide) ?_
            refine lv_isub hx hb dX6_isSo_134 ?_
            obtain ⟨x3_10, ex3_10, hf⟩ := lt1_s hf
            refine x_top (w := .int x3_10) (by rw [ex3_10]) ?_
            refine lv_istore_n (lv' := [(3, .int x3_10), (0, .ref (h 99 0 0)), (1, .int x1), (2, .int x2), (4, .int x4)]) hx hb dX6_isSo_135 rfl hl (by decide) rfl (fun ls hl => ?_)
            refine lv_aload_n hx hb dX6_isSo_136 rfl (lv_at hl 1 rfl) ?_
            refine x_gF X K O 31 rfl LM_99 rfl rfl in_X6 (by decide) q1181 dX6_isSo_137 ?_
            refine lv_iload_n hx hb dX6_isSo_140 rfl (lv_at hl 0 rfl) ?_
            refine lv_iconst (v := 1) hx hb dX6_isSo_141 (by decide) ?_
            refine lv_isub hx hb dX6_isSo_142 ?_
            refine lv_aload_n hx hb dX6_isSo_143 rfl (lv_at hl 1 rfl) ?_
            refine lv_aload_n hx hb dX6_isSo_144 rfl (lv_at hl 1 rfl) ?_
            refine x_gF X K O 19 rfl LM_99 rfl rfl in_X6 (by decide) q1169 dX6_isSo_145 ?_
            refine lv_iload hx hb dX6_isSo_148 (lv_at hl 4 rfl) ?_
            obtain ⟨c_11, hf⟩ := ck_s hf
            refine x_ild X K O rfl LM_19 c_11 (j := (Int32.toNatClampNeg x4)) rfl dX6_isSo_150 ?_
            refine lv_aload_n hx hb dX6_isSo_151 rfl (lv_at hl 1 rfl) ?_
            refine x_gF X K O 31 rfl LM_99 rfl rfl in_X6 (by decide) q1181 dX6_isSo_152 ?_
            refine lv_iload_n hx hb dX6_isSo_155 rfl (lv_at hl 0 rfl) ?_
            refine lv_iconst (v := 1) hx hb dX6_isSo_156 (by decide) ?_
            refine lv_isub hx hb dX6_isSo_157 ?_
            obtain ⟨c_12, hf⟩ := ck_s hf
            refine x_ild X K O rfl LM_31 c_12 (j := (Int32.toNatClampNeg (x3_10 - 1))) rfl dX6_isSo_158 ?_
            refine lv_aload_n hx hb dX6_isSo_159 rfl (lv_at hl 1 rfl) ?_
            refine x_gF X K O 31 rfl LM_99 rfl rfl in_X6 (by decide) q1181 dX6_isSo_160 ?_
            refine lv_iload_n hx hb dX6_isSo_163 rfl (lv_at hl 0 rfl) ?_
            obtain ⟨c_13, hf⟩ := ck_s hf
            refine x_ild X K O rfl LM_31 c_13 (j := (Int32.toNatClampNeg x3_10)) rfl dX6_isSo_164 ?_
            obtain ⟨σ_14, r_15, hg, hf⟩ := bn2_s hf
            refine x_calli (x_runV (As := [.int (gI σ 19 0 0 (Int32.toNatClampNeg x4)), .int (gI σ 31 0 0 (Int32.toNatClampNeg (x3_10 - 1))), .int (gI σ 31 0 0 (Int32.toNatClampNeg x3_10))]) (rest := [.int (x3_10 - 1), .ref (h 31 0 0)]) X K O (xct_obj rfl LM_99) rfl (m_M_X6_twoOf hg) EN_b EN_h (lw_V q1480 q1482 qs75 q124 q1483) 3 rfl hl.1 (Nat.le_of_ble_eq_true rfl) hdV_X6_twoOf ⟨by decide, by decide⟩ ⟨Nat.le_refl _, Nat.le_refl _⟩ dX6_isSo_165) (fun r u H locs hp O _ => ?_)
            cases hp
            have O : XH D A s.heap h (xct LM okM h d σ_14) H locs := O
            obtain ⟨c_16, hf⟩ := ck_s hf
            obtain ⟨σ_17, eσ_17, hf⟩ := lt1_s hf
            refine x_ist X K O rfl LM_31 c_16 (j := (Int32.toNatClampNeg (x3_10 - 1))) rfl dX6_isSo_168 (fun H locs O => ?_)
            rw [← eσ_17] at O
            exact w_M_X6_isSo_b169 X K ih _ _ _ _ _ ls _ _ O (lv_sub hl [1, 2, 3, 0, 4] rfl) hf
          · replace hf := if_t c_9 hf
            refine lv_aload_n hx hb dX6_isSo_111 rfl (lv_at hl 0 rfl) ?_
            refine x_gF X K O 31 rfl LM_99 rfl rfl in_X6 (by decide) q1181 dX6_isSo_112 ?_
            refine lv_iload_n hx hb dX6_isSo_115 rfl (lv_at hl 3 rfl) ?_
            refine lv_iconst (v := 1) hx hb dX6_isSo_116 (by decide) ?_
            refine lv_isub hx hb dX6_isSo_117 ?_
            refine lv_iconst (v := 1) hx hb dX6_isSo_118 (by decide) ?_
            refine lv_aload_n hx hb dX6_isSo_119 rfl (lv_at hl 0 rfl) ?_
            refine x_gF X K O 31 rfl LM_99 rfl rfl in_X6 (by decide) q1181 dX6_isSo_120 ?_
            refine lv_iload_n hx hb dX6_isSo_123 rfl (lv_at hl 3 rfl) ?_
            refine lv_iconst (v := 1) hx hb dX6_isSo_124 (by decide) ?_
            refine lv_isub hx hb dX6_isSo_125 ?_
            obtain ⟨c_18, hf⟩ := ck_s hf
            refine x_ild X K O rfl LM_31 c_18 (j := (Int32.toNatClampNeg (x3 - 1))) rfl dX6_isSo_126 ?_
            refine lv_isub hx hb dX6_isSo_127 ?_
            obtain ⟨c_19, hf⟩ := ck_s hf
            obtain ⟨σ_20, eσ_20, hf⟩ := lt1_s hf
            refine x_ist X K O rfl LM_31 c_19 (j := (Int32.toNatClampNeg (x3 - 1))) rfl dX6_isSo_128 (fun H locs O => ?_)
            rw [← eσ_20] at O
            refine lv_goto (tgt := 169) hx hb dX6_isSo_129 (by decide) ?_
            exact w_M_X6_isSo_b169 X K ih _ _ _ _ _ ls _ _ O (lv_sub hl [0, 1, 2, 3, 4] rfl) hf
        · replace hf := if_t c_7 hf
          exact w_M_X6_isSo_b54 X K ih _ _ _ _ _ ls _ _ O (lv_sub hl [0, 1, 2, 3, 4] rfl) hf
def M_X6_isSo (σ : ST) (p1 : Int32) (p2 : Int32) : Option (ST × Int32) :=
  ck (okI p2 112) (lt1 ((400 * p1) + (gI σ 17 0 0 (Int32.toNatClampNeg p2))) (fun x4_2 => M_X6_isSo_b16 FUEL σ p1 p2 0 x4_2))
theorem m_M_X6_isSo {l : Launch} {D : va_G} {d : Nat → ClassId} {h : IX} {p1 : Int32} {p2 : Int32} {σ : ST} {z : ST × Int32} (hf : M_X6_isSo σ p1 p2 = some z) : XM l D d EN yX6_isSo cX6_isSo 5 (some .boolean) 1 0 0 [.ref (h 99 0 0), .int p1, .int p2] h (xct LM okM h d σ) (Qi D (pz z) (cw h LM okM d)) := by
  refine XM.of (by decide +kernel) (Nat.le_of_ble_eq_true rfl) ?_
  intro p e s m below meth c A ls X _ K _ O hl
  have hl : lv_has ls 5 [(0, .ref (h 99 0 0)), (1, .int p1), (2, .int p2)] := hl
  have hx := X.1.1; have hb := X.1.2.1
  rw [M_X6_isSo] at hf
  refine lv_iconst (v := 0) hx hb dX6_isSo_0 (by decide) ?_
  refine lv_istore_n (lv' := [(3, .int 0), (0, .ref (h 99 0 0)), (1, .int p1), (2, .int p2)]) hx hb dX6_isSo_1 rfl hl (by decide) rfl (fun ls hl => ?_)
  refine lv_sipush (v := 400) hx hb dX6_isSo_2 (by decide) ?_
  refine lv_iload_n hx hb dX6_isSo_5 rfl (lv_at hl 2 rfl) ?_
  refine lv_imul hx hb dX6_isSo_6 ?_
  refine lv_aload_n hx hb dX6_isSo_7 rfl (lv_at hl 1 rfl) ?_
  refine x_gF X K O 17 rfl LM_99 rfl rfl in_X6 (by decide) q1167 dX6_isSo_8 ?_
  refine lv_iload_n hx hb dX6_isSo_11 rfl (lv_at hl 3 rfl) ?_
  obtain ⟨c_1, hf⟩ := ck_s hf
  refine x_ild X K O rfl LM_17 c_1 (j := (Int32.toNatClampNeg p2)) rfl dX6_isSo_12 ?_
  refine lv_iadd hx hb dX6_isSo_13 ?_
  obtain ⟨x4_2, ex4_2, hf⟩ := lt1_s hf
  refine x_top (w := .int x4_2) (by rw [ex4_2]) ?_
  refine lv_istore (lv' := [(4, .int x4_2), (3, .int 0), (0, .ref (h 99 0 0)), (1, .int p1), (2, .int p2)]) hx hb dX6_isSo_14 hl (by decide) rfl (fun ls hl => ?_)
  exact w_M_X6_isSo_b16 X K _ _ _ _ _ _ ls _ _ O (lv_sub hl [2, 3, 4, 1, 0] rfl) hf
theorem hdV_X6_asksOwn : yX6_asksOwn.cls = RX6 ∧ (yX6_asksOwn.cls ≠ "java/lang/invoke/MethodHandle" ∧ yX6_asksOwn.cls ≠ "java/lang/invoke/VarHandle" ∧ (parseMethodDescriptor yX6_asksOwn.desc).map (fun d => d.parameters.length) = some 2) := by decide +kernel
theorem hdV_X6_isSo : yX6_isSo.cls = RX6 ∧ (yX6_isSo.cls ≠ "java/lang/invoke/MethodHandle" ∧ yX6_isSo.cls ≠ "java/lang/invoke/VarHandle" ∧ (parseMethodDescriptor yX6_isSo.desc).map (fun d => d.parameters.length) = some 2) := by decide +kernel
def M_X6_isLawful_b20 : Nat → ST → Int32 → Int32 → Option (ST × Int32)
  | 0, _, _, _ => none
  | n + 1, σ, x3, x4 =>
    ck (okI x3 7) ((if ((16 * x3) + (gI σ 15 0 0 (Int32.toNatClampNeg x3))) ≤ x4 then some (σ, 0) else bn2 (M_X6_isSo σ x3 x4) (fun σ_3 r_4 => (if r_4 = 0 then lt1 (x4 + 1) (fun x4_6 => (M_X6_isLawful_b20 n) σ_3 x3 x4_6) else some (σ_3, 1)))))
theorem w_M_X6_isLawful_b20 (X : FX p m c meth s args RX6 cX6_isLawful 5 (some .boolean)) (K : XK D d A s) {z : ST × Int32} : ∀ (n : Nat) (σ : ST) (x3 : Int32) (x4 : Int32) (ls : Array Slot) (H : Heap) (locs : List Loc), XH D A s.heap h (xct LM okM h d σ) H locs → lv_has ls 5 [(0, .ref (h 99 0 0)), (3, .int x3), (4, .int x4)] → M_X6_isLawful_b20 n σ x3 x4 = some z → W p l e (rmD 2 0 0) s m args below meth c H locs 0 0 (MQ below (Qi D (pz z) (cw h LM okM d) A) args s 0 0 A) (F0 m 20 ls []) := by
  have hx := X.1.1; have hb := X.1.2.1
  intro n
  induction n with
  | zero =>
    intro σ x3 x4 ls H locs O hl hf
    exact absurd hf (fun q => by cases q)
  | succ n ih =>
    intro σ x3 x4 ls H locs O hl hf
    rw [M_X6_isLawful_b20] at hf
    refine lv_iload hx hb dX6_isLawful_20 (lv_at hl 2 rfl) ?_
    refine lv_bipush (v := 16) hx hb dX6_isLawful_22 (by decide) ?_
    refine lv_iload_n hx hb dX6_isLawful_24 rfl (lv_at hl 1 rfl) ?_
    refine lv_imul hx hb dX6_isLawful_25 ?_
    refine lv_aload_n hx hb dX6_isLawful_26 rfl (lv_at hl 0 rfl) ?_
    refine x_gF X K O 15 rfl LM_99 rfl rfl in_X6 (by decide) q1165 dX6_isLawful_27 ?_
    refine lv_iload_n hx hb dX6_isLawful_30 rfl (lv_at hl 1 rfl) ?_
    obtain ⟨c_1, hf⟩ := ck_s hf
    refine x_ild X K O rfl LM_15 c_1 (j := (Int32.toNatClampNeg x3)) rfl dX6_isLawful_31 ?_
    refine lv_iadd hx hb dX6_isLawful_32 ?_
    refine lv_icmp_ge (tgt := 54) hx hb dX6_isLawful_33 (by decide) (fun c_2 => ?_) (fun c_2 => ?_)
    · replace hf := if_t c_2 hf
      refine lv_iconst (v := 0) hx hb dX6_isLawful_54 (by decide) ?_
      exact x_zret X O rfl rfl _ (Option.some.inj hf).symm rfl dX6_isLawful_55
    · replace hf := if_f c_2 hf
      refine lv_aload_n hx hb dX6_isLawful_36 rfl (lv_at hl 0 rfl) ?_
      refine lv_iload_n hx hb dX6_isLawful_37 rfl (lv_at hl 1 rfl) ?_
      refine lv_iload hx hb dX6_isLawful_38 (lv_at hl 2 rfl) ?_
      obtain ⟨σ_3, r_4, hg, hf⟩ := bn2_s hf
      refine x_calli (x_runV (As := [.int x3, .int x4]) (rest := []) X K O (xct_obj rfl LM_99) rfl (m_M_X6_isSo hg) EN_b EN_h (lw_V q1476 q1478 qs74 q124 q1479) 2 rfl hl.1 (Nat.le_of_ble_eq_true rfl) hdV_X6_isSo ⟨by decide, by decide⟩ ⟨Nat.le_refl _, Nat.le_refl _⟩ dX6_isLawful_40) (fun r u H locs hp O _ => ?_)
      cases hp
      have O : XH D A s.heap h (xct LM okM h d σ_3) H locs := O
      refine lv_if_eq (tgt := 48) hx hb dX6_isLawful_43 (by decide) (fun c_5 => ?_) (fun c_5 => ?_)
      · replace hf := if_t c_5 hf
        obtain ⟨x4_6, ex4_6, hf⟩ := lt1_s hf
        refine lv_iinc (v := x4_6) (lv' := [(4, .int x4_6), (0, .ref (h 99 0 0)), (3, .int x3)]) hx hb dX6_isLawful_48 hl (k := 2) rfl (by rw [ex4_6]; rfl) (by decide) rfl (fun ls hl => ?_)
        refine lv_goto (tgt := 20) hx hb dX6_isLawful_51 (by decide) ?_
        exact ih _ _ _ ls _ _ O (lv_sub hl [1, 2, 0] rfl) hf
      · replace hf := if_f c_5 hf
        refine lv_iconst (v := 1) hx hb dX6_isLawful_46 (by decide) ?_
        exact x_zret X O rfl rfl _ (Option.some.inj hf).symm rfl dX6_isLawful_47
def M_X6_isLawful (σ : ST) (p1 : Int32) (p2 : Int32) : Option (ST × Int32) :=
  bn1 (M_X6_asksOwn σ p1 p2) (fun σ_1 => lt1 (gI σ_1 6 0 0 9) (fun x3_2 => lt1 (16 * x3_2) (fun x4_3 => M_X6_isLawful_b20 FUEL σ_1 x3_2 x4_3)))
theorem m_M_X6_isLawful {l : Launch} {D : va_G} {d : Nat → ClassId} {h : IX} {p1 : Int32} {p2 : Int32} {σ : ST} {z : ST × Int32} (hf : M_X6_isLawful σ p1 p2 = some z) : XM l D d EN yX6_isLawful cX6_isLawful 5 (some .boolean) 2 0 0 [.ref (h 99 0 0), .int p1, .int p2] h (xct LM okM h d σ) (Qi D (pz z) (cw h LM okM d)) := by
  refine XM.of (by decide +kernel) (Nat.le_of_ble_eq_true rfl) ?_
  intro p e s m below meth c A ls X _ K _ O hl
  have hl : lv_has ls 5 [(0, .ref (h 99 0 0)), (1, .int p1), (2, .int p2)] := hl
  have hx := X.1.1; have hb := X.1.2.1
  rw [M_X6_isLawful] at hf
  refine lv_aload_n hx hb dX6_isLawful_0 rfl (lv_at hl 0 rfl) ?_
  refine lv_iload_n hx hb dX6_isLawful_1 rfl (lv_at hl 1 rfl) ?_
  refine lv_iload_n hx hb dX6_isLawful_2 rfl (lv_at hl 2 rfl) ?_
  obtain ⟨σ_1, hg, hf⟩ := bn1_s hf
  refine x_callv (x_runV (As := [.int p1, .int p2]) (rest := []) X K O (xct_obj rfl LM_99) rfl (m_M_X6_asksOwn hg) EN_b EN_h (lw_V q1472 q1474 qs73 q124 q1475) 2 rfl hl.1 (Nat.le_of_ble_eq_true rfl) hdV_X6_asksOwn ⟨by decide, by decide⟩ ⟨Nat.le_refl _, Nat.le_refl _⟩ dX6_isLawful_3) (fun u H locs hp O _ => ?_)
  cases hp
  have O : XH D A s.heap h (xct LM okM h d σ_1) H locs := O
  refine lv_aload_n hx hb dX6_isLawful_6 rfl (lv_at hl 0 rfl) ?_
  refine x_gF X K O 6 rfl LM_99 rfl rfl in_X6 (by decide) q1156 dX6_isLawful_7 ?_
  refine lv_bipush (v := 9) hx hb dX6_isLawful_10 (by decide) ?_
  refine x_ild X K O rfl LM_6 (by decide) (j := 9) rfl dX6_isLawful_12 ?_
  obtain ⟨x3_2, ex3_2, hf⟩ := lt1_s hf
  refine x_top (w := .int x3_2) (by rw [ex3_2]) ?_
  refine lv_istore_n (lv' := [(3, .int x3_2), (0, .ref (h 99 0 0)), (1, .int p1), (2, .int p2)]) hx hb dX6_isLawful_13 rfl hl (by decide) rfl (fun ls hl => ?_)
  refine lv_bipush (v := 16) hx hb dX6_isLawful_14 (by decide) ?_
  refine lv_iload_n hx hb dX6_isLawful_16 rfl (lv_at hl 0 rfl) ?_
  refine lv_imul hx hb dX6_isLawful_17 ?_
  obtain ⟨x4_3, ex4_3, hf⟩ := lt1_s hf
  refine x_top (w := .int x4_3) (by rw [ex4_3]) ?_
  refine lv_istore (lv' := [(4, .int x4_3), (3, .int x3_2), (0, .ref (h 99 0 0)), (1, .int p1), (2, .int p2)]) hx hb dX6_isLawful_18 hl (by decide) rfl (fun ls hl => ?_)
  exact w_M_X6_isLawful_b20 X K _ _ _ _ ls _ _ O (lv_sub hl [2, 1, 0] rfl) hf
theorem hdV_X6_isLawful : yX6_isLawful.cls = RX6 ∧ (yX6_isLawful.cls ≠ "java/lang/invoke/MethodHandle" ∧ yX6_isLawful.cls ≠ "java/lang/invoke/VarHandle" ∧ (parseMethodDescriptor yX6_isLawful.desc).map (fun d => d.parameters.length) = some 2) := by decide +kernel
def M_X6_tells_b218 (kb169 : ST → Int32 → Int32 → Int32 → Int32 → Option (ST × Int32)) (σ : ST) (x4 : Int32) (x8 : Int32) (x9 : Int32) (x10 : Int32) : Option (ST × Int32) :=
  lt1 (x10 + 1) (fun x10_1 => kb169 σ x4 x8 x9 x10_1)
theorem w_M_X6_tells_b218 (X : FX p m c meth s args RX6 cX6_tells 11 (some .boolean)) (K : XK D d A s) {z : ST × Int32} {kb169 : ST → Int32 → Int32 → Int32 → Int32 → Option (ST × Int32)} (hkb169 : ∀ (σ : ST) (x4 : Int32) (x8 : Int32) (x9 : Int32) (x10 : Int32) (ls : Array Slot) (H : Heap) (locs : List Loc), XH D A s.heap h (xct LM okM h d σ) H locs → lv_has ls 11 [(0, .ref (h 99 0 0)), (4, .int x4), (8, .int x8), (9, .int x9), (10, .int x10)] → kb169 σ x4 x8 x9 x10 = some z → W p l e (rmD 3 0 0) s m args below meth c H locs 0 0 (MQ below (Qi D (pz z) (cw h LM okM d) A) args s 0 0 A) (F0 m 169 ls [])) (σ : ST) (x4 : Int32) (x8 : Int32) (x9 : Int32) (x10 : Int32) (ls : Array Slot) (H : Heap) (locs : List Loc) (O : XH D A s.heap h (xct LM okM h d σ) H locs) (hl : lv_has ls 11 [(0, .ref (h 99 0 0)), (4, .int x4), (8, .int x8), (9, .int x9), (10, .int x10)]) (hf : M_X6_tells_b218 kb169 σ x4 x8 x9 x10 = some z) : W p l e (rmD 3 0 0) s m args below meth c H locs 0 0 (MQ below (Qi D (pz z) (cw h LM okM d) A) args s 0 0 A) (F0 m 218 ls []) := by
  have hx := X.1.1; have hb := X.1.2.1
  rw [M_X6_tells_b218] at hf
  obtain ⟨x10_1, ex10_1, hf⟩ := lt1_s hf
  refine lv_iinc (v := x10_1) (lv' := [(10, .int x10_1), (0, .ref (h 99 0 0)), (4, .int x4), (8, .int x8), (9, .int x9)]) hx hb dX6_tells_218 hl (k := 4) rfl (by rw [ex10_1]; rfl) (by decide) rfl (fun ls hl => ?_)
  refine lv_goto (tgt := 169) hx hb dX6_tells_221 (by decide) ?_
  exact hkb169 _ _ _ _ _ ls _ _ O (lv_sub hl [1, 2, 3, 4, 0] rfl) hf
def M_X6_tells_b169 : Nat → ST → Int32 → Int32 → Int32 → Int32 → Option (ST × Int32)
  | 0, _, _, _, _, _ => none
  | n + 1, σ, x4, x8, x9, x10 =>
    ck (okI x8 7) ((if ((16 * x8) + (gI σ 15 0 0 (Int32.toNatClampNeg x8))) ≤ x10 then ck (okZ x9) (some (σ, x9)) else ck (okI x10 112) ((if (gI σ 16 0 0 (Int32.toNatClampNeg x10)) = x4 then bn2 (M_X6_isSo σ x8 x10) (fun σ_6 r_7 => (if r_7 = 0 then M_X6_tells_b218 (M_X6_tells_b169 n) σ_6 x4 x8 0 x10 else some (σ_6, 1))) else M_X6_tells_b218 (M_X6_tells_b169 n) σ x4 x8 x9 x10))))
theorem w_M_X6_tells_b169 (X : FX p m c meth s args RX6 cX6_tells 11 (some .boolean)) (K : XK D d A s) {z : ST × Int32} : ∀ (n : Nat) (σ : ST) (x4 : Int32) (x8 : Int32) (x9 : Int32) (x10 : Int32) (ls : Array Slot) (H : Heap) (locs : List Loc), XH D A s.heap h (xct LM okM h d σ) H locs → lv_has ls 11 [(0, .ref (h 99 0 0)), (4, .int x4), (8, .int x8), (9, .int x9), (10, .int x10)] → M_X6_tells_b169 n σ x4 x8 x9 x10 = some z → W p l e (rmD 3 0 0) s m args below meth c H locs 0 0 (MQ below (Qi D (pz z) (cw h LM okM d) A) args s 0 0 A) (F0 m 169 ls []) := by
  have hx := X.1.1; have hb := X.1.2.1
  intro n
  induction n with
  | zero =>
    intro σ x4 x8 x9 x10 ls H locs O hl hf
    exact absurd hf (fun q => by cases q)
  | succ n ih =>
    intro σ x4 x8 x9 x10 ls H locs O hl hf
    rw [M_X6_tells_b169] at hf
    refine lv_iload hx hb dX6_tells_169 (lv_at hl 4 rfl) ?_
    refine lv_bipush (v := 16) hx hb dX6_tells_171 (by decide) ?_
    refine lv_iload hx hb dX6_tells_173 (lv_at hl 2 rfl) ?_
    refine lv_imul hx hb dX6_tells_175 ?_
    refine lv_aload_n hx hb dX6_tells_176 rfl (lv_at hl 0 rfl) ?_
    refine x_gF X K O 15 rfl LM_99 rfl rfl in_X6 (by decide) q1165 dX6_tells_177 ?_
    refine lv_iload hx hb dX6_tells_180 (lv_at hl 2 rfl) ?_
    obtain ⟨c_1, hf⟩ := ck_s hf
    refine x_ild X K O rfl LM_15 c_1 (j := (Int32.toNatClampNeg x8)) rfl dX6_tells_182 ?_
    refine lv_iadd hx hb dX6_tells_183 ?_
    refine lv_icmp_ge (tgt := 224) hx hb dX6_tells_184 (by decide) (fun c_2 => ?_) (fun c_2 => ?_)
    · replace hf := if_t c_2 hf
      refine lv_iload hx hb dX6_tells_224 (lv_at hl 3 rfl) ?_
      obtain ⟨c_3, hf⟩ := ck_s hf
      exact x_zret X O rfl (okZ_n c_3) _ (Option.some.inj hf).symm rfl dX6_tells_226
    · replace hf := if_f c_2 hf
      refine lv_aload_n hx hb dX6_tells_187 rfl (lv_at hl 0 rfl) ?_
      refine x_gF X K O 16 rfl LM_99 rfl rfl in_X6 (by decide) q1166 dX6_tells_188 ?_
      refine lv_iload hx hb dX6_tells_191 (lv_at hl 4 rfl) ?_
      obtain ⟨c_4, hf⟩ := ck_s hf
      refine x_ild X K O rfl LM_16 c_4 (j := (Int32.toNatClampNeg x10)) rfl dX6_tells_193 ?_
      refine lv_iload hx hb dX6_tells_194 (lv_at hl 1 rfl) ?_
      refine lv_icmp_eq (tgt := 202) hx hb dX6_tells_196 (by decide) (fun c_5 => ?_) (fun c_5 => ?_)
      · replace hf := if_t c_5 hf
        refine lv_aload_n hx hb dX6_tells_202 rfl (lv_at hl 0 rfl) ?_
        refine lv_iload hx hb dX6_tells_203 (lv_at hl 2 rfl) ?_
        refine lv_iload hx hb dX6_tells_205 (lv_at hl 4 rfl) ?_
        obtain ⟨σ_6, r_7, hg, hf⟩ := bn2_s hf
        refine x_calli (x_runV (As := [.int x8, .int x10]) (rest := []) X K O (xct_obj rfl LM_99) rfl (m_M_X6_isSo hg) EN_b EN_h (lw_V q1476 q1478 qs74 q124 q1479) 2 rfl hl.1 (Nat.le_of_ble_eq_true rfl) hdV_X6_isSo ⟨by decide, by decide⟩ ⟨Nat.le_refl _, Nat.le_refl _⟩ dX6_tells_207) (fun r u H locs hp O _ => ?_)
        cases hp
        have O : XH D A s.heap h (xct LM okM h d σ_6) H locs := O
        refine lv_if_eq (tgt := 215) hx hb dX6_tells_210 (by decide) (fun c_8 => ?_) (fun c_8 => ?_)
        · replace hf := if_t c_8 hf
          refine lv_iconst (v := 0) hx hb dX6_tells_215 (by decide) ?_
          refine lv_istore (lv' := [(9, .int 0), (0, .ref (h 99 0 0)), (4, .int x4), (8, .int x8), (10, .int x10)]) hx hb dX6_tells_216 hl (by decide) rfl (fun ls hl => ?_)
          exact w_M_X6_tells_b218 X K ih _ _ _ _ _ ls _ _ O (lv_sub hl [1, 2, 3, 0, 4] rfl) hf
        · replace hf := if_f c_8 hf
          refine lv_iconst (v := 1) hx hb dX6_tells_213 (by decide) ?_
          exact x_zret X O rfl rfl _ (Option.some.inj hf).symm rfl dX6_tells_214
      · replace hf := if_f c_5 hf
        refine lv_goto (tgt := 218) hx hb dX6_tells_199 (by decide) ?_
        exact w_M_X6_tells_b218 X K ih _ _ _ _ _ ls _ _ O (lv_sub hl [0, 1, 2, 3, 4] rfl) hf
def M_X6_tells_b43 (σ : ST) (x1 : Int32) (x2 : Int32) (x3 : Int32) (x4 : Int32) (x5 : Int32) (x6 : Int32) (s0 : Int32) : Option (ST × Int32) :=
  bn1 (M_X6_asksOwn σ x1 x3) (fun σ_1 => bn2 (M_X6_fact σ_1 x2 2) (fun σ_2 r_3 => lt1 (sI σ_2 30 0 0 7 r_3) (fun σ_4 => bn2 (M_X6_fact σ_4 x2 3) (fun σ_5 r_6 => lt1 (sI σ_5 30 0 0 8 r_6) (fun σ_7 => bn2 (M_X6_fact σ_7 x2 4) (fun σ_8 r_9 => lt1 (sI σ_8 30 0 0 9 r_9) (fun σ_10 => bn2 (M_X6_fact σ_10 x2 5) (fun σ_11 r_12 => lt1 (sI σ_11 30 0 0 10 r_12) (fun σ_13 => bn2 (M_X6_fact σ_13 x2 1) (fun σ_14 r_15 => lt1 (sI σ_14 30 0 0 11 r_15) (fun σ_16 => lt1 (sI σ_16 30 0 0 12 x6) (fun σ_17 => lt1 (sI σ_17 30 0 0 13 s0) (fun σ_18 => bn2 (M_X6_fact σ_18 x1 7) (fun σ_19 r_20 => lt1 (sI σ_19 30 0 0 14 r_20) (fun σ_21 => bn2 (M_X6_fact σ_21 x1 0) (fun σ_22 r_23 => lt1 (2 + r_23) (fun x8_24 => lt1 (16 * x8_24) (fun x10_25 => M_X6_tells_b169 FUEL σ_22 x4 x8_24 x5 x10_25))))))))))))))))))
theorem w_M_X6_tells_b43 (X : FX p m c meth s args RX6 cX6_tells 11 (some .boolean)) (K : XK D d A s) {z : ST × Int32} (σ : ST) (x1 : Int32) (x2 : Int32) (x3 : Int32) (x4 : Int32) (x5 : Int32) (x6 : Int32) (s0 : Int32) (ls : Array Slot) (H : Heap) (locs : List Loc) (O : XH D A s.heap h (xct LM okM h d σ) H locs) (hl : lv_has ls 11 [(0, .ref (h 99 0 0)), (1, .int x1), (2, .int x2), (3, .int x3), (4, .int x4), (5, .int x5), (6, .int x6)]) (hf : M_X6_tells_b43 σ x1 x2 x3 x4 x5 x6 s0 = some z) : W p l e (rmD 3 0 0) s m args below meth c H locs 0 0 (MQ below (Qi D (pz z) (cw h LM okM d) A) args s 0 0 A) (F0 m 43 ls [.int s0]) := by
  have hx := X.1.1; have hb := X.1.2.1
  rw [M_X6_tells_b43] at hf
  refine lv_istore (lv' := [(7, .int s0), (0, .ref (h 99 0 0)), (1, .int x1), (2, .int x2), (3, .int x3), (4, .int x4), (5, .int x5), (6, .int x6)]) hx hb dX6_tells_43 hl (by decide) rfl (fun ls hl => ?_)
  refine lv_aload_n hx hb dX6_tells_45 rfl (lv_at hl 1 rfl) ?_
  refine lv_iload_n hx hb dX6_tells_46 rfl (lv_at hl 2 rfl) ?_
  refine lv_iload_n hx hb dX6_tells_47 rfl (lv_at hl 4 rfl) ?_
  obtain ⟨σ_1, hg, hf⟩ := bn1_s hf
  refine x_callv (x_runV (As := [.int x1, .int x3]) (rest := []) X K O (xct_obj rfl LM_99) rfl (m_M_X6_asksOwn hg) EN_b EN_h (lw_V q1472 q1474 qs73 q124 q1475) 2 rfl hl.1 (Nat.le_of_ble_eq_true rfl) hdV_X6_asksOwn ⟨by decide, by decide⟩ ⟨Nat.le_refl _, Nat.le_refl _⟩ dX6_tells_48) (fun u H locs hp O _ => ?_)
  cases hp
  have O : XH D A s.heap h (xct LM okM h d σ_1) H locs := O
  refine lv_aload_n hx hb dX6_tells_51 rfl (lv_at hl 1 rfl) ?_
  refine x_gF X K O 30 rfl LM_99 rfl rfl in_X6 (by decide) q1180 dX6_tells_52 ?_
  refine lv_bipush (v := 7) hx hb dX6_tells_55 (by decide) ?_
  refine lv_aload_n hx hb dX6_tells_57 rfl (lv_at hl 1 rfl) ?_
  refine lv_iload_n hx hb dX6_tells_58 rfl (lv_at hl 3 rfl) ?_
  refine lv_iconst (v := 2) hx hb dX6_tells_59 (by decide) ?_
  obtain ⟨σ_2, r_3, hg, hf⟩ := bn2_s hf
  refine x_calli (x_runV (As := [.int x2, .int 2]) (rest := [.int 7, .ref (h 30 0 0)]) X K O (xct_obj rfl LM_99) rfl (m_M_X6_fact hg) EN_b EN_h (lw_V q1447 q1449 qs68 q124 q1450) 2 rfl hl.1 (Nat.le_of_ble_eq_true rfl) hdV_X6_fact ⟨by decide, by decide⟩ ⟨Nat.le_refl _, Nat.le_refl _⟩ dX6_tells_60) (fun r u H locs hp O _ => ?_)
  cases hp
  have O : XH D A s.heap h (xct LM okM h d σ_2) H locs := O
  obtain ⟨σ_4, eσ_4, hf⟩ := lt1_s hf
  refine x_ist X K O rfl LM_30 (by decide) (j := 7) rfl dX6_tells_63 (fun H locs O => ?_)
  rw [← eσ_4] at O
  refine lv_aload_n hx hb dX6_tells_64 rfl (lv_at hl 1 rfl) ?_
  refine x_gF X K O 30 rfl LM_99 rfl rfl in_X6 (by decide) q1180 dX6_tells_65 ?_
  refine lv_bipush (v := 8) hx hb dX6_tells_68 (by decide) ?_
  refine lv_aload_n hx hb dX6_tells_70 rfl (lv_at hl 1 rfl) ?_
  refine lv_iload_n hx hb dX6_tells_71 rfl (lv_at hl 3 rfl) ?_
  refine lv_iconst (v := 3) hx hb dX6_tells_72 (by decide) ?_
  obtain ⟨σ_5, r_6, hg, hf⟩ := bn2_s hf
  refine x_calli (x_runV (As := [.int x2, .int 3]) (rest := [.int 8, .ref (h 30 0 0)]) X K O (xct_obj rfl LM_99) rfl (m_M_X6_fact hg) EN_b EN_h (lw_V q1447 q1449 qs68 q124 q1450) 2 rfl hl.1 (Nat.le_of_ble_eq_true rfl) hdV_X6_fact ⟨by decide, by decide⟩ ⟨Nat.le_refl _, Nat.le_refl _⟩ dX6_tells_73) (fun r u H locs hp O _ => ?_)
  cases hp
  have O : XH D A s.heap h (xct LM okM h d σ_5) H locs := O
  obtain ⟨σ_7, eσ_7, hf⟩ := lt1_s hf
  refine x_ist X K O rfl LM_30 (by decide) (j := 8) rfl dX6_tells_76 (fun H locs O => ?_)
  rw [← eσ_7] at O
  refine lv_aload_n hx hb dX6_tells_77 rfl (lv_at hl 1 rfl) ?_
  refine x_gF X K O 30 rfl LM_99 rfl rfl in_X6 (by decide) q1180 dX6_tells_78 ?_
  refine lv_bipush (v := 9) hx hb dX6_tells_81 (by decide) ?_
  refine lv_aload_n hx hb dX6_tells_83 rfl (lv_at hl 1 rfl) ?_
  refine lv_iload_n hx hb dX6_tells_84 rfl (lv_at hl 3 rfl) ?_
  refine lv_iconst (v := 4) hx hb dX6_tells_85 (by decide) ?_
  obtain ⟨σ_8, r_9, hg, hf⟩ := bn2_s hf
  refine x_calli (x_runV (As := [.int x2, .int 4]) (rest := [.int 9, .ref (h 30 0 0)]) X K O (xct_obj rfl LM_99) rfl (m_M_X6_fact hg) EN_b EN_h (lw_V q1447 q1449 qs68 q124 q1450) 2 rfl hl.1 (Nat.le_of_ble_eq_true rfl) hdV_X6_fact ⟨by decide, by decide⟩ ⟨Nat.le_refl _, Nat.le_refl _⟩ dX6_tells_86) (fun r u H locs hp O _ => ?_)
  cases hp
  have O : XH D A s.heap h (xct LM okM h d σ_8) H locs := O
  obtain ⟨σ_10, eσ_10, hf⟩ := lt1_s hf
  refine x_ist X K O rfl LM_30 (by decide) (j := 9) rfl dX6_tells_89 (fun H locs O => ?_)
  rw [← eσ_10] at O
  refine lv_aload_n hx hb dX6_tells_90 rfl (lv_at hl 1 rfl) ?_
  refine x_gF X K O 30 rfl LM_99 rfl rfl in_X6 (by decide) q1180 dX6_tells_91 ?_
  refine lv_bipush (v := 10) hx hb dX6_tells_94 (by decide) ?_
  refine lv_aload_n hx hb dX6_tells_96 rfl (lv_at hl 1 rfl) ?_
  refine lv_iload_n hx hb dX6_tells_97 rfl (lv_at hl 3 rfl) ?_
  refine lv_iconst (v := 5) hx hb dX6_tells_98 (by decide) ?_
  obtain ⟨σ_11, r_12, hg, hf⟩ := bn2_s hf
  refine x_calli (x_runV (As := [.int x2, .int 5]) (rest := [.int 10, .ref (h 30 0 0)]) X K O (xct_obj rfl LM_99) rfl (m_M_X6_fact hg) EN_b EN_h (lw_V q1447 q1449 qs68 q124 q1450) 2 rfl hl.1 (Nat.le_of_ble_eq_true rfl) hdV_X6_fact ⟨by decide, by decide⟩ ⟨Nat.le_refl _, Nat.le_refl _⟩ dX6_tells_99) (fun r u H locs hp O _ => ?_)
  cases hp
  have O : XH D A s.heap h (xct LM okM h d σ_11) H locs := O
  obtain ⟨σ_13, eσ_13, hf⟩ := lt1_s hf
  refine x_ist X K O rfl LM_30 (by decide) (j := 10) rfl dX6_tells_102 (fun H locs O => ?_)
  rw [← eσ_13] at O
  refine lv_aload_n hx hb dX6_tells_103 rfl (lv_at hl 1 rfl) ?_
  refine x_gF X K O 30 rfl LM_99 rfl rfl in_X6 (by decide) q1180 dX6_tells_104 ?_
  refine lv_bipush (v := 11) hx hb dX6_tells_107 (by decide) ?_
  refine lv_aload_n hx hb dX6_tells_109 rfl (lv_at hl 1 rfl) ?_
  refine lv_iload_n hx hb dX6_tells_110 rfl (lv_at hl 3 rfl) ?_
  refine lv_iconst (v := 1) hx hb dX6_tells_111 (by decide) ?_
  obtain ⟨σ_14, r_15, hg, hf⟩ := bn2_s hf
  refine x_calli (x_runV (As := [.int x2, .int 1]) (rest := [.int 11, .ref (h 30 0 0)]) X K O (xct_obj rfl LM_99) rfl (m_M_X6_fact hg) EN_b EN_h (lw_V q1447 q1449 qs68 q124 q1450) 2 rfl hl.1 (Nat.le_of_ble_eq_true rfl) hdV_X6_fact ⟨by decide, by decide⟩ ⟨Nat.le_refl _, Nat.le_refl _⟩ dX6_tells_112) (fun r u H locs hp O _ => ?_)
  cases hp
  have O : XH D A s.heap h (xct LM okM h d σ_14) H locs := O
  obtain ⟨σ_16, eσ_16, hf⟩ := lt1_s hf
  refine x_ist X K O rfl LM_30 (by decide) (j := 11) rfl dX6_tells_115 (fun H locs O => ?_)
  rw [← eσ_16] at O
  refine lv_aload_n hx hb dX6_tells_116 rfl (lv_at hl 1 rfl) ?_
  refine x_gF X K O 30 rfl LM_99 rfl rfl in_X6 (by decide) q1180 dX6_tells_117 ?_
  refine lv_bipush (v := 12) hx hb dX6_tells_120 (by decide) ?_
  refine lv_iload hx hb dX6_tells_122 (lv_at hl 7 rfl) ?_
  obtain ⟨σ_17, eσ_17, hf⟩ := lt1_s hf
  refine x_ist X K O rfl LM_30 (by decide) (j := 12) rfl dX6_tells_124 (fun H locs O => ?_)
  rw [← eσ_17] at O
  refine lv_aload_n hx hb dX6_tells_125 rfl (lv_at hl 1 rfl) ?_
  refine x_gF X K O 30 rfl LM_99 rfl rfl in_X6 (by decide) q1180 dX6_tells_126 ?_
  refine lv_bipush (v := 13) hx hb dX6_tells_129 (by decide) ?_
  refine lv_iload hx hb dX6_tells_131 (lv_at hl 0 rfl) ?_
  obtain ⟨σ_18, eσ_18, hf⟩ := lt1_s hf
  refine x_ist X K O rfl LM_30 (by decide) (j := 13) rfl dX6_tells_133 (fun H locs O => ?_)
  rw [← eσ_18] at O
  refine lv_aload_n hx hb dX6_tells_134 rfl (lv_at hl 1 rfl) ?_
  refine x_gF X K O 30 rfl LM_99 rfl rfl in_X6 (by decide) q1180 dX6_tells_135 ?_
  refine lv_bipush (v := 14) hx hb dX6_tells_138 (by decide) ?_
  refine lv_aload_n hx hb dX6_tells_140 rfl (lv_at hl 1 rfl) ?_
  refine lv_iload_n hx hb dX6_tells_141 rfl (lv_at hl 2 rfl) ?_
  refine lv_bipush (v := 7) hx hb dX6_tells_142 (by decide) ?_
  obtain ⟨σ_19, r_20, hg, hf⟩ := bn2_s hf
  refine x_calli (x_runV (As := [.int x1, .int 7]) (rest := [.int 14, .ref (h 30 0 0)]) X K O (xct_obj rfl LM_99) rfl (m_M_X6_fact hg) EN_b EN_h (lw_V q1447 q1449 qs68 q124 q1450) 2 rfl hl.1 (Nat.le_of_ble_eq_true rfl) hdV_X6_fact ⟨by decide, by decide⟩ ⟨Nat.le_refl _, Nat.le_refl _⟩ dX6_tells_144) (fun r u H locs hp O _ => ?_)
  cases hp
  have O : XH D A s.heap h (xct LM okM h d σ_19) H locs := O
  obtain ⟨σ_21, eσ_21, hf⟩ := lt1_s hf
  refine x_ist X K O rfl LM_30 (by decide) (j := 14) rfl dX6_tells_147 (fun H locs O => ?_)
  rw [← eσ_21] at O
  refine lv_iconst (v := 2) hx hb dX6_tells_148 (by decide) ?_
  refine lv_aload_n hx hb dX6_tells_149 rfl (lv_at hl 1 rfl) ?_
  refine lv_iload_n hx hb dX6_tells_150 rfl (lv_at hl 2 rfl) ?_
  refine lv_iconst (v := 0) hx hb dX6_tells_151 (by decide) ?_
  obtain ⟨σ_22, r_23, hg, hf⟩ := bn2_s hf
  refine x_calli (x_runV (As := [.int x1, .int 0]) (rest := [.int 2]) X K O (xct_obj rfl LM_99) rfl (m_M_X6_fact hg) EN_b EN_h (lw_V q1447 q1449 qs68 q124 q1450) 2 rfl hl.1 (Nat.le_of_ble_eq_true rfl) hdV_X6_fact ⟨by decide, by decide⟩ ⟨Nat.le_refl _, Nat.le_refl _⟩ dX6_tells_152) (fun r u H locs hp O _ => ?_)
  cases hp
  have O : XH D A s.heap h (xct LM okM h d σ_22) H locs := O
  refine lv_iadd hx hb dX6_tells_155 ?_
  obtain ⟨x8_24, ex8_24, hf⟩ := lt1_s hf
  refine x_top (w := .int x8_24) (by rw [ex8_24]) ?_
  refine lv_istore (lv' := [(8, .int x8_24), (7, .int s0), (0, .ref (h 99 0 0)), (1, .int x1), (2, .int x2), (3, .int x3), (4, .int x4), (5, .int x5), (6, .int x6)]) hx hb dX6_tells_156 hl (by decide) rfl (fun ls hl => ?_)
  refine lv_iload hx hb dX6_tells_158 (lv_at hl 7 rfl) ?_
  refine lv_istore (lv' := [(9, .int x5), (8, .int x8_24), (7, .int s0), (0, .ref (h 99 0 0)), (1, .int x1), (2, .int x2), (3, .int x3), (4, .int x4), (5, .int x5), (6, .int x6)]) hx hb dX6_tells_160 hl (by decide) rfl (fun ls hl => ?_)
  refine lv_bipush (v := 16) hx hb dX6_tells_162 (by decide) ?_
  refine lv_iload hx hb dX6_tells_164 (lv_at hl 1 rfl) ?_
  refine lv_imul hx hb dX6_tells_166 ?_
  obtain ⟨x10_25, ex10_25, hf⟩ := lt1_s hf
  refine x_top (w := .int x10_25) (by rw [ex10_25]) ?_
  refine lv_istore (lv' := [(10, .int x10_25), (9, .int x5), (8, .int x8_24), (7, .int s0), (0, .ref (h 99 0 0)), (1, .int x1), (2, .int x2), (3, .int x3), (4, .int x4), (5, .int x5), (6, .int x6)]) hx hb dX6_tells_167 hl (by decide) rfl (fun ls hl => ?_)
  exact w_M_X6_tells_b169 X K _ _ _ _ _ _ ls _ _ O (lv_sub hl [4, 8, 2, 1, 0] rfl) hf
def M_X6_tells_b27 (σ : ST) (x1 : Int32) (x2 : Int32) (x3 : Int32) (x4 : Int32) (x5 : Int32) (s0 : Int32) : Option (ST × Int32) :=
  bn2 (M_X6_isLawful σ x2 x3) (fun σ_1 r_2 => (if r_2 = 0 then M_X6_tells_b43 σ_1 x1 x2 x3 x4 x5 s0 0 else M_X6_tells_b43 σ_1 x1 x2 x3 x4 x5 s0 1))
theorem w_M_X6_tells_b27 (X : FX p m c meth s args RX6 cX6_tells 11 (some .boolean)) (K : XK D d A s) {z : ST × Int32} (σ : ST) (x1 : Int32) (x2 : Int32) (x3 : Int32) (x4 : Int32) (x5 : Int32) (s0 : Int32) (ls : Array Slot) (H : Heap) (locs : List Loc) (O : XH D A s.heap h (xct LM okM h d σ) H locs) (hl : lv_has ls 11 [(0, .ref (h 99 0 0)), (1, .int x1), (2, .int x2), (3, .int x3), (4, .int x4), (5, .int x5)]) (hf : M_X6_tells_b27 σ x1 x2 x3 x4 x5 s0 = some z) : W p l e (rmD 3 0 0) s m args below meth c H locs 0 0 (MQ below (Qi D (pz z) (cw h LM okM d) A) args s 0 0 A) (F0 m 27 ls [.int s0]) := by
  have hx := X.1.1; have hb := X.1.2.1
  rw [M_X6_tells_b27] at hf
  refine lv_istore (lv' := [(6, .int s0), (0, .ref (h 99 0 0)), (1, .int x1), (2, .int x2), (3, .int x3), (4, .int x4), (5, .int x5)]) hx hb dX6_tells_27 hl (by decide) rfl (fun ls hl => ?_)
  refine lv_aload_n hx hb dX6_tells_29 rfl (lv_at hl 1 rfl) ?_
  refine lv_iload_n hx hb dX6_tells_30 rfl (lv_at hl 3 rfl) ?_
  refine lv_iload_n hx hb dX6_tells_31 rfl (lv_at hl 4 rfl) ?_
  obtain ⟨σ_1, r_2, hg, hf⟩ := bn2_s hf
  refine x_calli (x_runV (As := [.int x2, .int x3]) (rest := []) X K O (xct_obj rfl LM_99) rfl (m_M_X6_isLawful hg) EN_b EN_h (lw_V q1468 q1470 qs72 q124 q1471) 2 rfl hl.1 (Nat.le_of_ble_eq_true rfl) hdV_X6_isLawful ⟨by decide, by decide⟩ ⟨Nat.le_refl _, Nat.le_refl _⟩ dX6_tells_32) (fun r u H locs hp O _ => ?_)
  cases hp
  have O : XH D A s.heap h (xct LM okM h d σ_1) H locs := O
  refine lv_if_eq (tgt := 42) hx hb dX6_tells_35 (by decide) (fun c_3 => ?_) (fun c_3 => ?_)
  · replace hf := if_t c_3 hf
    refine lv_iconst (v := 0) hx hb dX6_tells_42 (by decide) ?_
    exact w_M_X6_tells_b43 X K _ _ _ _ _ _ _ _ ls _ _ O (lv_sub hl [1, 2, 3, 4, 5, 6, 0] rfl) hf
  · replace hf := if_f c_3 hf
    refine lv_iconst (v := 1) hx hb dX6_tells_38 (by decide) ?_
    refine lv_goto (tgt := 43) hx hb dX6_tells_39 (by decide) ?_
    exact w_M_X6_tells_b43 X K _ _ _ _ _ _ _ _ ls _ _ O (lv_sub hl [1, 2, 3, 4, 5, 6, 0] rfl) hf
def M_X6_tells (σ : ST) (p1 : Int32) (p2 : Int32) (p3 : Int32) (p4 : Int32) (p5 : Int32) : Option (ST × Int32) :=
  bn2 (M_X6_fact σ p1 0) (fun σ_1 r_2 => (if r_2 = 4 then ck (okZ p5) (some (σ_1, p5)) else bn2 (M_X6_isLawful σ_1 p1 p3) (fun σ_4 r_5 => (if r_5 = 0 then M_X6_tells_b27 σ_4 p1 p2 p3 p4 p5 0 else M_X6_tells_b27 σ_4 p1 p2 p3 p4 p5 1))))
theorem m_M_X6_tells {l : Launch} {D : va_G} {d : Nat → ClassId} {h : IX} {p1 : Int32} {p2 : Int32} {p3 : Int32} {p4 : Int32} {p5 : Int32} {σ : ST} {z : ST × Int32} (hf : M_X6_tells σ p1 p2 p3 p4 p5 = some z) : XM l D d EN yX6_tells cX6_tells 11 (some .boolean) 3 0 0 [.ref (h 99 0 0), .int p1, .int p2, .int p3, .int p4, .int p5] h (xct LM okM h d σ) (Qi D (pz z) (cw h LM okM d)) := by
  refine XM.of (by decide +kernel) (Nat.le_of_ble_eq_true rfl) ?_
  intro p e s m below meth c A ls X _ K _ O hl
  have hl : lv_has ls 11 [(0, .ref (h 99 0 0)), (1, .int p1), (2, .int p2), (3, .int p3), (4, .int p4), (5, .int p5)] := hl
  have hx := X.1.1; have hb := X.1.2.1
  rw [M_X6_tells] at hf
  refine lv_aload_n hx hb dX6_tells_0 rfl (lv_at hl 0 rfl) ?_
  refine lv_iload_n hx hb dX6_tells_1 rfl (lv_at hl 1 rfl) ?_
  refine lv_iconst (v := 0) hx hb dX6_tells_2 (by decide) ?_
  obtain ⟨σ_1, r_2, hg, hf⟩ := bn2_s hf
  refine x_calli (x_runV (As := [.int p1, .int 0]) (rest := []) X K O (xct_obj rfl LM_99) rfl (m_M_X6_fact hg) EN_b EN_h (lw_V q1447 q1449 qs68 q124 q1450) 2 rfl hl.1 (Nat.le_of_ble_eq_true rfl) hdV_X6_fact ⟨by decide, by decide⟩ ⟨Nat.le_refl _, Nat.le_refl _⟩ dX6_tells_3) (fun r u H locs hp O _ => ?_)
  cases hp
  have O : XH D A s.heap h (xct LM okM h d σ_1) H locs := O
  refine lv_iconst (v := 4) hx hb dX6_tells_6 (by decide) ?_
  refine lv_icmp_ne (tgt := 13) hx hb dX6_tells_7 (by decide) (fun c_3 => ?_) (fun c_3 => ?_)
  · replace hf := if_f c_3 hf
    refine lv_aload_n hx hb dX6_tells_13 rfl (lv_at hl 0 rfl) ?_
    refine lv_iload_n hx hb dX6_tells_14 rfl (lv_at hl 1 rfl) ?_
    refine lv_iload_n hx hb dX6_tells_15 rfl (lv_at hl 3 rfl) ?_
    obtain ⟨σ_4, r_5, hg, hf⟩ := bn2_s hf
    refine x_calli (x_runV (As := [.int p1, .int p3]) (rest := []) X K O (xct_obj rfl LM_99) rfl (m_M_X6_isLawful hg) EN_b EN_h (lw_V q1468 q1470 qs72 q124 q1471) 2 rfl hl.1 (Nat.le_of_ble_eq_true rfl) hdV_X6_isLawful ⟨by decide, by decide⟩ ⟨Nat.le_refl _, Nat.le_refl _⟩ dX6_tells_16) (fun r u H locs hp O _ => ?_)
    cases hp
    have O : XH D A s.heap h (xct LM okM h d σ_4) H locs := O
    refine lv_if_eq (tgt := 26) hx hb dX6_tells_19 (by decide) (fun c_6 => ?_) (fun c_6 => ?_)
    · replace hf := if_t c_6 hf
      refine lv_iconst (v := 0) hx hb dX6_tells_26 (by decide) ?_
      exact w_M_X6_tells_b27 X K _ _ _ _ _ _ _ ls _ _ O (lv_sub hl [0, 1, 2, 3, 4, 5] rfl) hf
    · replace hf := if_f c_6 hf
      refine lv_iconst (v := 1) hx hb dX6_tells_22 (by decide) ?_
      refine lv_goto (tgt := 27) hx hb dX6_tells_23 (by decide) ?_
      exact w_M_X6_tells_b27 X K _ _ _ _ _ _ _ ls _ _ O (lv_sub hl [0, 1, 2, 3, 4, 5] rfl) hf
  · replace hf := if_t c_3 hf
    refine lv_iload hx hb dX6_tells_10 (lv_at hl 5 rfl) ?_
    obtain ⟨c_7, hf⟩ := ck_s hf
    exact x_zret X O rfl (okZ_n c_7) _ (Option.some.inj hf).symm rfl dX6_tells_12
theorem hdV_X6_tells : yX6_tells.cls = RX6 ∧ (yX6_tells.cls ≠ "java/lang/invoke/MethodHandle" ∧ yX6_tells.cls ≠ "java/lang/invoke/VarHandle" ∧ (parseMethodDescriptor yX6_tells.desc).map (fun d => d.parameters.length) = some 5) := by decide +kernel
def M_X6_isDealing (σ : ST) (p1 : Int32) (p2 : Int32) (p3 : Int32) : Option (ST × Int32) :=
  bn2 (M_X6_tells σ p1 p2 p3 1 1) (fun σ_1 r_2 => ck (okZ r_2) (some (σ_1, r_2)))
theorem m_M_X6_isDealing {l : Launch} {D : va_G} {d : Nat → ClassId} {h : IX} {p1 : Int32} {p2 : Int32} {p3 : Int32} {σ : ST} {z : ST × Int32} (hf : M_X6_isDealing σ p1 p2 p3 = some z) : XM l D d EN yX6_isDealing cX6_isDealing 4 (some .boolean) 4 0 0 [.ref (h 99 0 0), .int p1, .int p2, .int p3] h (xct LM okM h d σ) (Qi D (pz z) (cw h LM okM d)) := by
  refine XM.of (by decide +kernel) (Nat.le_of_ble_eq_true rfl) ?_
  intro p e s m below meth c A ls X _ K _ O hl
  have hl : lv_has ls 4 [(0, .ref (h 99 0 0)), (1, .int p1), (2, .int p2), (3, .int p3)] := hl
  have hx := X.1.1; have hb := X.1.2.1
  rw [M_X6_isDealing] at hf
  refine lv_aload_n hx hb dX6_isDealing_0 rfl (lv_at hl 0 rfl) ?_
  refine lv_iload_n hx hb dX6_isDealing_1 rfl (lv_at hl 1 rfl) ?_
  refine lv_iload_n hx hb dX6_isDealing_2 rfl (lv_at hl 2 rfl) ?_
  refine lv_iload_n hx hb dX6_isDealing_3 rfl (lv_at hl 3 rfl) ?_
  refine lv_iconst (v := 1) hx hb dX6_isDealing_4 (by decide) ?_
  refine lv_iconst (v := 1) hx hb dX6_isDealing_5 (by decide) ?_
  obtain ⟨σ_1, r_2, hg, hf⟩ := bn2_s hf
  refine x_calli (x_runV (As := [.int p1, .int p2, .int p3, .int 1, .int 1]) (rest := []) X K O (xct_obj rfl LM_99) rfl (m_M_X6_tells hg) EN_b EN_h (lw_V q1464 q1466 qs71 q124 q1467) 5 rfl hl.1 (Nat.le_of_ble_eq_true rfl) hdV_X6_tells ⟨by decide, by decide⟩ ⟨Nat.le_refl _, Nat.le_refl _⟩ dX6_isDealing_6) (fun r u H locs hp O _ => ?_)
  cases hp
  have O : XH D A s.heap h (xct LM okM h d σ_1) H locs := O
  obtain ⟨c_3, hf⟩ := ck_s hf
  exact x_zret X O rfl (okZ_n c_3) _ (Option.some.inj hf).symm rfl dX6_isDealing_9
def M_X6_isBreaking (σ : ST) (p1 : Int32) (p2 : Int32) (p3 : Int32) : Option (ST × Int32) :=
  bn2 (M_X6_tells σ p1 p2 p3 2 0) (fun σ_1 r_2 => ck (okZ r_2) (some (σ_1, r_2)))
theorem m_M_X6_isBreaking {l : Launch} {D : va_G} {d : Nat → ClassId} {h : IX} {p1 : Int32} {p2 : Int32} {p3 : Int32} {σ : ST} {z : ST × Int32} (hf : M_X6_isBreaking σ p1 p2 p3 = some z) : XM l D d EN yX6_isBreaking cX6_isBreaking 4 (some .boolean) 4 0 0 [.ref (h 99 0 0), .int p1, .int p2, .int p3] h (xct LM okM h d σ) (Qi D (pz z) (cw h LM okM d)) := by
  refine XM.of (by decide +kernel) (Nat.le_of_ble_eq_true rfl) ?_
  intro p e s m below meth c A ls X _ K _ O hl
  have hl : lv_has ls 4 [(0, .ref (h 99 0 0)), (1, .int p1), (2, .int p2), (3, .int p3)] := hl
  have hx := X.1.1; have hb := X.1.2.1
  rw [M_X6_isBreaking] at hf
  refine lv_aload_n hx hb dX6_isBreaking_0 rfl (lv_at hl 0 rfl) ?_
  refine lv_iload_n hx hb dX6_isBreaking_1 rfl (lv_at hl 1 rfl) ?_
  refine lv_iload_n hx hb dX6_isBreaking_2 rfl (lv_at hl 2 rfl) ?_
  refine lv_iload_n hx hb dX6_isBreaking_3 rfl (lv_at hl 3 rfl) ?_
  refine lv_iconst (v := 2) hx hb dX6_isBreaking_4 (by decide) ?_
  refine lv_iconst (v := 0) hx hb dX6_isBreaking_5 (by decide) ?_
  obtain ⟨σ_1, r_2, hg, hf⟩ := bn2_s hf
  refine x_calli (x_runV (As := [.int p1, .int p2, .int p3, .int 2, .int 0]) (rest := []) X K O (xct_obj rfl LM_99) rfl (m_M_X6_tells hg) EN_b EN_h (lw_V q1464 q1466 qs71 q124 q1467) 5 rfl hl.1 (Nat.le_of_ble_eq_true rfl) hdV_X6_tells ⟨by decide, by decide⟩ ⟨Nat.le_refl _, Nat.le_refl _⟩ dX6_isBreaking_6) (fun r u H locs hp O _ => ?_)
  cases hp
  have O : XH D A s.heap h (xct LM okM h d σ_1) H locs := O
  obtain ⟨c_3, hf⟩ := ck_s hf
  exact x_zret X O rfl (okZ_n c_3) _ (Option.some.inj hf).symm rfl dX6_isBreaking_9
theorem hdV_X6_isBreaking : yX6_isBreaking.cls = RX6 ∧ (yX6_isBreaking.cls ≠ "java/lang/invoke/MethodHandle" ∧ yX6_isBreaking.cls ≠ "java/lang/invoke/VarHandle" ∧ (parseMethodDescriptor yX6_isBreaking.desc).map (fun d => d.parameters.length) = some 3) := by decide +kernel
theorem hdV_X6_isDealing : yX6_isDealing.cls = RX6 ∧ (yX6_isDealing.cls ≠ "java/lang/invoke/MethodHandle" ∧ yX6_isDealing.cls ≠ "java/lang/invoke/VarHandle" ∧ (parseMethodDescriptor yX6_isDealing.desc).map (fun d => d.parameters.length) = some 3) := by decide +kernel
theorem hdV_X6_isSize : yX6_isSize.cls = RX6 ∧ (yX6_isSize.cls ≠ "java/lang/invoke/MethodHandle" ∧ yX6_isSize.cls ≠ "java/lang/invoke/VarHandle" ∧ (parseMethodDescriptor yX6_isSize.desc).map (fun d => d.parameters.length) = some 1) := by decide +kernel
def M_X6_would_b84 (σ : ST) (s0 : Int32) : Option (ST × Int32) :=
  (if s0 = 0 then some (σ, 0) else some (σ, 1))
theorem w_M_X6_would_b84 (X : FX p m c meth s args RX6 cX6_would 6 (some .int)) (K : XK D d A s) {z : ST × Int32} (σ : ST) (s0 : Int32) (ls : Array Slot) (H : Heap) (locs : List Loc) (O : XH D A s.heap h (xct LM okM h d σ) H locs) (hl : lv_has ls 6 []) (hf : M_X6_would_b84 σ s0 = some z) : W p l e (rmD 5 0 0) s m args below meth c H locs 0 0 (MQ below (Qi D (pz z) (cw h LM okM d) A) args s 0 0 A) (F0 m 84 ls [.int s0]) := by
  have hx := X.1.1; have hb := X.1.2.1
  rw [M_X6_would_b84] at hf
  refine lv_istore (lv' := [(5, .int s0)]) hx hb dX6_would_84 hl (by decide) rfl (fun ls hl => ?_)
  refine lv_iload hx hb dX6_would_86 (lv_at hl 0 rfl) ?_
  refine lv_if_eq (tgt := 95) hx hb dX6_would_88 (by decide) (fun c_1 => ?_) (fun c_1 => ?_)
  · replace hf := if_t c_1 hf
    refine lv_iconst (v := 0) hx hb dX6_would_95 (by decide) ?_
    exact x_iret X O rfl _ (Option.some.inj hf).symm rfl dX6_would_96
  · replace hf := if_f c_1 hf
    refine lv_iconst (v := 1) hx hb dX6_would_91 (by decide) ?_
    refine lv_goto (tgt := 96) hx hb dX6_would_92 (by decide) ?_
    exact x_iret X O rfl _ (Option.some.inj hf).symm rfl dX6_would_96
def M_X6_would (σ : ST) (p1 : Int32) (p2 : Int32) (p3 : Int32) (p4 : Int32) : Option (ST × Int32) :=
  lt1 (sI σ 99 0 0 0 0) (fun σ_1 => bn2 (M_X6_isOne σ_1 p1) (fun σ_2 r_3 => (if r_3 = 0 then some (σ_2, (-1)) else bn2 (M_X6_isOne σ_2 p2) (fun σ_5 r_6 => (if r_6 = 0 then some (σ_5, (-1)) else (if p1 = p2 then some (σ_5, (-1)) else bn2 (M_X6_isSize σ_5 p3) (fun σ_9 r_10 => (if r_10 = 0 then some (σ_9, (-1)) else bn2 (M_X6_isIn σ_9 p4 0 2) (fun σ_12 r_13 => (if r_13 = 0 then some (σ_12, (-1)) else (if p4 = 0 then bn2 (M_X6_isDealing σ_12 p1 p2 p3) (fun σ_21 r_22 => M_X6_would_b84 σ_21 r_22) else (if p4 = 1 then bn2 (M_X6_isBreaking σ_12 p1 p2 p3) (fun σ_19 r_20 => M_X6_would_b84 σ_19 r_20) else bn2 (M_X6_isLawful σ_12 p1 p3) (fun σ_17 r_18 => M_X6_would_b84 σ_17 r_18)))))))))))))
theorem m_M_X6_would {l : Launch} {D : va_G} {d : Nat → ClassId} {h : IX} {p1 : Int32} {p2 : Int32} {p3 : Int32} {p4 : Int32} {σ : ST} {z : ST × Int32} (hf : M_X6_would σ p1 p2 p3 p4 = some z) : XM l D d EN yX6_would cX6_would 6 (some .int) 5 0 0 [.ref (h 99 0 0), .int p1, .int p2, .int p3, .int p4] h (xct LM okM h d σ) (Qi D (pz z) (cw h LM okM d)) := by
  refine XM.of (by decide +kernel) (Nat.le_of_ble_eq_true rfl) ?_
  intro p e s m below meth c A ls X _ K _ O hl
  have hl : lv_has ls 6 [(0, .ref (h 99 0 0)), (1, .int p1), (2, .int p2), (3, .int p3), (4, .int p4)] := hl
  have hx := X.1.1; have hb := X.1.2.1
  rw [M_X6_would] at hf
  refine lv_aload_n hx hb dX6_would_0 rfl (lv_at hl 0 rfl) ?_
  refine lv_iconst (v := 0) hx hb dX6_would_1 (by decide) ?_
  obtain ⟨σ_1, eσ_1, hf⟩ := lt1_s hf
  refine x_pI X K O 0 rfl LM_99 rfl rfl in_X6 tyX6_ok nmX6 (by decide) q1150 rfl rfl rfl dX6_would_2 (fun H locs O => ?_)
  rw [← eσ_1] at O
  refine lv_aload_n hx hb dX6_would_5 rfl (lv_at hl 0 rfl) ?_
  refine lv_iload_n hx hb dX6_would_6 rfl (lv_at hl 1 rfl) ?_
  obtain ⟨σ_2, r_3, hg, hf⟩ := bn2_s hf
  refine x_calli (x_runV (As := [.int p1]) (rest := []) X K O (xct_obj rfl LM_99) rfl (m_M_X6_isOne hg) EN_b EN_h (lw_V q1339 q1341 qs47 q124 q1342) 1 rfl hl.1 (Nat.le_of_ble_eq_true rfl) hdV_X6_isOne ⟨by decide, by decide⟩ ⟨Nat.le_refl _, Nat.le_refl _⟩ dX6_would_7) (fun r u H locs hp O _ => ?_)
  cases hp
  have O : XH D A s.heap h (xct LM okM h d σ_2) H locs := O
  refine lv_if_eq (tgt := 45) hx hb dX6_would_10 (by decide) (fun c_4 => ?_) (fun c_4 => ?_)
  · replace hf := if_t c_4 hf
    refine lv_iconst (v := (-1)) hx hb dX6_would_45 (by decide) ?_
    exact x_iret X O rfl _ (Option.some.inj hf).symm rfl dX6_would_46
  · replace hf := if_f c_4 hf
    refine lv_aload_n hx hb dX6_would_13 rfl (lv_at hl 0 rfl) ?_
    refine lv_iload_n hx hb dX6_would_14 rfl (lv_at hl 2 rfl) ?_
    obtain ⟨σ_5, r_6, hg, hf⟩ := bn2_s hf
    refine x_calli (x_runV (As := [.int p2]) (rest := []) X K O (xct_obj rfl LM_99) rfl (m_M_X6_isOne hg) EN_b EN_h (lw_V q1339 q1341 qs47 q124 q1342) 1 rfl hl.1 (Nat.le_of_ble_eq_true rfl) hdV_X6_isOne ⟨by decide, by decide⟩ ⟨Nat.le_refl _, Nat.le_refl _⟩ dX6_would_15) (fun r u H locs hp O _ => ?_)
    cases hp
    have O : XH D A s.heap h (xct LM okM h d σ_5) H locs := O
    refine lv_if_eq (tgt := 45) hx hb dX6_would_18 (by decide) (fun c_7 => ?_) (fun c_7 => ?_)
    · replace hf := if_t c_7 hf
      refine lv_iconst (v := (-1)) hx hb dX6_would_45 (by decide) ?_
      exact x_iret X O rfl _ (Option.some.inj hf).symm rfl dX6_would_46
    · replace hf := if_f c_7 hf
      refine lv_iload_n hx hb dX6_would_21 rfl (lv_at hl 1 rfl) ?_
      refine lv_iload_n hx hb dX6_would_22 rfl (lv_at hl 2 rfl) ?_
      refine lv_icmp_eq (tgt := 45) hx hb dX6_would_23 (by decide) (fun c_8 => ?_) (fun c_8 => ?_)
      · replace hf := if_t c_8 hf
        refine lv_iconst (v := (-1)) hx hb dX6_would_45 (by decide) ?_
        exact x_iret X O rfl _ (Option.some.inj hf).symm rfl dX6_would_46
      · replace hf := if_f c_8 hf
        refine lv_aload_n hx hb dX6_would_26 rfl (lv_at hl 0 rfl) ?_
        refine lv_iload_n hx hb dX6_would_27 rfl (lv_at hl 3 rfl) ?_
        obtain ⟨σ_9, r_10, hg, hf⟩ := bn2_s hf
        refine x_calli (x_runV (As := [.int p3]) (rest := []) X K O (xct_obj rfl LM_99) rfl (m_M_X6_isSize hg) EN_b EN_h (lw_V q1456 q1458 qs69 q124 q1459) 1 rfl hl.1 (Nat.le_of_ble_eq_true rfl) hdV_X6_isSize ⟨by decide, by decide⟩ ⟨Nat.le_refl _, Nat.le_refl _⟩ dX6_would_28) (fun r u H locs hp O _ => ?_)
        cases hp
        have O : XH D A s.heap h (xct LM okM h d σ_9) H locs := O
        refine lv_if_eq (tgt := 45) hx hb dX6_would_31 (by decide) (fun c_11 => ?_) (fun c_11 => ?_)
        · replace hf := if_t c_11 hf
          refine lv_iconst (v := (-1)) hx hb dX6_would_45 (by decide) ?_
          exact x_iret X O rfl _ (Option.some.inj hf).symm rfl dX6_would_46
        · replace hf := if_f c_11 hf
          refine lv_aload_n hx hb dX6_would_34 rfl (lv_at hl 0 rfl) ?_
          refine lv_iload hx hb dX6_would_35 (lv_at hl 4 rfl) ?_
          refine lv_iconst (v := 0) hx hb dX6_would_37 (by decide) ?_
          refine lv_iconst (v := 2) hx hb dX6_would_38 (by decide) ?_
          obtain ⟨σ_12, r_13, hg, hf⟩ := bn2_s hf
          refine x_calli (x_runV (As := [.int p4, .int 0, .int 2]) (rest := []) X K O (xct_obj rfl LM_99) rfl (m_M_X6_isIn hg) EN_b EN_h (lw_V q1327 q1329 qs45 q124 q1330) 3 rfl hl.1 (Nat.le_of_ble_eq_true rfl) hdV_X6_isIn ⟨by decide, by decide⟩ ⟨Nat.le_refl _, Nat.le_refl _⟩ dX6_would_39) (fun r u H locs hp O _ => ?_)
          cases hp
          have O : XH D A s.heap h (xct LM okM h d σ_12) H locs := O
          refine lv_if_ne (tgt := 47) hx hb dX6_would_42 (by decide) (fun c_14 => ?_) (fun c_14 => ?_)
          · replace hf := if_f c_14 hf
            refine lv_iload hx hb dX6_would_47 (lv_at hl 4 rfl) ?_
            refine lv_if_ne (tgt := 62) hx hb dX6_would_49 (by decide) (fun c_15 => ?_) (fun c_15 => ?_)
            · replace hf := if_f c_15 hf
              refine lv_iload hx hb dX6_would_62 (lv_at hl 4 rfl) ?_
              refine lv_iconst (v := 1) hx hb dX6_would_64 (by decide) ?_
              refine lv_icmp_ne (tgt := 78) hx hb dX6_would_65 (by decide) (fun c_16 => ?_) (fun c_16 => ?_)
              · replace hf := if_f c_16 hf
                refine lv_aload_n hx hb dX6_would_78 rfl (lv_at hl 0 rfl) ?_
                refine lv_iload_n hx hb dX6_would_79 rfl (lv_at hl 1 rfl) ?_
                refine lv_iload_n hx hb dX6_would_80 rfl (lv_at hl 3 rfl) ?_
                obtain ⟨σ_17, r_18, hg, hf⟩ := bn2_s hf
                refine x_calli (x_runV (As := [.int p1, .int p3]) (rest := []) X K O (xct_obj rfl LM_99) rfl (m_M_X6_isLawful hg) EN_b EN_h (lw_V q1468 q1470 qs72 q124 q1471) 2 rfl hl.1 (Nat.le_of_ble_eq_true rfl) hdV_X6_isLawful ⟨by decide, by decide⟩ ⟨Nat.le_refl _, Nat.le_refl _⟩ dX6_would_81) (fun r u H locs hp O _ => ?_)
                cases hp
                have O : XH D A s.heap h (xct LM okM h d σ_17) H locs := O
                exact w_M_X6_would_b84 X K _ _ ls _ _ O (lv_sub hl [] rfl) hf
              · replace hf := if_t c_16 hf
                refine lv_aload_n hx hb dX6_would_68 rfl (lv_at hl 0 rfl) ?_
                refine lv_iload_n hx hb dX6_would_69 rfl (lv_at hl 1 rfl) ?_
                refine lv_iload_n hx hb dX6_would_70 rfl (lv_at hl 2 rfl) ?_
                refine lv_iload_n hx hb dX6_would_71 rfl (lv_at hl 3 rfl) ?_
                obtain ⟨σ_19, r_20, hg, hf⟩ := bn2_s hf
                refine x_calli (x_runV (As := [.int p1, .int p2, .int p3]) (rest := []) X K O (xct_obj rfl LM_99) rfl (m_M_X6_isBreaking hg) EN_b EN_h (lw_V q1484 q1486 qs76 q124 q1487) 3 rfl hl.1 (Nat.le_of_ble_eq_true rfl) hdV_X6_isBreaking ⟨by decide, by decide⟩ ⟨Nat.le_refl _, Nat.le_refl _⟩ dX6_would_72) (fun r u H locs hp O _ => ?_)
                cases hp
                have O : XH D A s.heap h (xct LM okM h d σ_19) H locs := O
                refine lv_goto (tgt := 84) hx hb dX6_would_75 (by decide) ?_
                exact w_M_X6_would_b84 X K _ _ ls _ _ O (lv_sub hl [] rfl) hf
            · replace hf := if_t c_15 hf
              refine lv_aload_n hx hb dX6_would_52 rfl (lv_at hl 0 rfl) ?_
              refine lv_iload_n hx hb dX6_would_53 rfl (lv_at hl 1 rfl) ?_
              refine lv_iload_n hx hb dX6_would_54 rfl (lv_at hl 2 rfl) ?_
              refine lv_iload_n hx hb dX6_would_55 rfl (lv_at hl 3 rfl) ?_
              obtain ⟨σ_21, r_22, hg, hf⟩ := bn2_s hf
              refine x_calli (x_runV (As := [.int p1, .int p2, .int p3]) (rest := []) X K O (xct_obj rfl LM_99) rfl (m_M_X6_isDealing hg) EN_b EN_h (lw_V q1460 q1462 qs70 q124 q1463) 3 rfl hl.1 (Nat.le_of_ble_eq_true rfl) hdV_X6_isDealing ⟨by decide, by decide⟩ ⟨Nat.le_refl _, Nat.le_refl _⟩ dX6_would_56) (fun r u H locs hp O _ => ?_)
              cases hp
              have O : XH D A s.heap h (xct LM okM h d σ_21) H locs := O
              refine lv_goto (tgt := 84) hx hb dX6_would_59 (by decide) ?_
              exact w_M_X6_would_b84 X K _ _ ls _ _ O (lv_sub hl [] rfl) hf
          · replace hf := if_t c_14 hf
            refine lv_iconst (v := (-1)) hx hb dX6_would_45 (by decide) ?_
            exact x_iret X O rfl _ (Option.some.inj hf).symm rfl dX6_would_46
def M_X6_worthOf (σ : ST) (p1 : Int32) (p2 : Int32) (p3 : Int32) : Option (ST × Int32) :=
  (if p1 = 0 then (if p2 = 0 then some (σ, ((gI σ 6 0 0 0) * p3)) else some (σ, ((-(gI σ 6 0 0 2)) * p3))) else (if p2 = 0 then some (σ, ((gI σ 6 0 0 1) * p3)) else some (σ, ((-(gI σ 6 0 0 3)) * p3))))
theorem m_M_X6_worthOf {l : Launch} {D : va_G} {d : Nat → ClassId} {h : IX} {p1 : Int32} {p2 : Int32} {p3 : Int32} {σ : ST} {z : ST × Int32} (hf : M_X6_worthOf σ p1 p2 p3 = some z) : XM l D d EN yX6_worthOf cX6_worthOf 4 (some .int) 0 0 0 [.ref (h 99 0 0), .int p1, .int p2, .int p3] h (xct LM okM h d σ) (Qi D (pz z) (cw h LM okM d)) := by
  refine XM.of (by decide +kernel) (Nat.le_of_ble_eq_true rfl) ?_
  intro p e s m below meth c A ls X _ K _ O hl
  have hl : lv_has ls 4 [(0, .ref (h 99 0 0)), (1, .int p1), (2, .int p2), (3, .int p3)] := hl
  have hx := X.1.1; have hb := X.1.2.1
  rw [M_X6_worthOf] at hf
  refine lv_iload_n hx hb dX6_worthOf_0 rfl (lv_at hl 1 rfl) ?_
  refine lv_if_eq (tgt := 29) hx hb dX6_worthOf_1 (by decide) (fun c_1 => ?_) (fun c_1 => ?_)
  · replace hf := if_t c_1 hf
    refine lv_iload_n hx hb dX6_worthOf_29 rfl (lv_at hl 2 rfl) ?_
    refine lv_if_eq (tgt := 45) hx hb dX6_worthOf_30 (by decide) (fun c_2 => ?_) (fun c_2 => ?_)
    · replace hf := if_t c_2 hf
      refine lv_aload_n hx hb dX6_worthOf_45 rfl (lv_at hl 0 rfl) ?_
      refine x_gF X K O 6 rfl LM_99 rfl rfl in_X6 (by decide) q1156 dX6_worthOf_46 ?_
      refine lv_iconst (v := 0) hx hb dX6_worthOf_49 (by decide) ?_
      refine x_ild X K O rfl LM_6 (by decide) (j := 0) rfl dX6_worthOf_50 ?_
      refine lv_iload_n hx hb dX6_worthOf_51 rfl (lv_at hl 3 rfl) ?_
      refine lv_imul hx hb dX6_worthOf_52 ?_
      exact x_iret X O rfl _ (Option.some.inj hf).symm rfl dX6_worthOf_53
    · replace hf := if_f c_2 hf
      refine lv_aload_n hx hb dX6_worthOf_33 rfl (lv_at hl 0 rfl) ?_
      refine x_gF X K O 6 rfl LM_99 rfl rfl in_X6 (by decide) q1156 dX6_worthOf_34 ?_
      refine lv_iconst (v := 2) hx hb dX6_worthOf_37 (by decide) ?_
      refine x_ild X K O rfl LM_6 (by decide) (j := 2) rfl dX6_worthOf_38 ?_
      refine lv_ineg hx hb dX6_worthOf_39 ?_
      refine lv_iload_n hx hb dX6_worthOf_40 rfl (lv_at hl 3 rfl) ?_
      refine lv_imul hx hb dX6_worthOf_41 ?_
      refine lv_goto (tgt := 53) hx hb dX6_worthOf_42 (by decide) ?_
      exact x_iret X O rfl _ (Option.some.inj hf).symm rfl dX6_worthOf_53
  · replace hf := if_f c_1 hf
    refine lv_iload_n hx hb dX6_worthOf_4 rfl (lv_at hl 2 rfl) ?_
    refine lv_if_eq (tgt := 20) hx hb dX6_worthOf_5 (by decide) (fun c_3 => ?_) (fun c_3 => ?_)
    · replace hf := if_t c_3 hf
      refine lv_aload_n hx hb dX6_worthOf_20 rfl (lv_at hl 0 rfl) ?_
      refine x_gF X K O 6 rfl LM_99 rfl rfl in_X6 (by decide) q1156 dX6_worthOf_21 ?_
      refine lv_iconst (v := 1) hx hb dX6_worthOf_24 (by decide) ?_
      refine x_ild X K O rfl LM_6 (by decide) (j := 1) rfl dX6_worthOf_25 ?_
      refine lv_iload_n hx hb dX6_worthOf_26 rfl (lv_at hl 3 rfl) ?_
      refine lv_imul hx hb dX6_worthOf_27 ?_
      exact x_iret X O rfl _ (Option.some.inj hf).symm rfl dX6_worthOf_28
    · replace hf := if_f c_3 hf
      refine lv_aload_n hx hb dX6_worthOf_8 rfl (lv_at hl 0 rfl) ?_
      refine x_gF X K O 6 rfl LM_99 rfl rfl in_X6 (by decide) q1156 dX6_worthOf_9 ?_
      refine lv_iconst (v := 3) hx hb dX6_worthOf_12 (by decide) ?_
      refine x_ild X K O rfl LM_6 (by decide) (j := 3) rfl dX6_worthOf_13 ?_
      refine lv_ineg hx hb dX6_worthOf_14 ?_
      refine lv_iload_n hx hb dX6_worthOf_15 rfl (lv_at hl 3 rfl) ?_
      refine lv_imul hx hb dX6_worthOf_16 ?_
      refine lv_goto (tgt := 28) hx hb dX6_worthOf_17 (by decide) ?_
      exact x_iret X O rfl _ (Option.some.inj hf).symm rfl dX6_worthOf_28
def M_X6_adds (σ : ST) (p1 : Int32) (p2 : Int32) (p3 : Int32) : Option (ST) :=
  ck (okI ((9 * p1) + p2) 108) (ck (okI ((9 * p1) + p2) 108) (lt1 (sI σ 5 0 0 (Int32.toNatClampNeg ((9 * p1) + p2)) ((gI σ 5 0 0 (Int32.toNatClampNeg ((9 * p1) + p2))) + p3)) (fun σ_3 => some σ_3)))
theorem m_M_X6_adds {l : Launch} {D : va_G} {d : Nat → ClassId} {h : IX} {p1 : Int32} {p2 : Int32} {p3 : Int32} {σ : ST} {z : ST} (hf : M_X6_adds σ p1 p2 p3 = some z) : XM l D d EN yX6_adds cX6_adds 4 none 0 0 0 [.ref (h 99 0 0), .int p1, .int p2, .int p3] h (xct LM okM h d σ) (Qv D (pu z) (cw h LM okM d)) := by
  refine XM.of (by decide +kernel) (Nat.le_of_ble_eq_true rfl) ?_
  intro p e s m below meth c A ls X _ K _ O hl
  have hl : lv_has ls 4 [(0, .ref (h 99 0 0)), (1, .int p1), (2, .int p2), (3, .int p3)] := hl
  have hx := X.1.1; have hb := X.1.2.1
  rw [M_X6_adds] at hf
  refine lv_aload_n hx hb dX6_adds_0 rfl (lv_at hl 0 rfl) ?_
  refine x_gF X K O 5 rfl LM_99 rfl rfl in_X6 (by decide) q1155 dX6_adds_1 ?_
  refine lv_bipush (v := 9) hx hb dX6_adds_4 (by decide) ?_
  refine lv_iload_n hx hb dX6_adds_6 rfl (lv_at hl 1 rfl) ?_
  refine lv_imul hx hb dX6_adds_7 ?_
  refine lv_iload_n hx hb dX6_adds_8 rfl (lv_at hl 2 rfl) ?_
  refine lv_iadd hx hb dX6_adds_9 ?_
  refine lv_aload_n hx hb dX6_adds_10 rfl (lv_at hl 0 rfl) ?_
  refine x_gF X K O 5 rfl LM_99 rfl rfl in_X6 (by decide) q1155 dX6_adds_11 ?_
  refine lv_bipush (v := 9) hx hb dX6_adds_14 (by decide) ?_
  refine lv_iload_n hx hb dX6_adds_16 rfl (lv_at hl 1 rfl) ?_
  refine lv_imul hx hb dX6_adds_17 ?_
  refine lv_iload_n hx hb dX6_adds_18 rfl (lv_at hl 2 rfl) ?_
  refine lv_iadd hx hb dX6_adds_19 ?_
  obtain ⟨c_1, hf⟩ := ck_s hf
  refine x_ild X K O rfl LM_5 c_1 (j := (Int32.toNatClampNeg ((9 * p1) + p2))) rfl dX6_adds_20 ?_
  refine lv_iload_n hx hb dX6_adds_21 rfl (lv_at hl 3 rfl) ?_
  refine lv_iadd hx hb dX6_adds_22 ?_
  obtain ⟨c_2, hf⟩ := ck_s hf
  obtain ⟨σ_3, eσ_3, hf⟩ := lt1_s hf
  refine x_ist X K O rfl LM_5 c_2 (j := (Int32.toNatClampNeg ((9 * p1) + p2))) rfl dX6_adds_23 (fun H locs O => ?_)
  rw [← eσ_3] at O
  exact x_vret X O rfl _ (Option.some.inj hf).symm rfl dX6_adds_24
def M_X6_draw (σ : ST) (p1 : Int32) : Option (ST × Int32) :=
  lt1 (sI σ 99 0 0 1 ((1664525 * (gI σ 99 0 0 1)) + 1013904223)) (fun σ_1 => ck (decide (¬ p1 = 0)) (some (σ_1, ((ushr (gI σ_1 99 0 0 1) 8) - (ushr (gI σ_1 99 0 0 1) 8) / p1 * p1))))
theorem m_M_X6_draw {l : Launch} {D : va_G} {d : Nat → ClassId} {h : IX} {p1 : Int32} {σ : ST} {z : ST × Int32} (hf : M_X6_draw σ p1 = some z) : XM l D d EN yX6_draw cX6_draw 2 (some .int) 0 0 0 [.ref (h 99 0 0), .int p1] h (xct LM okM h d σ) (Qi D (pz z) (cw h LM okM d)) := by
  refine XM.of (by decide +kernel) (Nat.le_of_ble_eq_true rfl) ?_
  intro p e s m below meth c A ls X _ K _ O hl
  have hl : lv_has ls 2 [(0, .ref (h 99 0 0)), (1, .int p1)] := hl
  have hx := X.1.1; have hb := X.1.2.1
  rw [M_X6_draw] at hf
  refine lv_aload_n hx hb dX6_draw_0 rfl (lv_at hl 0 rfl) ?_
  refine lv_ldc (v := 1664525) hx hb X.1.2.2.2.1 (X.1.2.2.2.2 _ q1512) dX6_draw_1 ?_
  refine lv_aload_n hx hb dX6_draw_3 rfl (lv_at hl 0 rfl) ?_
  refine x_gI X K O 1 rfl LM_99 rfl rfl in_X6 (by decide) q1151 dX6_draw_4 ?_
  refine lv_imul hx hb dX6_draw_7 ?_
  refine lv_ldc (v := 1013904223) hx hb X.1.2.2.2.1 (X.1.2.2.2.2 _ q1513) dX6_draw_8 ?_
  refine lv_iadd hx hb dX6_draw_10 ?_
  obtain ⟨σ_1, eσ_1, hf⟩ := lt1_s hf
  refine x_pI X K O 1 rfl LM_99 rfl rfl in_X6 tyX6_ok nmX6 (by decide) q1151 rfl rfl rfl dX6_draw_11 (fun H locs O => ?_)
  rw [← eσ_1] at O
  refine lv_aload_n hx hb dX6_draw_14 rfl (lv_at hl 0 rfl) ?_
  refine x_gI X K O 1 rfl LM_99 rfl rfl in_X6 (by decide) q1151 dX6_draw_15 ?_
  refine lv_bipush (v := 8) hx hb dX6_draw_18 (by decide) ?_
  refine lv_iushr (v := (ushr (gI σ_1 99 0 0 1) 8)) hx hb dX6_draw_20 rfl ?_
  refine lv_iload_n hx hb dX6_draw_21 rfl (lv_at hl 1 rfl) ?_
  obtain ⟨c_2, hf⟩ := ck_s hf
  refine lv_irem hx hb dX6_draw_22 (of_decide_eq_true c_2) ?_
  exact x_iret X O rfl _ (Option.some.inj hf).symm rfl dX6_draw_23
def M_X6_grows_b29 (σ : ST) (s1 : Int32) (s2 : Int32) (s3 : Int32) : Option (ST) :=
  bn1 (M_X6_puts σ s1 s2 s3) (fun σ_1 => some σ_1)
theorem w_M_X6_grows_b29 (X : FX p m c meth s args RX6 cX6_grows 5 none) (K : XK D d A s) {z : ST} (σ : ST) (s1 : Int32) (s2 : Int32) (s3 : Int32) (ls : Array Slot) (H : Heap) (locs : List Loc) (O : XH D A s.heap h (xct LM okM h d σ) H locs) (hl : lv_has ls 5 []) (hf : M_X6_grows_b29 σ s1 s2 s3 = some z) : W p l e (rmD 1 0 0) s m args below meth c H locs 0 0 (MQ below (Qv D (pu z) (cw h LM okM d) A) args s 0 0 A) (F0 m 29 ls [.int s3, .int s2, .int s1, .ref (h 99 0 0)]) := by
  have hx := X.1.1; have hb := X.1.2.1
  rw [M_X6_grows_b29] at hf
  obtain ⟨σ_1, hg, hf⟩ := bn1_s hf
  refine x_callv (x_runV (As := [.int s1, .int s2, .int s3]) (rest := []) X K O (xct_obj rfl LM_99) rfl (m_M_X6_puts hg) EN_b EN_h (lw_V q1331 q1333 qs46 q124 q1334) 3 rfl hl.1 (Nat.le_of_ble_eq_true rfl) hdV_X6_puts ⟨by decide, by decide⟩ ⟨Nat.le_refl _, Nat.le_refl _⟩ dX6_grows_29) (fun u H locs hp O _ => ?_)
  cases hp
  have O : XH D A s.heap h (xct LM okM h d σ_1) H locs := O
  exact x_vret X O rfl _ (Option.some.inj hf).symm rfl dX6_grows_32
def M_X6_grows (σ : ST) (p1 : Int32) (p2 : Int32) (p3 : Int32) : Option (ST) :=
  bn2 (M_X6_fact σ p1 p2) (fun σ_1 r_2 => lt1 (r_2 + p3) (fun x4_3 => (if x4_3 ≤ 9999 then M_X6_grows_b29 σ_1 p1 p2 x4_3 else M_X6_grows_b29 σ_1 p1 p2 9999)))
theorem m_M_X6_grows {l : Launch} {D : va_G} {d : Nat → ClassId} {h : IX} {p1 : Int32} {p2 : Int32} {p3 : Int32} {σ : ST} {z : ST} (hf : M_X6_grows σ p1 p2 p3 = some z) : XM l D d EN yX6_grows cX6_grows 5 none 1 0 0 [.ref (h 99 0 0), .int p1, .int p2, .int p3] h (xct LM okM h d σ) (Qv D (pu z) (cw h LM okM d)) := by
  refine XM.of (by decide +kernel) (Nat.le_of_ble_eq_true rfl) ?_
  intro p e s m below meth c A ls X _ K _ O hl
  have hl : lv_has ls 5 [(0, .ref (h 99 0 0)), (1, .int p1), (2, .int p2), (3, .int p3)] := hl
  have hx := X.1.1; have hb := X.1.2.1
  rw [M_X6_grows] at hf
  refine lv_aload_n hx hb dX6_grows_0 rfl (lv_at hl 0 rfl) ?_
  refine lv_iload_n hx hb dX6_grows_1 rfl (lv_at hl 1 rfl) ?_
  refine lv_iload_n hx hb dX6_grows_2 rfl (lv_at hl 2 rfl) ?_
  obtain ⟨σ_1, r_2, hg, hf⟩ := bn2_s hf
  refine x_calli (x_runV (As := [.int p1, .int p2]) (rest := []) X K O (xct_obj rfl LM_99) rfl (m_M_X6_fact hg) EN_b EN_h (lw_V q1447 q1449 qs68 q124 q1450) 2 rfl hl.1 (Nat.le_of_ble_eq_true rfl) hdV_X6_fact ⟨by decide, by decide⟩ ⟨Nat.le_refl _, Nat.le_refl _⟩ dX6_grows_3) (fun r u H locs hp O _ => ?_)
  cases hp
  have O : XH D A s.heap h (xct LM okM h d σ_1) H locs := O
  refine lv_iload_n hx hb dX6_grows_6 rfl (lv_at hl 3 rfl) ?_
  refine lv_iadd hx hb dX6_grows_7 ?_
  obtain ⟨x4_3, ex4_3, hf⟩ := lt1_s hf
  refine x_top (w := .int x4_3) (by rw [ex4_3]) ?_
  refine lv_istore (lv' := [(4, .int x4_3), (0, .ref (h 99 0 0)), (1, .int p1), (2, .int p2), (3, .int p3)]) hx hb dX6_grows_8 hl (by decide) rfl (fun ls hl => ?_)
  refine lv_aload_n hx hb dX6_grows_10 rfl (lv_at hl 1 rfl) ?_
  refine lv_iload_n hx hb dX6_grows_11 rfl (lv_at hl 2 rfl) ?_
  refine lv_iload_n hx hb dX6_grows_12 rfl (lv_at hl 3 rfl) ?_
  refine lv_iload hx hb dX6_grows_13 (lv_at hl 0 rfl) ?_
  refine lv_sipush (v := 9999) hx hb dX6_grows_15 (by decide) ?_
  refine lv_icmp_le (tgt := 27) hx hb dX6_grows_18 (by decide) (fun c_4 => ?_) (fun c_4 => ?_)
  · replace hf := if_t c_4 hf
    refine lv_iload hx hb dX6_grows_27 (lv_at hl 0 rfl) ?_
    exact w_M_X6_grows_b29 X K _ _ _ _ ls _ _ O (lv_sub hl [] rfl) hf
  · replace hf := if_f c_4 hf
    refine lv_sipush (v := 9999) hx hb dX6_grows_21 (by decide) ?_
    refine lv_goto (tgt := 29) hx hb dX6_grows_24 (by decide) ?_
    exact w_M_X6_grows_b29 X K _ _ _ _ ls _ _ O (lv_sub hl [] rfl) hf
theorem hdV_X6_adds : yX6_adds.cls = RX6 ∧ (yX6_adds.cls ≠ "java/lang/invoke/MethodHandle" ∧ yX6_adds.cls ≠ "java/lang/invoke/VarHandle" ∧ (parseMethodDescriptor yX6_adds.desc).map (fun d => d.parameters.length) = some 3) := by decide +kernel
theorem hdV_X6_draw : yX6_draw.cls = RX6 ∧ (yX6_draw.cls ≠ "java/lang/invoke/MethodHandle" ∧ yX6_draw.cls ≠ "java/lang/invoke/VarHandle" ∧ (parseMethodDescriptor yX6_draw.desc).map (fun d => d.parameters.length) = some 1) := by decide +kernel
theorem hdV_X6_grows : yX6_grows.cls = RX6 ∧ (yX6_grows.cls ≠ "java/lang/invoke/MethodHandle" ∧ yX6_grows.cls ≠ "java/lang/invoke/VarHandle" ∧ (parseMethodDescriptor yX6_grows.desc).map (fun d => d.parameters.length) = some 3) := by decide +kernel
def M_X6_cuts_b53 (σ : ST) (x1 : Int32) (x2 : Int32) (x3 : Int32) (x4 : Int32) (x5 : Int32) : Option (ST × Int32) :=
  (if x5 = 0 then bn1 (M_X6_grows σ x1 2 1) (fun σ_9 => bn1 (M_X6_grows σ_9 x1 4 x4) (fun σ_10 => (if x2 = 0 then some (σ_10, 0) else some (σ_10, 3)))) else (if x3 = 0 then bn1 (M_X6_adds σ x1 8 1) (fun σ_3 => lt1 (sI σ_3 99 0 0 33 ((gI σ_3 99 0 0 33) + 1)) (fun σ_4 => bn1 (M_X6_puts σ_4 x1 6 (gI σ_4 6 0 0 6)) (fun σ_5 => bn1 (M_X6_adds σ_5 x1 7 ((-(gI σ_5 6 0 0 4)) * x4)) (fun σ_6 => some (σ_6, 2))))) else bn1 (M_X6_grows σ x1 3 1) (fun σ_7 => bn1 (M_X6_grows σ_7 x1 5 x4) (fun σ_8 => some (σ_8, 1)))))
theorem w_M_X6_cuts_b53 (X : FX p m c meth s args RX6 cX6_cuts 6 (some .int)) (K : XK D d A s) {z : ST × Int32} (σ : ST) (x1 : Int32) (x2 : Int32) (x3 : Int32) (x4 : Int32) (x5 : Int32) (ls : Array Slot) (H : Heap) (locs : List Loc) (O : XH D A s.heap h (xct LM okM h d σ) H locs) (hl : lv_has ls 6 [(0, .ref (h 99 0 0)), (1, .int x1), (2, .int x2), (3, .int x3), (4, .int x4), (5, .int x5)]) (hf : M_X6_cuts_b53 σ x1 x2 x3 x4 x5 = some z) : W p l e (rmD 2 0 0) s m args below meth c H locs 0 0 (MQ below (Qi D (pz z) (cw h LM okM d) A) args s 0 0 A) (F0 m 53 ls []) := by
  have hx := X.1.1; have hb := X.1.2.1
  rw [M_X6_cuts_b53] at hf
  refine lv_iload hx hb dX6_cuts_53 (lv_at hl 5 rfl) ?_
  refine lv_if_ne (tgt := 83) hx hb dX6_cuts_55 (by decide) (fun c_1 => ?_) (fun c_1 => ?_)
  · replace hf := if_f c_1 hf
    refine lv_iload_n hx hb dX6_cuts_83 rfl (lv_at hl 3 rfl) ?_
    refine lv_if_eq (tgt := 104) hx hb dX6_cuts_84 (by decide) (fun c_2 => ?_) (fun c_2 => ?_)
    · replace hf := if_t c_2 hf
      refine lv_aload_n hx hb dX6_cuts_104 rfl (lv_at hl 0 rfl) ?_
      refine lv_iload_n hx hb dX6_cuts_105 rfl (lv_at hl 1 rfl) ?_
      refine lv_bipush (v := 8) hx hb dX6_cuts_106 (by decide) ?_
      refine lv_iconst (v := 1) hx hb dX6_cuts_108 (by decide) ?_
      obtain ⟨σ_3, hg, hf⟩ := bn1_s hf
      refine x_callv (x_runV (As := [.int x1, .int 8, .int 1]) (rest := []) X K O (xct_obj rfl LM_99) rfl (m_M_X6_adds hg) EN_b EN_h (lw_V q1500 q1502 qs79 q124 q1503) 3 rfl hl.1 (Nat.le_of_ble_eq_true rfl) hdV_X6_adds ⟨by decide, by decide⟩ ⟨Nat.le_refl _, Nat.le_refl _⟩ dX6_cuts_109) (fun u H locs hp O _ => ?_)
      cases hp
      have O : XH D A s.heap h (xct LM okM h d σ_3) H locs := O
      refine lv_aload_n hx hb dX6_cuts_112 rfl (lv_at hl 0 rfl) ?_
      refine lv_aload_n hx hb dX6_cuts_113 rfl (lv_at hl 0 rfl) ?_
      refine x_gI X K O 33 rfl LM_99 rfl rfl in_X6 (by decide) q1183 dX6_cuts_114 ?_
      refine lv_iconst (v := 1) hx hb dX6_cuts_117 (by decide) ?_
      refine lv_iadd hx hb dX6_cuts_118 ?_
      obtain ⟨σ_4, eσ_4, hf⟩ := lt1_s hf
      refine x_pI X K O 33 rfl LM_99 rfl rfl in_X6 tyX6_ok nmX6 (by decide) q1183 rfl rfl rfl dX6_cuts_119 (fun H locs O => ?_)
      rw [← eσ_4] at O
      refine lv_aload_n hx hb dX6_cuts_122 rfl (lv_at hl 0 rfl) ?_
      refine lv_iload_n hx hb dX6_cuts_123 rfl (lv_at hl 1 rfl) ?_
      refine lv_bipush (v := 6) hx hb dX6_cuts_124 (by decide) ?_
      refine lv_aload_n hx hb dX6_cuts_126 rfl (lv_at hl 0 rfl) ?_
      refine x_gF X K O 6 rfl LM_99 rfl rfl in_X6 (by decide) q1156 dX6_cuts_127 ?_
      refine lv_bipush (v := 6) hx hb dX6_cuts_130 (by decide) ?_
      refine x_ild X K O rfl LM_6 (by decide) (j := 6) rfl dX6_cuts_132 ?_
      obtain ⟨σ_5, hg, hf⟩ := bn1_s hf
      refine x_callv (x_runV (As := [.int x1, .int 6, .int (gI σ_4 6 0 0 6)]) (rest := []) X K O (xct_obj rfl LM_99) rfl (m_M_X6_puts hg) EN_b EN_h (lw_V q1331 q1333 qs46 q124 q1334) 3 rfl hl.1 (Nat.le_of_ble_eq_true rfl) hdV_X6_puts ⟨by decide, by decide⟩ ⟨Nat.le_refl _, Nat.le_refl _⟩ dX6_cuts_133) (fun u H locs hp O _ => ?_)
      cases hp
      have O : XH D A s.heap h (xct LM okM h d σ_5) H locs := O
      refine lv_aload_n hx hb dX6_cuts_136 rfl (lv_at hl 0 rfl) ?_
      refine lv_iload_n hx hb dX6_cuts_137 rfl (lv_at hl 1 rfl) ?_
      refine lv_bipush (v := 7) hx hb dX6_cuts_138 (by decide) ?_
      refine lv_aload_n hx hb dX6_cuts_140 rfl (lv_at hl 0 rfl) ?_
      refine x_gF X K O 6 rfl LM_99 rfl rfl in_X6 (by decide) q1156 dX6_cuts_141 ?_
      refine lv_iconst (v := 4) hx hb dX6_cuts_144 (by decide) ?_
      refine x_ild X K O rfl LM_6 (by decide) (j := 4) rfl dX6_cuts_145 ?_
      refine lv_ineg hx hb dX6_cuts_146 ?_
      refine lv_iload hx hb dX6_cuts_147 (lv_at hl 4 rfl) ?_
      refine lv_imul hx hb dX6_cuts_149 ?_
      obtain ⟨σ_6, hg, hf⟩ := bn1_s hf
      refine x_callv (x_runV (As := [.int x1, .int 7, .int ((-(gI σ_5 6 0 0 4)) * x4)]) (rest := []) X K O (xct_obj rfl LM_99) rfl (m_M_X6_adds hg) EN_b EN_h (lw_V q1500 q1502 qs79 q124 q1503) 3 rfl hl.1 (Nat.le_of_ble_eq_true rfl) hdV_X6_adds ⟨by decide, by decide⟩ ⟨Nat.le_refl _, Nat.le_refl _⟩ dX6_cuts_150) (fun u H locs hp O _ => ?_)
      cases hp
      have O : XH D A s.heap h (xct LM okM h d σ_6) H locs := O
      refine lv_iconst (v := 2) hx hb dX6_cuts_153 (by decide) ?_
      exact x_iret X O rfl _ (Option.some.inj hf).symm rfl dX6_cuts_154
    · replace hf := if_f c_2 hf
      refine lv_aload_n hx hb dX6_cuts_87 rfl (lv_at hl 0 rfl) ?_
      refine lv_iload_n hx hb dX6_cuts_88 rfl (lv_at hl 1 rfl) ?_
      refine lv_iconst (v := 3) hx hb dX6_cuts_89 (by decide) ?_
      refine lv_iconst (v := 1) hx hb dX6_cuts_90 (by decide) ?_
      obtain ⟨σ_7, hg, hf⟩ := bn1_s hf
      refine x_callv (x_runV (As := [.int x1, .int 3, .int 1]) (rest := []) X K O (xct_obj rfl LM_99) rfl (m_M_X6_grows hg) EN_b EN_h (lw_V q1514 q1516 qs82 q124 q1517) 3 rfl hl.1 (Nat.le_of_ble_eq_true rfl) hdV_X6_grows ⟨by decide, by decide⟩ ⟨Nat.le_refl _, Nat.le_refl _⟩ dX6_cuts_91) (fun u H locs hp O _ => ?_)
      cases hp
      have O : XH D A s.heap h (xct LM okM h d σ_7) H locs := O
      refine lv_aload_n hx hb dX6_cuts_94 rfl (lv_at hl 0 rfl) ?_
      refine lv_iload_n hx hb dX6_cuts_95 rfl (lv_at hl 1 rfl) ?_
      refine lv_iconst (v := 5) hx hb dX6_cuts_96 (by decide) ?_
      refine lv_iload hx hb dX6_cuts_97 (lv_at hl 4 rfl) ?_
      obtain ⟨σ_8, hg, hf⟩ := bn1_s hf
      refine x_callv (x_runV (As := [.int x1, .int 5, .int x4]) (rest := []) X K O (xct_obj rfl LM_99) rfl (m_M_X6_grows hg) EN_b EN_h (lw_V q1514 q1516 qs82 q124 q1517) 3 rfl hl.1 (Nat.le_of_ble_eq_true rfl) hdV_X6_grows ⟨by decide, by decide⟩ ⟨Nat.le_refl _, Nat.le_refl _⟩ dX6_cuts_99) (fun u H locs hp O _ => ?_)
      cases hp
      have O : XH D A s.heap h (xct LM okM h d σ_8) H locs := O
      refine lv_iconst (v := 1) hx hb dX6_cuts_102 (by decide) ?_
      exact x_iret X O rfl _ (Option.some.inj hf).symm rfl dX6_cuts_103
  · replace hf := if_t c_1 hf
    refine lv_aload_n hx hb dX6_cuts_58 rfl (lv_at hl 0 rfl) ?_
    refine lv_iload_n hx hb dX6_cuts_59 rfl (lv_at hl 1 rfl) ?_
    refine lv_iconst (v := 2) hx hb dX6_cuts_60 (by decide) ?_
    refine lv_iconst (v := 1) hx hb dX6_cuts_61 (by decide) ?_
    obtain ⟨σ_9, hg, hf⟩ := bn1_s hf
    refine x_callv (x_runV (As := [.int x1, .int 2, .int 1]) (rest := []) X K O (xct_obj rfl LM_99) rfl (m_M_X6_grows hg) EN_b EN_h (lw_V q1514 q1516 qs82 q124 q1517) 3 rfl hl.1 (Nat.le_of_ble_eq_true rfl) hdV_X6_grows ⟨by decide, by decide⟩ ⟨Nat.le_refl _, Nat.le_refl _⟩ dX6_cuts_62) (fun u H locs hp O _ => ?_)
    cases hp
    have O : XH D A s.heap h (xct LM okM h d σ_9) H locs := O
    refine lv_aload_n hx hb dX6_cuts_65 rfl (lv_at hl 0 rfl) ?_
    refine lv_iload_n hx hb dX6_cuts_66 rfl (lv_at hl 1 rfl) ?_
    refine lv_iconst (v := 4) hx hb dX6_cuts_67 (by decide) ?_
    refine lv_iload hx hb dX6_cuts_68 (lv_at hl 4 rfl) ?_
    obtain ⟨σ_10, hg, hf⟩ := bn1_s hf
    refine x_callv (x_runV (As := [.int x1, .int 4, .int x4]) (rest := []) X K O (xct_obj rfl LM_99) rfl (m_M_X6_grows hg) EN_b EN_h (lw_V q1514 q1516 qs82 q124 q1517) 3 rfl hl.1 (Nat.le_of_ble_eq_true rfl) hdV_X6_grows ⟨by decide, by decide⟩ ⟨Nat.le_refl _, Nat.le_refl _⟩ dX6_cuts_70) (fun u H locs hp O _ => ?_)
    cases hp
    have O : XH D A s.heap h (xct LM okM h d σ_10) H locs := O
    refine lv_iload_n hx hb dX6_cuts_73 rfl (lv_at hl 2 rfl) ?_
    refine lv_if_eq (tgt := 81) hx hb dX6_cuts_74 (by decide) (fun c_11 => ?_) (fun c_11 => ?_)
    · replace hf := if_t c_11 hf
      refine lv_iconst (v := 0) hx hb dX6_cuts_81 (by decide) ?_
      exact x_iret X O rfl _ (Option.some.inj hf).symm rfl dX6_cuts_82
    · replace hf := if_f c_11 hf
      refine lv_iconst (v := 3) hx hb dX6_cuts_77 (by decide) ?_
      refine lv_goto (tgt := 82) hx hb dX6_cuts_78 (by decide) ?_
      exact x_iret X O rfl _ (Option.some.inj hf).symm rfl dX6_cuts_82
def M_X6_cuts_b37 (σ : ST) (x1 : Int32) (x2 : Int32) (x3 : Int32) (x4 : Int32) (s0 : Int32) : Option (ST × Int32) :=
  (if x2 = 0 then M_X6_cuts_b53 σ x1 x2 x3 x4 s0 else lt1 (sI σ 99 0 0 32 ((gI σ 99 0 0 32) + 1)) (fun σ_2 => M_X6_cuts_b53 σ_2 x1 x2 x3 x4 s0))
theorem w_M_X6_cuts_b37 (X : FX p m c meth s args RX6 cX6_cuts 6 (some .int)) (K : XK D d A s) {z : ST × Int32} (σ : ST) (x1 : Int32) (x2 : Int32) (x3 : Int32) (x4 : Int32) (s0 : Int32) (ls : Array Slot) (H : Heap) (locs : List Loc) (O : XH D A s.heap h (xct LM okM h d σ) H locs) (hl : lv_has ls 6 [(0, .ref (h 99 0 0)), (1, .int x1), (2, .int x2), (3, .int x3), (4, .int x4)]) (hf : M_X6_cuts_b37 σ x1 x2 x3 x4 s0 = some z) : W p l e (rmD 2 0 0) s m args below meth c H locs 0 0 (MQ below (Qi D (pz z) (cw h LM okM d) A) args s 0 0 A) (F0 m 37 ls [.int s0]) := by
  have hx := X.1.1; have hb := X.1.2.1
  rw [M_X6_cuts_b37] at hf
  refine lv_istore (lv' := [(5, .int s0), (0, .ref (h 99 0 0)), (1, .int x1), (2, .int x2), (3, .int x3), (4, .int x4)]) hx hb dX6_cuts_37 hl (by decide) rfl (fun ls hl => ?_)
  refine lv_iload_n hx hb dX6_cuts_39 rfl (lv_at hl 3 rfl) ?_
  refine lv_if_eq (tgt := 53) hx hb dX6_cuts_40 (by decide) (fun c_1 => ?_) (fun c_1 => ?_)
  · replace hf := if_t c_1 hf
    exact w_M_X6_cuts_b53 X K _ _ _ _ _ _ ls _ _ O (lv_sub hl [1, 2, 3, 4, 5, 0] rfl) hf
  · replace hf := if_f c_1 hf
    refine lv_aload_n hx hb dX6_cuts_43 rfl (lv_at hl 1 rfl) ?_
    refine lv_aload_n hx hb dX6_cuts_44 rfl (lv_at hl 1 rfl) ?_
    refine x_gI X K O 32 rfl LM_99 rfl rfl in_X6 (by decide) q1182 dX6_cuts_45 ?_
    refine lv_iconst (v := 1) hx hb dX6_cuts_48 (by decide) ?_
    refine lv_iadd hx hb dX6_cuts_49 ?_
    obtain ⟨σ_2, eσ_2, hf⟩ := lt1_s hf
    refine x_pI X K O 32 rfl LM_99 rfl rfl in_X6 tyX6_ok nmX6 (by decide) q1182 rfl rfl rfl dX6_cuts_50 (fun H locs O => ?_)
    rw [← eσ_2] at O
    exact w_M_X6_cuts_b53 X K _ _ _ _ _ _ ls _ _ O (lv_sub hl [1, 2, 3, 4, 5, 0] rfl) hf
def M_X6_cuts_b36 (σ : ST) (x1 : Int32) (x2 : Int32) (x3 : Int32) (x4 : Int32) : Option (ST × Int32) :=
  M_X6_cuts_b37 σ x1 x2 x3 x4 0
theorem w_M_X6_cuts_b36 (X : FX p m c meth s args RX6 cX6_cuts 6 (some .int)) (K : XK D d A s) {z : ST × Int32} (σ : ST) (x1 : Int32) (x2 : Int32) (x3 : Int32) (x4 : Int32) (ls : Array Slot) (H : Heap) (locs : List Loc) (O : XH D A s.heap h (xct LM okM h d σ) H locs) (hl : lv_has ls 6 [(0, .ref (h 99 0 0)), (1, .int x1), (2, .int x2), (3, .int x3), (4, .int x4)]) (hf : M_X6_cuts_b36 σ x1 x2 x3 x4 = some z) : W p l e (rmD 2 0 0) s m args below meth c H locs 0 0 (MQ below (Qi D (pz z) (cw h LM okM d) A) args s 0 0 A) (F0 m 36 ls []) := by
  have hx := X.1.1; have hb := X.1.2.1
  rw [M_X6_cuts_b36] at hf
  refine lv_iconst (v := 0) hx hb dX6_cuts_36 (by decide) ?_
  exact w_M_X6_cuts_b37 X K _ _ _ _ _ _ ls _ _ O (lv_sub hl [0, 1, 2, 3, 4] rfl) hf
def M_X6_cuts_b32 (σ : ST) (x1 : Int32) (x2 : Int32) (x3 : Int32) (x4 : Int32) : Option (ST × Int32) :=
  M_X6_cuts_b37 σ x1 x2 x3 x4 1
theorem w_M_X6_cuts_b32 (X : FX p m c meth s args RX6 cX6_cuts 6 (some .int)) (K : XK D d A s) {z : ST × Int32} (σ : ST) (x1 : Int32) (x2 : Int32) (x3 : Int32) (x4 : Int32) (ls : Array Slot) (H : Heap) (locs : List Loc) (O : XH D A s.heap h (xct LM okM h d σ) H locs) (hl : lv_has ls 6 [(0, .ref (h 99 0 0)), (1, .int x1), (2, .int x2), (3, .int x3), (4, .int x4)]) (hf : M_X6_cuts_b32 σ x1 x2 x3 x4 = some z) : W p l e (rmD 2 0 0) s m args below meth c H locs 0 0 (MQ below (Qi D (pz z) (cw h LM okM d) A) args s 0 0 A) (F0 m 32 ls []) := by
  have hx := X.1.1; have hb := X.1.2.1
  rw [M_X6_cuts_b32] at hf
  refine lv_iconst (v := 1) hx hb dX6_cuts_32 (by decide) ?_
  refine lv_goto (tgt := 37) hx hb dX6_cuts_33 (by decide) ?_
  exact w_M_X6_cuts_b37 X K _ _ _ _ _ _ ls _ _ O (lv_sub hl [0, 1, 2, 3, 4] rfl) hf
def M_X6_cuts (σ : ST) (p1 : Int32) (p2 : Int32) (p3 : Int32) (p4 : Int32) : Option (ST × Int32) :=
  (if p2 = 0 then M_X6_cuts_b36 σ p1 p2 p3 p4 else (if (gI σ 6 0 0 5) = 1000 then M_X6_cuts_b32 σ p1 p2 p3 p4 else bn2 (M_X6_draw σ 1000) (fun σ_3 r_4 => (if (gI σ_3 6 0 0 5) ≤ r_4 then M_X6_cuts_b36 σ_3 p1 p2 p3 p4 else M_X6_cuts_b32 σ_3 p1 p2 p3 p4))))
theorem m_M_X6_cuts {l : Launch} {D : va_G} {d : Nat → ClassId} {h : IX} {p1 : Int32} {p2 : Int32} {p3 : Int32} {p4 : Int32} {σ : ST} {z : ST × Int32} (hf : M_X6_cuts σ p1 p2 p3 p4 = some z) : XM l D d EN yX6_cuts cX6_cuts 6 (some .int) 2 0 0 [.ref (h 99 0 0), .int p1, .int p2, .int p3, .int p4] h (xct LM okM h d σ) (Qi D (pz z) (cw h LM okM d)) := by
  refine XM.of (by decide +kernel) (Nat.le_of_ble_eq_true rfl) ?_
  intro p e s m below meth c A ls X _ K _ O hl
  have hl : lv_has ls 6 [(0, .ref (h 99 0 0)), (1, .int p1), (2, .int p2), (3, .int p3), (4, .int p4)] := hl
  have hx := X.1.1; have hb := X.1.2.1
  rw [M_X6_cuts] at hf
  refine lv_iload_n hx hb dX6_cuts_0 rfl (lv_at hl 2 rfl) ?_
  refine lv_if_eq (tgt := 36) hx hb dX6_cuts_1 (by decide) (fun c_1 => ?_) (fun c_1 => ?_)
  · replace hf := if_t c_1 hf
    exact w_M_X6_cuts_b36 X K _ _ _ _ _ ls _ _ O (lv_sub hl [0, 1, 2, 3, 4] rfl) hf
  · replace hf := if_f c_1 hf
    refine lv_aload_n hx hb dX6_cuts_4 rfl (lv_at hl 0 rfl) ?_
    refine x_gF X K O 6 rfl LM_99 rfl rfl in_X6 (by decide) q1156 dX6_cuts_5 ?_
    refine lv_iconst (v := 5) hx hb dX6_cuts_8 (by decide) ?_
    refine x_ild X K O rfl LM_6 (by decide) (j := 5) rfl dX6_cuts_9 ?_
    refine lv_sipush (v := 1000) hx hb dX6_cuts_10 (by decide) ?_
    refine lv_icmp_eq (tgt := 32) hx hb dX6_cuts_13 (by decide) (fun c_2 => ?_) (fun c_2 => ?_)
    · replace hf := if_t c_2 hf
      exact w_M_X6_cuts_b32 X K _ _ _ _ _ ls _ _ O (lv_sub hl [0, 1, 2, 3, 4] rfl) hf
    · replace hf := if_f c_2 hf
      refine lv_aload_n hx hb dX6_cuts_16 rfl (lv_at hl 0 rfl) ?_
      refine lv_sipush (v := 1000) hx hb dX6_cuts_17 (by decide) ?_
      obtain ⟨σ_3, r_4, hg, hf⟩ := bn2_s hf
      refine x_calli (x_runV (As := [.int 1000]) (rest := []) X K O (xct_obj rfl LM_99) rfl (m_M_X6_draw hg) EN_b EN_h (lw_V q1508 q1510 qs81 q124 q1511) 1 rfl hl.1 (Nat.le_of_ble_eq_true rfl) hdV_X6_draw ⟨by decide, by decide⟩ ⟨Nat.le_refl _, Nat.le_refl _⟩ dX6_cuts_20) (fun r u H locs hp O _ => ?_)
      cases hp
      have O : XH D A s.heap h (xct LM okM h d σ_3) H locs := O
      refine lv_aload_n hx hb dX6_cuts_23 rfl (lv_at hl 0 rfl) ?_
      refine x_gF X K O 6 rfl LM_99 rfl rfl in_X6 (by decide) q1156 dX6_cuts_24 ?_
      refine lv_iconst (v := 5) hx hb dX6_cuts_27 (by decide) ?_
      refine x_ild X K O rfl LM_6 (by decide) (j := 5) rfl dX6_cuts_28 ?_
      refine lv_icmp_ge (tgt := 36) hx hb dX6_cuts_29 (by decide) (fun c_5 => ?_) (fun c_5 => ?_)
      · replace hf := if_t c_5 hf
        exact w_M_X6_cuts_b36 X K _ _ _ _ _ ls _ _ O (lv_sub hl [0, 1, 2, 3, 4] rfl) hf
      · replace hf := if_f c_5 hf
        exact w_M_X6_cuts_b32 X K _ _ _ _ _ ls _ _ O (lv_sub hl [0, 1, 2, 3, 4] rfl) hf
theorem hdV_X6_cuts : yX6_cuts.cls = RX6 ∧ (yX6_cuts.cls ≠ "java/lang/invoke/MethodHandle" ∧ yX6_cuts.cls ≠ "java/lang/invoke/VarHandle" ∧ (parseMethodDescriptor yX6_cuts.desc).map (fun d => d.parameters.length) = some 4) := by decide +kernel
theorem hdV_X6_worthOf : yX6_worthOf.cls = RX6 ∧ (yX6_worthOf.cls ≠ "java/lang/invoke/MethodHandle" ∧ yX6_worthOf.cls ≠ "java/lang/invoke/VarHandle" ∧ (parseMethodDescriptor yX6_worthOf.desc).map (fun d => d.parameters.length) = some 3) := by decide +kernel
def M_X6_settlesDeal_b25 (σ : ST) (x1 : Int32) (x2 : Int32) (x3 : Int32) (s0 : Int32) : Option (ST × Int32) :=
  bn2 (M_X6_isBreaking σ x1 x2 x3) (fun σ_1 r_2 => bn2 (M_X6_isBreaking σ_1 x2 x1 x3) (fun σ_3 r_4 => bn2 (M_X6_isLawful σ_3 x1 x3) (fun σ_5 r_6 => bn2 (M_X6_isLawful σ_5 x2 x3) (fun σ_7 r_8 => (if s0 = 0 then some (σ_7, (-1)) else bn2 (M_X6_fact σ_7 x1 6) (fun σ_10 r_11 => (if 0 < r_11 then some (σ_10, (-1)) else bn2 (M_X6_fact σ_10 x2 6) (fun σ_13 r_14 => (if 0 < r_14 then some (σ_13, (-1)) else (if (gI σ_13 99 0 0 4) = 300 then some (σ_13, (-1)) else lt1 (8 * (gI σ_13 99 0 0 4)) (fun x9_17 => ck (okI x9_17 2400) (lt1 (sI σ_13 7 0 0 (Int32.toNatClampNeg x9_17) (gI σ_13 99 0 0 3)) (fun σ_19 => ck (okI (x9_17 + 1) 2400) (lt1 (sI σ_19 7 0 0 (Int32.toNatClampNeg (x9_17 + 1)) x1) (fun σ_21 => ck (okI (x9_17 + 2) 2400) (lt1 (sI σ_21 7 0 0 (Int32.toNatClampNeg (x9_17 + 2)) x2) (fun σ_23 => ck (okI (x9_17 + 3) 2400) (lt1 (sI σ_23 7 0 0 (Int32.toNatClampNeg (x9_17 + 3)) x3) (fun σ_25 => bn2 (M_X6_fact σ_25 x1 1) (fun σ_26 r_27 => ck (okI (x9_17 + 6) 2400) (lt1 (sI σ_26 7 0 0 (Int32.toNatClampNeg (x9_17 + 6)) r_27) (fun σ_29 => bn2 (M_X6_fact σ_29 x2 1) (fun σ_30 r_31 => ck (okI (x9_17 + 7) 2400) (lt1 (sI σ_30 7 0 0 (Int32.toNatClampNeg (x9_17 + 7)) r_31) (fun σ_33 => bn2 (M_X6_worthOf σ_33 r_2 r_4 x3) (fun σ_34 r_35 => bn1 (M_X6_adds σ_34 x1 7 r_35) (fun σ_36 => bn2 (M_X6_worthOf σ_36 r_4 r_2 x3) (fun σ_37 r_38 => bn1 (M_X6_adds σ_37 x2 7 r_38) (fun σ_39 => bn2 (M_X6_cuts σ_39 x1 r_2 r_6 x3) (fun σ_40 r_41 => ck (okI (x9_17 + 4) 2400) (lt1 (sI σ_40 7 0 0 (Int32.toNatClampNeg (x9_17 + 4)) r_41) (fun σ_43 => bn2 (M_X6_cuts σ_43 x2 r_4 r_8 x3) (fun σ_44 r_45 => ck (okI (x9_17 + 5) 2400) (lt1 (sI σ_44 7 0 0 (Int32.toNatClampNeg (x9_17 + 5)) r_45) (fun σ_47 => lt1 (sI σ_47 99 0 0 4 ((gI σ_47 99 0 0 4) + 1)) (fun σ_48 => some (σ_48, ((gI σ_48 99 0 0 4) - 1))))))))))))))))))))))))))))))))))))))
theorem w_M_X6_settlesDeal_b25 (X : FX p m c meth s args RX6 cX6_settlesDeal 10 (some .int)) (K : XK D d A s) {z : ST × Int32} (σ : ST) (x1 : Int32) (x2 : Int32) (x3 : Int32) (s0 : Int32) (ls : Array Slot) (H : Heap) (locs : List Loc) (O : XH D A s.heap h (xct LM okM h d σ) H locs) (hl : lv_has ls 10 [(0, .ref (h 99 0 0)), (1, .int x1), (2, .int x2), (3, .int x3)]) (hf : M_X6_settlesDeal_b25 σ x1 x2 x3 s0 = some z) : W p l e (rmD 5 0 0) s m args below meth c H locs 0 0 (MQ below (Qi D (pz z) (cw h LM okM d) A) args s 0 0 A) (F0 m 25 ls [.int s0]) := by
  have hx := X.1.1; have hb := X.1.2.1
  rw [M_X6_settlesDeal_b25] at hf
  refine lv_istore (lv' := [(4, .int s0), (0, .ref (h 99 0 0)), (1, .int x1), (2, .int x2), (3, .int x3)]) hx hb dX6_settlesDeal_25 hl (by decide) rfl (fun ls hl => ?_)
  refine lv_aload_n hx hb dX6_settlesDeal_27 rfl (lv_at hl 1 rfl) ?_
  refine lv_iload_n hx hb dX6_settlesDeal_28 rfl (lv_at hl 2 rfl) ?_
  refine lv_iload_n hx hb dX6_settlesDeal_29 rfl (lv_at hl 3 rfl) ?_
  refine lv_iload_n hx hb dX6_settlesDeal_30 rfl (lv_at hl 4 rfl) ?_
  obtain ⟨σ_1, r_2, hg, hf⟩ := bn2_s hf
  refine x_calli (x_runV (As := [.int x1, .int x2, .int x3]) (rest := []) X K O (xct_obj rfl LM_99) rfl (m_M_X6_isBreaking hg) EN_b EN_h (lw_V q1484 q1486 qs76 q124 q1487) 3 rfl hl.1 (Nat.le_of_ble_eq_true rfl) hdV_X6_isBreaking ⟨by decide, by decide⟩ ⟨Nat.le_refl _, Nat.le_refl _⟩ dX6_settlesDeal_31) (fun r u H locs hp O _ => ?_)
  cases hp
  have O : XH D A s.heap h (xct LM okM h d σ_1) H locs := O
  refine lv_istore (lv' := [(5, .int r_2), (4, .int s0), (0, .ref (h 99 0 0)), (1, .int x1), (2, .int x2), (3, .int x3)]) hx hb dX6_settlesDeal_34 hl (by decide) rfl (fun ls hl => ?_)
  refine lv_aload_n hx hb dX6_settlesDeal_36 rfl (lv_at hl 2 rfl) ?_
  refine lv_iload_n hx hb dX6_settlesDeal_37 rfl (lv_at hl 4 rfl) ?_
  refine lv_iload_n hx hb dX6_settlesDeal_38 rfl (lv_at hl 3 rfl) ?_
  refine lv_iload_n hx hb dX6_settlesDeal_39 rfl (lv_at hl 5 rfl) ?_
  obtain ⟨σ_3, r_4, hg, hf⟩ := bn2_s hf
  refine x_calli (x_runV (As := [.int x2, .int x1, .int x3]) (rest := []) X K O (xct_obj rfl LM_99) rfl (m_M_X6_isBreaking hg) EN_b EN_h (lw_V q1484 q1486 qs76 q124 q1487) 3 rfl hl.1 (Nat.le_of_ble_eq_true rfl) hdV_X6_isBreaking ⟨by decide, by decide⟩ ⟨Nat.le_refl _, Nat.le_refl _⟩ dX6_settlesDeal_40) (fun r u H locs hp O _ => ?_)
  cases hp
  have O : XH D A s.heap h (xct LM okM h d σ_3) H locs := O
  refine lv_istore (lv' := [(6, .int r_4), (5, .int r_2), (4, .int s0), (0, .ref (h 99 0 0)), (1, .int x1), (2, .int x2), (3, .int x3)]) hx hb dX6_settlesDeal_43 hl (by decide) rfl (fun ls hl => ?_)
  refine lv_aload_n hx hb dX6_settlesDeal_45 rfl (lv_at hl 3 rfl) ?_
  refine lv_iload_n hx hb dX6_settlesDeal_46 rfl (lv_at hl 4 rfl) ?_
  refine lv_iload_n hx hb dX6_settlesDeal_47 rfl (lv_at hl 6 rfl) ?_
  obtain ⟨σ_5, r_6, hg, hf⟩ := bn2_s hf
  refine x_calli (x_runV (As := [.int x1, .int x3]) (rest := []) X K O (xct_obj rfl LM_99) rfl (m_M_X6_isLawful hg) EN_b EN_h (lw_V q1468 q1470 qs72 q124 q1471) 2 rfl hl.1 (Nat.le_of_ble_eq_true rfl) hdV_X6_isLawful ⟨by decide, by decide⟩ ⟨Nat.le_refl _, Nat.le_refl _⟩ dX6_settlesDeal_48) (fun r u H locs hp O _ => ?_)
  cases hp
  have O : XH D A s.heap h (xct LM okM h d σ_5) H locs := O
  refine lv_istore (lv' := [(7, .int r_6), (6, .int r_4), (5, .int r_2), (4, .int s0), (0, .ref (h 99 0 0)), (1, .int x1), (2, .int x2), (3, .int x3)]) hx hb dX6_settlesDeal_51 hl (by decide) rfl (fun ls hl => ?_)
  refine lv_aload_n hx hb dX6_settlesDeal_53 rfl (lv_at hl 4 rfl) ?_
  refine lv_iload_n hx hb dX6_settlesDeal_54 rfl (lv_at hl 6 rfl) ?_
  refine lv_iload_n hx hb dX6_settlesDeal_55 rfl (lv_at hl 7 rfl) ?_
  obtain ⟨σ_7, r_8, hg, hf⟩ := bn2_s hf
  refine x_calli (x_runV (As := [.int x2, .int x3]) (rest := []) X K O (xct_obj rfl LM_99) rfl (m_M_X6_isLawful hg) EN_b EN_h (lw_V q1468 q1470 qs72 q124 q1471) 2 rfl hl.1 (Nat.le_of_ble_eq_true rfl) hdV_X6_isLawful ⟨by decide, by decide⟩ ⟨Nat.le_refl _, Nat.le_refl _⟩ dX6_settlesDeal_56) (fun r u H locs hp O _ => ?_)
  cases hp
  have O : XH D A s.heap h (xct LM okM h d σ_7) H locs := O
  refine lv_istore (lv' := [(8, .int r_8), (7, .int r_6), (6, .int r_4), (5, .int r_2), (4, .int s0), (0, .ref (h 99 0 0)), (1, .int x1), (2, .int x2), (3, .int x3)]) hx hb dX6_settlesDeal_59 hl (by decide) rfl (fun ls hl => ?_)
  refine lv_iload hx hb dX6_settlesDeal_61 (lv_at hl 4 rfl) ?_
  refine lv_if_eq (tgt := 96) hx hb dX6_settlesDeal_63 (by decide) (fun c_9 => ?_) (fun c_9 => ?_)
  · replace hf := if_t c_9 hf
    refine lv_iconst (v := (-1)) hx hb dX6_settlesDeal_96 (by decide) ?_
    exact x_iret X O rfl _ (Option.some.inj hf).symm rfl dX6_settlesDeal_97
  · replace hf := if_f c_9 hf
    refine lv_aload_n hx hb dX6_settlesDeal_66 rfl (lv_at hl 5 rfl) ?_
    refine lv_iload_n hx hb dX6_settlesDeal_67 rfl (lv_at hl 6 rfl) ?_
    refine lv_bipush (v := 6) hx hb dX6_settlesDeal_68 (by decide) ?_
    obtain ⟨σ_10, r_11, hg, hf⟩ := bn2_s hf
    refine x_calli (x_runV (As := [.int x1, .int 6]) (rest := []) X K O (xct_obj rfl LM_99) rfl (m_M_X6_fact hg) EN_b EN_h (lw_V q1447 q1449 qs68 q124 q1450) 2 rfl hl.1 (Nat.le_of_ble_eq_true rfl) hdV_X6_fact ⟨by decide, by decide⟩ ⟨Nat.le_refl _, Nat.le_refl _⟩ dX6_settlesDeal_70) (fun r u H locs hp O _ => ?_)
    cases hp
    have O : XH D A s.heap h (xct LM okM h d σ_10) H locs := O
    refine lv_if_gt (tgt := 96) hx hb dX6_settlesDeal_73 (by decide) (fun c_12 => ?_) (fun c_12 => ?_)
    · replace hf := if_t c_12 hf
      refine lv_iconst (v := (-1)) hx hb dX6_settlesDeal_96 (by decide) ?_
      exact x_iret X O rfl _ (Option.some.inj hf).symm rfl dX6_settlesDeal_97
    · replace hf := if_f c_12 hf
      refine lv_aload_n hx hb dX6_settlesDeal_76 rfl (lv_at hl 5 rfl) ?_
      refine lv_iload_n hx hb dX6_settlesDeal_77 rfl (lv_at hl 7 rfl) ?_
      refine lv_bipush (v := 6) hx hb dX6_settlesDeal_78 (by decide) ?_
      obtain ⟨σ_13, r_14, hg, hf⟩ := bn2_s hf
      refine x_calli (x_runV (As := [.int x2, .int 6]) (rest := []) X K O (xct_obj rfl LM_99) rfl (m_M_X6_fact hg) EN_b EN_h (lw_V q1447 q1449 qs68 q124 q1450) 2 rfl hl.1 (Nat.le_of_ble_eq_true rfl) hdV_X6_fact ⟨by decide, by decide⟩ ⟨Nat.le_refl _, Nat.le_refl _⟩ dX6_settlesDeal_80) (fun r u H locs hp O _ => ?_)
      cases hp
      have O : XH D A s.heap h (xct LM okM h d σ_13) H locs := O
      refine lv_if_gt (tgt := 96) hx hb dX6_settlesDeal_83 (by decide) (fun c_15 => ?_) (fun c_15 => ?_)
      · replace hf := if_t c_15 hf
        refine lv_iconst (v := (-1)) hx hb dX6_settlesDeal_96 (by decide) ?_
        exact x_iret X O rfl _ (Option.some.inj hf).symm rfl dX6_settlesDeal_97
      · replace hf := if_f c_15 hf
        refine lv_aload_n hx hb dX6_settlesDeal_86 rfl (lv_at hl 5 rfl) ?_
        refine x_gI X K O 4 rfl LM_99 rfl rfl in_X6 (by decide) q1154 dX6_settlesDeal_87 ?_
        refine lv_sipush (v := 300) hx hb dX6_settlesDeal_90 (by decide) ?_
        refine lv_icmp_ne (tgt := 98) hx hb dX6_settlesDeal_93 (by decide) (fun c_16 => ?_) (fun c_16 => ?_)
        · replace hf := if_f c_16 hf
          refine lv_bipush (v := 8) hx hb dX6_settlesDeal_98 (by decide) ?_
          refine lv_aload_n hx hb dX6_settlesDeal_100 rfl (lv_at hl 5 rfl) ?_
          refine x_gI X K O 4 rfl LM_99 rfl rfl in_X6 (by decide) q1154 dX6_settlesDeal_101 ?_
          refine lv_imul hx hb dX6_settlesDeal_104 ?_
          obtain ⟨x9_17, ex9_17, hf⟩ := lt1_s hf
          refine x_top (w := .int x9_17) (by rw [ex9_17]) ?_
          refine lv_istore (lv' := [(9, .int x9_17), (8, .int r_8), (7, .int r_6), (6, .int r_4), (5, .int r_2), (4, .int s0), (0, .ref (h 99 0 0)), (1, .int x1), (2, .int x2), (3, .int x3)]) hx hb dX6_settlesDeal_105 hl (by decide) rfl (fun ls hl => ?_)
          refine lv_aload_n hx hb dX6_settlesDeal_107 rfl (lv_at hl 6 rfl) ?_
          refine x_gF X K O 7 rfl LM_99 rfl rfl in_X6 (by decide) q1157 dX6_settlesDeal_108 ?_
          refine lv_iload hx hb dX6_settlesDeal_111 (lv_at hl 0 rfl) ?_
          refine lv_aload_n hx hb dX6_settlesDeal_113 rfl (lv_at hl 6 rfl) ?_
          refine x_gI X K O 3 rfl LM_99 rfl rfl in_X6 (by decide) q1153 dX6_settlesDeal_114 ?_
          obtain ⟨c_18, hf⟩ := ck_s hf
          obtain ⟨σ_19, eσ_19, hf⟩ := lt1_s hf
          refine x_ist X K O rfl LM_7 c_18 (j := (Int32.toNatClampNeg x9_17)) rfl dX6_settlesDeal_117 (fun H locs O => ?_)
          rw [← eσ_19] at O
          refine lv_aload_n hx hb dX6_settlesDeal_118 rfl (lv_at hl 6 rfl) ?_
          refine x_gF X K O 7 rfl LM_99 rfl rfl in_X6 (by decide) q1157 dX6_settlesDeal_119 ?_
          refine lv_iload hx hb dX6_settlesDeal_122 (lv_at hl 0 rfl) ?_
          refine lv_iconst (v := 1) hx hb dX6_settlesDeal_124 (by decide) ?_
          refine lv_iadd hx hb dX6_settlesDeal_125 ?_
          refine lv_iload_n hx hb dX6_settlesDeal_126 rfl (lv_at hl 7 rfl) ?_
          obtain ⟨c_20, hf⟩ := ck_s hf
          obtain ⟨σ_21, eσ_21, hf⟩ := lt1_s hf
          refine x_ist X K O rfl LM_7 c_20 (j := (Int32.toNatClampNeg (x9_17 + 1))) rfl dX6_settlesDeal_127 (fun H locs O => ?_)
          rw [← eσ_21] at O
          refine lv_aload_n hx hb dX6_settlesDeal_128 rfl (lv_at hl 6 rfl) ?_
          refine x_gF X K O 7 rfl LM_99 rfl rfl in_X6 (by decide) q1157 dX6_settlesDeal_129 ?_
          refine lv_iload hx hb dX6_settlesDeal_132 (lv_at hl 0 rfl) ?_
          refine lv_iconst (v := 2) hx hb dX6_settlesDeal_134 (by decide) ?_
          refine lv_iadd hx hb dX6_settlesDeal_135 ?_
          refine lv_iload_n hx hb dX6_settlesDeal_136 rfl (lv_at hl 8 rfl) ?_
          obtain ⟨c_22, hf⟩ := ck_s hf
          obtain ⟨σ_23, eσ_23, hf⟩ := lt1_s hf
          refine x_ist X K O rfl LM_7 c_22 (j := (Int32.toNatClampNeg (x9_17 + 2))) rfl dX6_settlesDeal_137 (fun H locs O => ?_)
          rw [← eσ_23] at O
          refine lv_aload_n hx hb dX6_settlesDeal_138 rfl (lv_at hl 6 rfl) ?_
          refine x_gF X K O 7 rfl LM_99 rfl rfl in_X6 (by decide) q1157 dX6_settlesDeal_139 ?_
          refine lv_iload hx hb dX6_settlesDeal_142 (lv_at hl 0 rfl) ?_
          refine lv_iconst (v := 3) hx hb dX6_settlesDeal_144 (by decide) ?_
          refine lv_iadd hx hb dX6_settlesDeal_145 ?_
          refine lv_iload_n hx hb dX6_settlesDeal_146 rfl (lv_at hl 9 rfl) ?_
          obtain ⟨c_24, hf⟩ := ck_s hf
          obtain ⟨σ_25, eσ_25, hf⟩ := lt1_s hf
          refine x_ist X K O rfl LM_7 c_24 (j := (Int32.toNatClampNeg (x9_17 + 3))) rfl dX6_settlesDeal_147 (fun H locs O => ?_)
          rw [← eσ_25] at O
          refine lv_aload_n hx hb dX6_settlesDeal_148 rfl (lv_at hl 6 rfl) ?_
          refine x_gF X K O 7 rfl LM_99 rfl rfl in_X6 (by decide) q1157 dX6_settlesDeal_149 ?_
          refine lv_iload hx hb dX6_settlesDeal_152 (lv_at hl 0 rfl) ?_
          refine lv_bipush (v := 6) hx hb dX6_settlesDeal_154 (by decide) ?_
          refine lv_iadd hx hb dX6_settlesDeal_156 ?_
          refine lv_aload_n hx hb dX6_settlesDeal_157 rfl (lv_at hl 6 rfl) ?_
          refine lv_iload_n hx hb dX6_settlesDeal_158 rfl (lv_at hl 7 rfl) ?_
          refine lv_iconst (v := 1) hx hb dX6_settlesDeal_159 (by decide) ?_
          obtain ⟨σ_26, r_27, hg, hf⟩ := bn2_s hf
          refine x_calli (x_runV (As := [.int x1, .int 1]) (rest := [.int (x9_17 + 6), .ref (h 7 0 0)]) X K O (xct_obj rfl LM_99) rfl (m_M_X6_fact hg) EN_b EN_h (lw_V q1447 q1449 qs68 q124 q1450) 2 rfl hl.1 (Nat.le_of_ble_eq_true rfl) hdV_X6_fact ⟨by decide, by decide⟩ ⟨Nat.le_refl _, Nat.le_refl _⟩ dX6_settlesDeal_160) (fun r u H locs hp O _ => ?_)
          cases hp
          have O : XH D A s.heap h (xct LM okM h d σ_26) H locs := O
          obtain ⟨c_28, hf⟩ := ck_s hf
          obtain ⟨σ_29, eσ_29, hf⟩ := lt1_s hf
          refine x_ist X K O rfl LM_7 c_28 (j := (Int32.toNatClampNeg (x9_17 + 6))) rfl dX6_settlesDeal_163 (fun H locs O => ?_)
          rw [← eσ_29] at O
          refine lv_aload_n hx hb dX6_settlesDeal_164 rfl (lv_at hl 6 rfl) ?_
          refine x_gF X K O 7 rfl LM_99 rfl rfl in_X6 (by decide) q1157 dX6_settlesDeal_165 ?_
          refine lv_iload hx hb dX6_settlesDeal_168 (lv_at hl 0 rfl) ?_
          refine lv_bipush (v := 7) hx hb dX6_settlesDeal_170 (by decide) ?_
          refine lv_iadd hx hb dX6_settlesDeal_172 ?_
          refine lv_aload_n hx hb dX6_settlesDeal_173 rfl (lv_at hl 6 rfl) ?_
          refine lv_iload_n hx hb dX6_settlesDeal_174 rfl (lv_at hl 8 rfl) ?_
          refine lv_iconst (v := 1) hx hb dX6_settlesDeal_175 (by decide) ?_
          obtain ⟨σ_30, r_31, hg, hf⟩ := bn2_s hf
          refine x_calli (x_runV (As := [.int x2, .int 1]) (rest := [.int (x9_17 + 7), .ref (h 7 0 0)]) X K O (xct_obj rfl LM_99) rfl (m_M_X6_fact hg) EN_b EN_h (lw_V q1447 q1449 qs68 q124 q1450) 2 rfl hl.1 (Nat.le_of_ble_eq_true rfl) hdV_X6_fact ⟨by decide, by decide⟩ ⟨Nat.le_refl _, Nat.le_refl _⟩ dX6_settlesDeal_176) (fun r u H locs hp O _ => ?_)
          cases hp
          have O : XH D A s.heap h (xct LM okM h d σ_30) H locs := O
          obtain ⟨c_32, hf⟩ := ck_s hf
          obtain ⟨σ_33, eσ_33, hf⟩ := lt1_s hf
          refine x_ist X K O rfl LM_7 c_32 (j := (Int32.toNatClampNeg (x9_17 + 7))) rfl dX6_settlesDeal_179 (fun H locs O => ?_)
          rw [← eσ_33] at O
          refine lv_aload_n hx hb dX6_settlesDeal_180 rfl (lv_at hl 6 rfl) ?_
          refine lv_iload_n hx hb dX6_settlesDeal_181 rfl (lv_at hl 7 rfl) ?_
          refine lv_bipush (v := 7) hx hb dX6_settlesDeal_182 (by decide) ?_
          refine lv_aload_n hx hb dX6_settlesDeal_184 rfl (lv_at hl 6 rfl) ?_
          refine lv_iload hx hb dX6_settlesDeal_185 (lv_at hl 4 rfl) ?_
          refine lv_iload hx hb dX6_settlesDeal_187 (lv_at hl 3 rfl) ?_
          refine lv_iload_n hx hb dX6_settlesDeal_189 rfl (lv_at hl 9 rfl) ?_
          obtain ⟨σ_34, r_35, hg, hf⟩ := bn2_s hf
          refine x_calli (x_runV (As := [.int r_2, .int r_4, .int x3]) (rest := [.int 7, .int x1, .ref (h 99 0 0)]) X K O (xct_obj rfl LM_99) rfl (m_M_X6_worthOf hg) EN_b EN_h (lw_V q1496 q1498 qs78 q124 q1499) 3 rfl hl.1 (Nat.le_of_ble_eq_true rfl) hdV_X6_worthOf ⟨by decide, by decide⟩ ⟨Nat.le_refl _, Nat.le_refl _⟩ dX6_settlesDeal_190) (fun r u H locs hp O _ => ?_)
          cases hp
          have O : XH D A s.heap h (xct LM okM h d σ_34) H locs := O
          obtain ⟨σ_36, hg, hf⟩ := bn1_s hf
          refine x_callv (x_runV (As := [.int x1, .int 7, .int r_35]) (rest := []) X K O (xct_obj rfl LM_99) rfl (m_M_X6_adds hg) EN_b EN_h (lw_V q1500 q1502 qs79 q124 q1503) 3 rfl hl.1 (Nat.le_of_ble_eq_true rfl) hdV_X6_adds ⟨by decide, by decide⟩ ⟨Nat.le_refl _, Nat.le_refl _⟩ dX6_settlesDeal_193) (fun u H locs hp O _ => ?_)
          cases hp
          have O : XH D A s.heap h (xct LM okM h d σ_36) H locs := O
          refine lv_aload_n hx hb dX6_settlesDeal_196 rfl (lv_at hl 6 rfl) ?_
          refine lv_iload_n hx hb dX6_settlesDeal_197 rfl (lv_at hl 8 rfl) ?_
          refine lv_bipush (v := 7) hx hb dX6_settlesDeal_198 (by decide) ?_
          refine lv_aload_n hx hb dX6_settlesDeal_200 rfl (lv_at hl 6 rfl) ?_
          refine lv_iload hx hb dX6_settlesDeal_201 (lv_at hl 3 rfl) ?_
          refine lv_iload hx hb dX6_settlesDeal_203 (lv_at hl 4 rfl) ?_
          refine lv_iload_n hx hb dX6_settlesDeal_205 rfl (lv_at hl 9 rfl) ?_
          obtain ⟨σ_37, r_38, hg, hf⟩ := bn2_s hf
          refine x_calli (x_runV (As := [.int r_4, .int r_2, .int x3]) (rest := [.int 7, .int x2, .ref (h 99 0 0)]) X K O (xct_obj rfl LM_99) rfl (m_M_X6_worthOf hg) EN_b EN_h (lw_V q1496 q1498 qs78 q124 q1499) 3 rfl hl.1 (Nat.le_of_ble_eq_true rfl) hdV_X6_worthOf ⟨by decide, by decide⟩ ⟨Nat.le_refl _, Nat.le_refl _⟩ dX6_settlesDeal_206) (fun r u H locs hp O _ => ?_)
          cases hp
          have O : XH D A s.heap h (xct LM okM h d σ_37) H locs := O
          obtain ⟨σ_39, hg, hf⟩ := bn1_s hf
          refine x_callv (x_runV (As := [.int x2, .int 7, .int r_38]) (rest := []) X K O (xct_obj rfl LM_99) rfl (m_M_X6_adds hg) EN_b EN_h (lw_V q1500 q1502 qs79 q124 q1503) 3 rfl hl.1 (Nat.le_of_ble_eq_true rfl) hdV_X6_adds ⟨by decide, by decide⟩ ⟨Nat.le_refl _, Nat.le_refl _⟩ dX6_settlesDeal_209) (fun u H locs hp O _ => ?_)
          cases hp
          have O : XH D A s.heap h (xct LM okM h d σ_39) H locs := O
          refine lv_aload_n hx hb dX6_settlesDeal_212 rfl (lv_at hl 6 rfl) ?_
          refine x_gF X K O 7 rfl LM_99 rfl rfl in_X6 (by decide) q1157 dX6_settlesDeal_213 ?_
          refine lv_iload hx hb dX6_settlesDeal_216 (lv_at hl 0 rfl) ?_
          refine lv_iconst (v := 4) hx hb dX6_settlesDeal_218 (by decide) ?_
          refine lv_iadd hx hb dX6_settlesDeal_219 ?_
          refine lv_aload_n hx hb dX6_settlesDeal_220 rfl (lv_at hl 6 rfl) ?_
          refine lv_iload_n hx hb dX6_settlesDeal_221 rfl (lv_at hl 7 rfl) ?_
          refine lv_iload hx hb dX6_settlesDeal_222 (lv_at hl 4 rfl) ?_
          refine lv_iload hx hb dX6_settlesDeal_224 (lv_at hl 2 rfl) ?_
          refine lv_iload_n hx hb dX6_settlesDeal_226 rfl (lv_at hl 9 rfl) ?_
          obtain ⟨σ_40, r_41, hg, hf⟩ := bn2_s hf
          refine x_calli (x_runV (As := [.int x1, .int r_2, .int r_6, .int x3]) (rest := [.int (x9_17 + 4), .ref (h 7 0 0)]) X K O (xct_obj rfl LM_99) rfl (m_M_X6_cuts hg) EN_b EN_h (lw_V q1504 q1506 qs80 q124 q1507) 4 rfl hl.1 (Nat.le_of_ble_eq_true rfl) hdV_X6_cuts ⟨by decide, by decide⟩ ⟨Nat.le_refl _, Nat.le_refl _⟩ dX6_settlesDeal_227) (fun r u H locs hp O _ => ?_)
          cases hp
          have O : XH D A s.heap h (xct LM okM h d σ_40) H locs := O
          obtain ⟨c_42, hf⟩ := ck_s hf
          obtain ⟨σ_43, eσ_43, hf⟩ := lt1_s hf
          refine x_ist X K O rfl LM_7 c_42 (j := (Int32.toNatClampNeg (x9_17 + 4))) rfl dX6_settlesDeal_230 (fun H locs O => ?_)
          rw [← eσ_43] at O
          refine lv_aload_n hx hb dX6_settlesDeal_231 rfl (lv_at hl 6 rfl) ?_
          refine x_gF X K O 7 rfl LM_99 rfl rfl in_X6 (by decide) q1157 dX6_settlesDeal_232 ?_
          refine lv_iload hx hb dX6_settlesDeal_235 (lv_at hl 0 rfl) ?_
          refine lv_iconst (v := 5) hx hb dX6_settlesDeal_237 (by decide) ?_
          refine lv_iadd hx hb dX6_settlesDeal_238 ?_
          refine lv_aload_n hx hb dX6_settlesDeal_239 rfl (lv_at hl 6 rfl) ?_
          refine lv_iload_n hx hb dX6_settlesDeal_240 rfl (lv_at hl 8 rfl) ?_
          refine lv_iload hx hb dX6_settlesDeal_241 (lv_at hl 3 rfl) ?_
          refine lv_iload hx hb dX6_settlesDeal_243 (lv_at hl 1 rfl) ?_
          refine lv_iload_n hx hb dX6_settlesDeal_245 rfl (lv_at hl 9 rfl) ?_
          obtain ⟨σ_44, r_45, hg, hf⟩ := bn2_s hf
          refine x_calli (x_runV (As := [.int x2, .int r_4, .int r_8, .int x3]) (rest := [.int (x9_17 + 5), .ref (h 7 0 0)]) X K O (xct_obj rfl LM_99) rfl (m_M_X6_cuts hg) EN_b EN_h (lw_V q1504 q1506 qs80 q124 q1507) 4 rfl hl.1 (Nat.le_of_ble_eq_true rfl) hdV_X6_cuts ⟨by decide, by decide⟩ ⟨Nat.le_refl _, Nat.le_refl _⟩ dX6_settlesDeal_246) (fun r u H locs hp O _ => ?_)
          cases hp
          have O : XH D A s.heap h (xct LM okM h d σ_44) H locs := O
          obtain ⟨c_46, hf⟩ := ck_s hf
          obtain ⟨σ_47, eσ_47, hf⟩ := lt1_s hf
          refine x_ist X K O rfl LM_7 c_46 (j := (Int32.toNatClampNeg (x9_17 + 5))) rfl dX6_settlesDeal_249 (fun H locs O => ?_)
          rw [← eσ_47] at O
          refine lv_aload_n hx hb dX6_settlesDeal_250 rfl (lv_at hl 6 rfl) ?_
          refine lv_aload_n hx hb dX6_settlesDeal_251 rfl (lv_at hl 6 rfl) ?_
          refine x_gI X K O 4 rfl LM_99 rfl rfl in_X6 (by decide) q1154 dX6_settlesDeal_252 ?_
          refine lv_iconst (v := 1) hx hb dX6_settlesDeal_255 (by decide) ?_
          refine lv_iadd hx hb dX6_settlesDeal_256 ?_
          obtain ⟨σ_48, eσ_48, hf⟩ := lt1_s hf
          refine x_pI X K O 4 rfl LM_99 rfl rfl in_X6 tyX6_ok nmX6 (by decide) q1154 rfl rfl rfl dX6_settlesDeal_257 (fun H locs O => ?_)
          rw [← eσ_48] at O
          refine lv_aload_n hx hb dX6_settlesDeal_260 rfl (lv_at hl 6 rfl) ?_
          refine x_gI X K O 4 rfl LM_99 rfl rfl in_X6 (by decide) q1154 dX6_settlesDeal_261 ?_
          refine lv_iconst (v := 1) hx hb dX6_settlesDeal_264 (by decide) ?_
          refine lv_isub hx hb dX6_settlesDeal_265 ?_
          exact x_iret X O rfl _ (Option.some.inj hf).symm rfl dX6_settlesDeal_266
        · replace hf := if_t c_16 hf
          refine lv_iconst (v := (-1)) hx hb dX6_settlesDeal_96 (by decide) ?_
          exact x_iret X O rfl _ (Option.some.inj hf).symm rfl dX6_settlesDeal_97
def M_X6_settlesDeal_b24 (σ : ST) (x1 : Int32) (x2 : Int32) (x3 : Int32) : Option (ST × Int32) :=
  M_X6_settlesDeal_b25 σ x1 x2 x3 0
theorem w_M_X6_settlesDeal_b24 (X : FX p m c meth s args RX6 cX6_settlesDeal 10 (some .int)) (K : XK D d A s) {z : ST × Int32} (σ : ST) (x1 : Int32) (x2 : Int32) (x3 : Int32) (ls : Array Slot) (H : Heap) (locs : List Loc) (O : XH D A s.heap h (xct LM okM h d σ) H locs) (hl : lv_has ls 10 [(0, .ref (h 99 0 0)), (1, .int x1), (2, .int x2), (3, .int x3)]) (hf : M_X6_settlesDeal_b24 σ x1 x2 x3 = some z) : W p l e (rmD 5 0 0) s m args below meth c H locs 0 0 (MQ below (Qi D (pz z) (cw h LM okM d) A) args s 0 0 A) (F0 m 24 ls []) := by
  have hx := X.1.1; have hb := X.1.2.1
  rw [M_X6_settlesDeal_b24] at hf
  refine lv_iconst (v := 0) hx hb dX6_settlesDeal_24 (by decide) ?_
  exact w_M_X6_settlesDeal_b25 X K _ _ _ _ _ ls _ _ O (lv_sub hl [0, 1, 2, 3] rfl) hf
def M_X6_settlesDeal (σ : ST) (p1 : Int32) (p2 : Int32) (p3 : Int32) : Option (ST × Int32) :=
  bn2 (M_X6_isDealing σ p1 p2 p3) (fun σ_1 r_2 => (if r_2 = 0 then M_X6_settlesDeal_b24 σ_1 p1 p2 p3 else bn2 (M_X6_isDealing σ_1 p2 p1 p3) (fun σ_4 r_5 => (if r_5 = 0 then M_X6_settlesDeal_b24 σ_4 p1 p2 p3 else M_X6_settlesDeal_b25 σ_4 p1 p2 p3 1))))
theorem m_M_X6_settlesDeal {l : Launch} {D : va_G} {d : Nat → ClassId} {h : IX} {p1 : Int32} {p2 : Int32} {p3 : Int32} {σ : ST} {z : ST × Int32} (hf : M_X6_settlesDeal σ p1 p2 p3 = some z) : XM l D d EN yX6_settlesDeal cX6_settlesDeal 10 (some .int) 5 0 0 [.ref (h 99 0 0), .int p1, .int p2, .int p3] h (xct LM okM h d σ) (Qi D (pz z) (cw h LM okM d)) := by
  refine XM.of (by decide +kernel) (Nat.le_of_ble_eq_true rfl) ?_
  intro p e s m below meth c A ls X _ K _ O hl
  have hl : lv_has ls 10 [(0, .ref (h 99 0 0)), (1, .int p1), (2, .int p2), (3, .int p3)] := hl
  have hx := X.1.1; have hb := X.1.2.1
  rw [M_X6_settlesDeal] at hf
  refine lv_aload_n hx hb dX6_settlesDeal_0 rfl (lv_at hl 0 rfl) ?_
  refine lv_iload_n hx hb dX6_settlesDeal_1 rfl (lv_at hl 1 rfl) ?_
  refine lv_iload_n hx hb dX6_settlesDeal_2 rfl (lv_at hl 2 rfl) ?_
  refine lv_iload_n hx hb dX6_settlesDeal_3 rfl (lv_at hl 3 rfl) ?_
  obtain ⟨σ_1, r_2, hg, hf⟩ := bn2_s hf
  refine x_calli (x_runV (As := [.int p1, .int p2, .int p3]) (rest := []) X K O (xct_obj rfl LM_99) rfl (m_M_X6_isDealing hg) EN_b EN_h (lw_V q1460 q1462 qs70 q124 q1463) 3 rfl hl.1 (Nat.le_of_ble_eq_true rfl) hdV_X6_isDealing ⟨by decide, by decide⟩ ⟨Nat.le_refl _, Nat.le_refl _⟩ dX6_settlesDeal_4) (fun r u H locs hp O _ => ?_)
  cases hp
  have O : XH D A s.heap h (xct LM okM h d σ_1) H locs := O
  refine lv_if_eq (tgt := 24) hx hb dX6_settlesDeal_7 (by decide) (fun c_3 => ?_) (fun c_3 => ?_)
  · replace hf := if_t c_3 hf
    exact w_M_X6_settlesDeal_b24 X K _ _ _ _ ls _ _ O (lv_sub hl [0, 1, 2, 3] rfl) hf
  · replace hf := if_f c_3 hf
    refine lv_aload_n hx hb dX6_settlesDeal_10 rfl (lv_at hl 0 rfl) ?_
    refine lv_iload_n hx hb dX6_settlesDeal_11 rfl (lv_at hl 2 rfl) ?_
    refine lv_iload_n hx hb dX6_settlesDeal_12 rfl (lv_at hl 1 rfl) ?_
    refine lv_iload_n hx hb dX6_settlesDeal_13 rfl (lv_at hl 3 rfl) ?_
    obtain ⟨σ_4, r_5, hg, hf⟩ := bn2_s hf
    refine x_calli (x_runV (As := [.int p2, .int p1, .int p3]) (rest := []) X K O (xct_obj rfl LM_99) rfl (m_M_X6_isDealing hg) EN_b EN_h (lw_V q1460 q1462 qs70 q124 q1463) 3 rfl hl.1 (Nat.le_of_ble_eq_true rfl) hdV_X6_isDealing ⟨by decide, by decide⟩ ⟨Nat.le_refl _, Nat.le_refl _⟩ dX6_settlesDeal_14) (fun r u H locs hp O _ => ?_)
    cases hp
    have O : XH D A s.heap h (xct LM okM h d σ_4) H locs := O
    refine lv_if_eq (tgt := 24) hx hb dX6_settlesDeal_17 (by decide) (fun c_6 => ?_) (fun c_6 => ?_)
    · replace hf := if_t c_6 hf
      exact w_M_X6_settlesDeal_b24 X K _ _ _ _ ls _ _ O (lv_sub hl [0, 1, 2, 3] rfl) hf
    · replace hf := if_f c_6 hf
      refine lv_iconst (v := 1) hx hb dX6_settlesDeal_20 (by decide) ?_
      refine lv_goto (tgt := 25) hx hb dX6_settlesDeal_21 (by decide) ?_
      exact w_M_X6_settlesDeal_b25 X K _ _ _ _ _ ls _ _ O (lv_sub hl [0, 1, 2, 3] rfl) hf
theorem hdV_X6_settlesDeal : yX6_settlesDeal.cls = RX6 ∧ (yX6_settlesDeal.cls ≠ "java/lang/invoke/MethodHandle" ∧ yX6_settlesDeal.cls ≠ "java/lang/invoke/VarHandle" ∧ (parseMethodDescriptor yX6_settlesDeal.desc).map (fun d => d.parameters.length) = some 3) := by decide +kernel
def M_X6_deal (σ : ST) (p1 : Int32) (p2 : Int32) (p3 : Int32) : Option (ST × Int32) :=
  lt1 (sI σ 99 0 0 0 0) (fun σ_1 => bn2 (M_X6_isOne σ_1 p1) (fun σ_2 r_3 => (if r_3 = 0 then some (σ_2, (-2)) else bn2 (M_X6_isOne σ_2 p2) (fun σ_5 r_6 => (if r_6 = 0 then some (σ_5, (-2)) else (if p1 = p2 then some (σ_5, (-2)) else bn2 (M_X6_isSize σ_5 p3) (fun σ_9 r_10 => (if r_10 = 0 then some (σ_9, (-2)) else bn2 (M_X6_settlesDeal σ_9 p1 p2 p3) (fun σ_12 r_13 => some (σ_12, r_13))))))))))
theorem m_M_X6_deal {l : Launch} {D : va_G} {d : Nat → ClassId} {h : IX} {p1 : Int32} {p2 : Int32} {p3 : Int32} {σ : ST} {z : ST × Int32} (hf : M_X6_deal σ p1 p2 p3 = some z) : XM l D d EN yX6_deal cX6_deal 4 (some .int) 6 0 0 [.ref (h 99 0 0), .int p1, .int p2, .int p3] h (xct LM okM h d σ) (Qi D (pz z) (cw h LM okM d)) := by
  refine XM.of (by decide +kernel) (Nat.le_of_ble_eq_true rfl) ?_
  intro p e s m below meth c A ls X _ K _ O hl
  have hl : lv_has ls 4 [(0, .ref (h 99 0 0)), (1, .int p1), (2, .int p2), (3, .int p3)] := hl
  have hx := X.1.1; have hb := X.1.2.1
  rw [M_X6_deal] at hf
  refine lv_aload_n hx hb dX6_deal_0 rfl (lv_at hl 0 rfl) ?_
  refine lv_iconst (v := 0) hx hb dX6_deal_1 (by decide) ?_
  obtain ⟨σ_1, eσ_1, hf⟩ := lt1_s hf
  refine x_pI X K O 0 rfl LM_99 rfl rfl in_X6 tyX6_ok nmX6 (by decide) q1150 rfl rfl rfl dX6_deal_2 (fun H locs O => ?_)
  rw [← eσ_1] at O
  refine lv_aload_n hx hb dX6_deal_5 rfl (lv_at hl 0 rfl) ?_
  refine lv_iload_n hx hb dX6_deal_6 rfl (lv_at hl 1 rfl) ?_
  obtain ⟨σ_2, r_3, hg, hf⟩ := bn2_s hf
  refine x_calli (x_runV (As := [.int p1]) (rest := []) X K O (xct_obj rfl LM_99) rfl (m_M_X6_isOne hg) EN_b EN_h (lw_V q1339 q1341 qs47 q124 q1342) 1 rfl hl.1 (Nat.le_of_ble_eq_true rfl) hdV_X6_isOne ⟨by decide, by decide⟩ ⟨Nat.le_refl _, Nat.le_refl _⟩ dX6_deal_7) (fun r u H locs hp O _ => ?_)
  cases hp
  have O : XH D A s.heap h (xct LM okM h d σ_2) H locs := O
  refine lv_if_eq (tgt := 44) hx hb dX6_deal_10 (by decide) (fun c_4 => ?_) (fun c_4 => ?_)
  · replace hf := if_t c_4 hf
    refine lv_bipush (v := (-2)) hx hb dX6_deal_44 (by decide) ?_
    exact x_iret X O rfl _ (Option.some.inj hf).symm rfl dX6_deal_46
  · replace hf := if_f c_4 hf
    refine lv_aload_n hx hb dX6_deal_13 rfl (lv_at hl 0 rfl) ?_
    refine lv_iload_n hx hb dX6_deal_14 rfl (lv_at hl 2 rfl) ?_
    obtain ⟨σ_5, r_6, hg, hf⟩ := bn2_s hf
    refine x_calli (x_runV (As := [.int p2]) (rest := []) X K O (xct_obj rfl LM_99) rfl (m_M_X6_isOne hg) EN_b EN_h (lw_V q1339 q1341 qs47 q124 q1342) 1 rfl hl.1 (Nat.le_of_ble_eq_true rfl) hdV_X6_isOne ⟨by decide, by decide⟩ ⟨Nat.le_refl _, Nat.le_refl _⟩ dX6_deal_15) (fun r u H locs hp O _ => ?_)
    cases hp
    have O : XH D A s.heap h (xct LM okM h d σ_5) H locs := O
    refine lv_if_eq (tgt := 44) hx hb dX6_deal_18 (by decide) (fun c_7 => ?_) (fun c_7 => ?_)
    · replace hf := if_t c_7 hf
      refine lv_bipush (v := (-2)) hx hb dX6_deal_44 (by decide) ?_
      exact x_iret X O rfl _ (Option.some.inj hf).symm rfl dX6_deal_46
    · replace hf := if_f c_7 hf
      refine lv_iload_n hx hb dX6_deal_21 rfl (lv_at hl 1 rfl) ?_
      refine lv_iload_n hx hb dX6_deal_22 rfl (lv_at hl 2 rfl) ?_
      refine lv_icmp_eq (tgt := 44) hx hb dX6_deal_23 (by decide) (fun c_8 => ?_) (fun c_8 => ?_)
      · replace hf := if_t c_8 hf
        refine lv_bipush (v := (-2)) hx hb dX6_deal_44 (by decide) ?_
        exact x_iret X O rfl _ (Option.some.inj hf).symm rfl dX6_deal_46
      · replace hf := if_f c_8 hf
        refine lv_aload_n hx hb dX6_deal_26 rfl (lv_at hl 0 rfl) ?_
        refine lv_iload_n hx hb dX6_deal_27 rfl (lv_at hl 3 rfl) ?_
        obtain ⟨σ_9, r_10, hg, hf⟩ := bn2_s hf
        refine x_calli (x_runV (As := [.int p3]) (rest := []) X K O (xct_obj rfl LM_99) rfl (m_M_X6_isSize hg) EN_b EN_h (lw_V q1456 q1458 qs69 q124 q1459) 1 rfl hl.1 (Nat.le_of_ble_eq_true rfl) hdV_X6_isSize ⟨by decide, by decide⟩ ⟨Nat.le_refl _, Nat.le_refl _⟩ dX6_deal_28) (fun r u H locs hp O _ => ?_)
        cases hp
        have O : XH D A s.heap h (xct LM okM h d σ_9) H locs := O
        refine lv_if_eq (tgt := 44) hx hb dX6_deal_31 (by decide) (fun c_11 => ?_) (fun c_11 => ?_)
        · replace hf := if_t c_11 hf
          refine lv_bipush (v := (-2)) hx hb dX6_deal_44 (by decide) ?_
          exact x_iret X O rfl _ (Option.some.inj hf).symm rfl dX6_deal_46
        · replace hf := if_f c_11 hf
          refine lv_aload_n hx hb dX6_deal_34 rfl (lv_at hl 0 rfl) ?_
          refine lv_iload_n hx hb dX6_deal_35 rfl (lv_at hl 1 rfl) ?_
          refine lv_iload_n hx hb dX6_deal_36 rfl (lv_at hl 2 rfl) ?_
          refine lv_iload_n hx hb dX6_deal_37 rfl (lv_at hl 3 rfl) ?_
          obtain ⟨σ_12, r_13, hg, hf⟩ := bn2_s hf
          refine x_calli (x_runV (As := [.int p1, .int p2, .int p3]) (rest := []) X K O (xct_obj rfl LM_99) rfl (m_M_X6_settlesDeal hg) EN_b EN_h (lw_V q1492 q1494 qs77 q124 q1495) 3 rfl hl.1 (Nat.le_of_ble_eq_true rfl) hdV_X6_settlesDeal ⟨by decide, by decide⟩ ⟨Nat.le_refl _, Nat.le_refl _⟩ dX6_deal_38) (fun r u H locs hp O _ => ?_)
          cases hp
          have O : XH D A s.heap h (xct LM okM h d σ_12) H locs := O
          refine lv_goto (tgt := 46) hx hb dX6_deal_41 (by decide) ?_
          exact x_iret X O rfl _ (Option.some.inj hf).symm rfl dX6_deal_46
def M_X6_book (σ : ST) (p1 : Int32) (p2 : Int32) : Option (ST × Int32) :=
  lt1 (sI σ 99 0 0 0 0) (fun σ_1 => bn2 (M_X6_isIn σ_1 p1 0 ((gI σ_1 99 0 0 4) - 1)) (fun σ_2 r_3 => (if r_3 = 0 then some (σ_2, (-1)) else bn2 (M_X6_isIn σ_2 p2 0 7) (fun σ_5 r_6 => (if r_6 = 0 then some (σ_5, (-1)) else ck (okI ((8 * p1) + p2) 2400) (some (σ_5, (gI σ_5 7 0 0 (Int32.toNatClampNeg ((8 * p1) + p2))))))))))
theorem m_M_X6_book {l : Launch} {D : va_G} {d : Nat → ClassId} {h : IX} {p1 : Int32} {p2 : Int32} {σ : ST} {z : ST × Int32} (hf : M_X6_book σ p1 p2 = some z) : XM l D d EN yX6_book cX6_book 3 (some .int) 1 0 0 [.ref (h 99 0 0), .int p1, .int p2] h (xct LM okM h d σ) (Qi D (pz z) (cw h LM okM d)) := by
  refine XM.of (by decide +kernel) (Nat.le_of_ble_eq_true rfl) ?_
  intro p e s m below meth c A ls X _ K _ O hl
  have hl : lv_has ls 3 [(0, .ref (h 99 0 0)), (1, .int p1), (2, .int p2)] := hl
  have hx := X.1.1; have hb := X.1.2.1
  rw [M_X6_book] at hf
  refine lv_aload_n hx hb dX6_book_0 rfl (lv_at hl 0 rfl) ?_
  refine lv_iconst (v := 0) hx hb dX6_book_1 (by decide) ?_
  obtain ⟨σ_1, eσ_1, hf⟩ := lt1_s hf
  refine x_pI X K O 0 rfl LM_99 rfl rfl in_X6 tyX6_ok nmX6 (by decide) q1150 rfl rfl rfl dX6_book_2 (fun H locs O => ?_)
  rw [← eσ_1] at O
  refine lv_aload_n hx hb dX6_book_5 rfl (lv_at hl 0 rfl) ?_
  refine lv_iload_n hx hb dX6_book_6 rfl (lv_at hl 1 rfl) ?_
  refine lv_iconst (v := 0) hx hb dX6_book_7 (by decide) ?_
  refine lv_aload_n hx hb dX6_book_8 rfl (lv_at hl 0 rfl) ?_
  refine x_gI X K O 4 rfl LM_99 rfl rfl in_X6 (by decide) q1154 dX6_book_9 ?_
  refine lv_iconst (v := 1) hx hb dX6_book_12 (by decide) ?_
  refine lv_isub hx hb dX6_book_13 ?_
  obtain ⟨σ_2, r_3, hg, hf⟩ := bn2_s hf
  refine x_calli (x_runV (As := [.int p1, .int 0, .int ((gI σ_1 99 0 0 4) - 1)]) (rest := []) X K O (xct_obj rfl LM_99) rfl (m_M_X6_isIn hg) EN_b EN_h (lw_V q1327 q1329 qs45 q124 q1330) 3 rfl hl.1 (Nat.le_of_ble_eq_true rfl) hdV_X6_isIn ⟨by decide, by decide⟩ ⟨Nat.le_refl _, Nat.le_refl _⟩ dX6_book_14) (fun r u H locs hp O _ => ?_)
  cases hp
  have O : XH D A s.heap h (xct LM okM h d σ_2) H locs := O
  refine lv_if_eq (tgt := 45) hx hb dX6_book_17 (by decide) (fun c_4 => ?_) (fun c_4 => ?_)
  · replace hf := if_t c_4 hf
    refine lv_iconst (v := (-1)) hx hb dX6_book_45 (by decide) ?_
    exact x_iret X O rfl _ (Option.some.inj hf).symm rfl dX6_book_46
  · replace hf := if_f c_4 hf
    refine lv_aload_n hx hb dX6_book_20 rfl (lv_at hl 0 rfl) ?_
    refine lv_iload_n hx hb dX6_book_21 rfl (lv_at hl 2 rfl) ?_
    refine lv_iconst (v := 0) hx hb dX6_book_22 (by decide) ?_
    refine lv_bipush (v := 7) hx hb dX6_book_23 (by decide) ?_
    obtain ⟨σ_5, r_6, hg, hf⟩ := bn2_s hf
    refine x_calli (x_runV (As := [.int p2, .int 0, .int 7]) (rest := []) X K O (xct_obj rfl LM_99) rfl (m_M_X6_isIn hg) EN_b EN_h (lw_V q1327 q1329 qs45 q124 q1330) 3 rfl hl.1 (Nat.le_of_ble_eq_true rfl) hdV_X6_isIn ⟨by decide, by decide⟩ ⟨Nat.le_refl _, Nat.le_refl _⟩ dX6_book_25) (fun r u H locs hp O _ => ?_)
    cases hp
    have O : XH D A s.heap h (xct LM okM h d σ_5) H locs := O
    refine lv_if_eq (tgt := 45) hx hb dX6_book_28 (by decide) (fun c_7 => ?_) (fun c_7 => ?_)
    · replace hf := if_t c_7 hf
      refine lv_iconst (v := (-1)) hx hb dX6_book_45 (by decide) ?_
      exact x_iret X O rfl _ (Option.some.inj hf).symm rfl dX6_book_46
    · replace hf := if_f c_7 hf
      refine lv_aload_n hx hb dX6_book_31 rfl (lv_at hl 0 rfl) ?_
      refine x_gF X K O 7 rfl LM_99 rfl rfl in_X6 (by decide) q1157 dX6_book_32 ?_
      refine lv_bipush (v := 8) hx hb dX6_book_35 (by decide) ?_
      refine lv_iload_n hx hb dX6_book_37 rfl (lv_at hl 1 rfl) ?_
      refine lv_imul hx hb dX6_book_38 ?_
      refine lv_iload_n hx hb dX6_book_39 rfl (lv_at hl 2 rfl) ?_
      refine lv_iadd hx hb dX6_book_40 ?_
      obtain ⟨c_8, hf⟩ := ck_s hf
      refine x_ild X K O rfl LM_7 c_8 (j := (Int32.toNatClampNeg ((8 * p1) + p2))) rfl dX6_book_41 ?_
      refine lv_goto (tgt := 46) hx hb dX6_book_42 (by decide) ?_
      exact x_iret X O rfl _ (Option.some.inj hf).symm rfl dX6_book_46
def M_X6_weights_b4 : Nat → ST → Int32 → Int32 → Option (ST × Int32)
  | 0, _, _, _ => none
  | n + 1, σ, x1, x2 =>
    (if 12 < x2 then some (σ, x1) else ck (okI (10 + x2) 23) (lt1 (x1 + (gI σ 6 0 0 (Int32.toNatClampNeg (10 + x2)))) (fun x1_3 => lt1 (x2 + 1) (fun x2_4 => (M_X6_weights_b4 n) σ x1_3 x2_4))))
theorem w_M_X6_weights_b4 (X : FX p m c meth s args RX6 cX6_weights 3 (some .int)) (K : XK D d A s) {z : ST × Int32} : ∀ (n : Nat) (σ : ST) (x1 : Int32) (x2 : Int32) (ls : Array Slot) (H : Heap) (locs : List Loc), XH D A s.heap h (xct LM okM h d σ) H locs → lv_has ls 3 [(0, .ref (h 99 0 0)), (1, .int x1), (2, .int x2)] → M_X6_weights_b4 n σ x1 x2 = some z → W p l e (rmD 0 0 0) s m args below meth c H locs 0 0 (MQ below (Qi D (pz z) (cw h LM okM d) A) args s 0 0 A) (F0 m 4 ls []) := by
  have hx := X.1.1; have hb := X.1.2.1
  intro n
  induction n with
  | zero =>
    intro σ x1 x2 ls H locs O hl hf
    exact absurd hf (fun q => by cases q)
  | succ n ih =>
    intro σ x1 x2 ls H locs O hl hf
    rw [M_X6_weights_b4] at hf
    refine lv_iload_n hx hb dX6_weights_4 rfl (lv_at hl 2 rfl) ?_
    refine lv_bipush (v := 12) hx hb dX6_weights_5 (by decide) ?_
    refine lv_icmp_gt (tgt := 28) hx hb dX6_weights_7 (by decide) (fun c_1 => ?_) (fun c_1 => ?_)
    · replace hf := if_t c_1 hf
      refine lv_iload_n hx hb dX6_weights_28 rfl (lv_at hl 1 rfl) ?_
      exact x_iret X O rfl _ (Option.some.inj hf).symm rfl dX6_weights_29
    · replace hf := if_f c_1 hf
      refine lv_iload_n hx hb dX6_weights_10 rfl (lv_at hl 1 rfl) ?_
      refine lv_aload_n hx hb dX6_weights_11 rfl (lv_at hl 0 rfl) ?_
      refine x_gF X K O 6 rfl LM_99 rfl rfl in_X6 (by decide) q1156 dX6_weights_12 ?_
      refine lv_bipush (v := 10) hx hb dX6_weights_15 (by decide) ?_
      refine lv_iload_n hx hb dX6_weights_17 rfl (lv_at hl 2 rfl) ?_
      refine lv_iadd hx hb dX6_weights_18 ?_
      obtain ⟨c_2, hf⟩ := ck_s hf
      refine x_ild X K O rfl LM_6 c_2 (j := (Int32.toNatClampNeg (10 + x2))) rfl dX6_weights_19 ?_
      refine lv_iadd hx hb dX6_weights_20 ?_
      obtain ⟨x1_3, ex1_3, hf⟩ := lt1_s hf
      refine x_top (w := .int x1_3) (by rw [ex1_3]) ?_
      refine lv_istore_n (lv' := [(1, .int x1_3), (0, .ref (h 99 0 0)), (2, .int x2)]) hx hb dX6_weights_21 rfl hl (by decide) rfl (fun ls hl => ?_)
      obtain ⟨x2_4, ex2_4, hf⟩ := lt1_s hf
      refine lv_iinc (v := x2_4) (lv' := [(2, .int x2_4), (1, .int x1_3), (0, .ref (h 99 0 0))]) hx hb dX6_weights_22 hl (k := 2) rfl (by rw [ex2_4]; rfl) (by decide) rfl (fun ls hl => ?_)
      refine lv_goto (tgt := 4) hx hb dX6_weights_25 (by decide) ?_
      exact ih _ _ _ ls _ _ O (lv_sub hl [2, 1, 0] rfl) hf
def M_X6_weights (σ : ST) : Option (ST × Int32) :=
  M_X6_weights_b4 FUEL σ 0 1
theorem m_M_X6_weights {l : Launch} {D : va_G} {d : Nat → ClassId} {h : IX} {σ : ST} {z : ST × Int32} (hf : M_X6_weights σ = some z) : XM l D d EN yX6_weights cX6_weights 3 (some .int) 0 0 0 [.ref (h 99 0 0)] h (xct LM okM h d σ) (Qi D (pz z) (cw h LM okM d)) := by
  refine XM.of (by decide +kernel) (Nat.le_of_ble_eq_true rfl) ?_
  intro p e s m below meth c A ls X _ K _ O hl
  have hl : lv_has ls 3 [(0, .ref (h 99 0 0))] := hl
  have hx := X.1.1; have hb := X.1.2.1
  rw [M_X6_weights] at hf
  refine lv_iconst (v := 0) hx hb dX6_weights_0 (by decide) ?_
  refine lv_istore_n (lv' := [(1, .int 0), (0, .ref (h 99 0 0))]) hx hb dX6_weights_1 rfl hl (by decide) rfl (fun ls hl => ?_)
  refine lv_iconst (v := 1) hx hb dX6_weights_2 (by decide) ?_
  refine lv_istore_n (lv' := [(2, .int 1), (1, .int 0), (0, .ref (h 99 0 0))]) hx hb dX6_weights_3 rfl hl (by decide) rfl (fun ls hl => ?_)
  exact w_M_X6_weights_b4 X K _ _ _ _ ls _ _ O (lv_sub hl [2, 1, 0] rfl) hf
def M_X6_drawnSize_b17 : Nat → ST → Int32 → Int32 → Int32 → Option (ST × Int32)
  | 0, _, _, _, _ => none
  | n + 1, σ, x2, x3, x4 =>
    (if x2 < x4 then some (σ, x3) else lt1 (x3 + 1) (fun x3_2 => ck (okI (10 + x3_2) 23) (lt1 (x4 + (gI σ 6 0 0 (Int32.toNatClampNeg (10 + x3_2)))) (fun x4_4 => (M_X6_drawnSize_b17 n) σ x2 x3_2 x4_4))))
theorem w_M_X6_drawnSize_b17 (X : FX p m c meth s args RX6 cX6_drawnSize 5 (some .int)) (K : XK D d A s) {z : ST × Int32} : ∀ (n : Nat) (σ : ST) (x2 : Int32) (x3 : Int32) (x4 : Int32) (ls : Array Slot) (H : Heap) (locs : List Loc), XH D A s.heap h (xct LM okM h d σ) H locs → lv_has ls 5 [(0, .ref (h 99 0 0)), (2, .int x2), (3, .int x3), (4, .int x4)] → M_X6_drawnSize_b17 n σ x2 x3 x4 = some z → W p l e (rmD 1 0 0) s m args below meth c H locs 0 0 (MQ below (Qi D (pz z) (cw h LM okM d) A) args s 0 0 A) (F0 m 17 ls []) := by
  have hx := X.1.1; have hb := X.1.2.1
  intro n
  induction n with
  | zero =>
    intro σ x2 x3 x4 ls H locs O hl hf
    exact absurd hf (fun q => by cases q)
  | succ n ih =>
    intro σ x2 x3 x4 ls H locs O hl hf
    rw [M_X6_drawnSize_b17] at hf
    refine lv_iload hx hb dX6_drawnSize_17 (lv_at hl 3 rfl) ?_
    refine lv_iload_n hx hb dX6_drawnSize_19 rfl (lv_at hl 1 rfl) ?_
    refine lv_icmp_gt (tgt := 44) hx hb dX6_drawnSize_20 (by decide) (fun c_1 => ?_) (fun c_1 => ?_)
    · replace hf := if_t c_1 hf
      refine lv_iload_n hx hb dX6_drawnSize_44 rfl (lv_at hl 2 rfl) ?_
      exact x_iret X O rfl _ (Option.some.inj hf).symm rfl dX6_drawnSize_45
    · replace hf := if_f c_1 hf
      refine lv_iload_n hx hb dX6_drawnSize_23 rfl (lv_at hl 2 rfl) ?_
      refine lv_iconst (v := 1) hx hb dX6_drawnSize_24 (by decide) ?_
      refine lv_iadd hx hb dX6_drawnSize_25 ?_
      obtain ⟨x3_2, ex3_2, hf⟩ := lt1_s hf
      refine x_top (w := .int x3_2) (by rw [ex3_2]) ?_
      refine lv_istore_n (lv' := [(3, .int x3_2), (0, .ref (h 99 0 0)), (2, .int x2), (4, .int x4)]) hx hb dX6_drawnSize_26 rfl hl (by decide) rfl (fun ls hl => ?_)
      refine lv_iload hx hb dX6_drawnSize_27 (lv_at hl 3 rfl) ?_
      refine lv_aload_n hx hb dX6_drawnSize_29 rfl (lv_at hl 1 rfl) ?_
      refine x_gF X K O 6 rfl LM_99 rfl rfl in_X6 (by decide) q1156 dX6_drawnSize_30 ?_
      refine lv_bipush (v := 10) hx hb dX6_drawnSize_33 (by decide) ?_
      refine lv_iload_n hx hb dX6_drawnSize_35 rfl (lv_at hl 0 rfl) ?_
      refine lv_iadd hx hb dX6_drawnSize_36 ?_
      obtain ⟨c_3, hf⟩ := ck_s hf
      refine x_ild X K O rfl LM_6 c_3 (j := (Int32.toNatClampNeg (10 + x3_2))) rfl dX6_drawnSize_37 ?_
      refine lv_iadd hx hb dX6_drawnSize_38 ?_
      obtain ⟨x4_4, ex4_4, hf⟩ := lt1_s hf
      refine x_top (w := .int x4_4) (by rw [ex4_4]) ?_
      refine lv_istore (lv' := [(4, .int x4_4), (3, .int x3_2), (0, .ref (h 99 0 0)), (2, .int x2)]) hx hb dX6_drawnSize_39 hl (by decide) rfl (fun ls hl => ?_)
      refine lv_goto (tgt := 17) hx hb dX6_drawnSize_41 (by decide) ?_
      exact ih _ _ _ _ ls _ _ O (lv_sub hl [2, 3, 1, 0] rfl) hf
def M_X6_drawnSize (σ : ST) (p1 : Int32) : Option (ST × Int32) :=
  bn2 (M_X6_draw σ p1) (fun σ_1 r_2 => lt1 (gI σ_1 6 0 0 11) (fun x4_3 => M_X6_drawnSize_b17 FUEL σ_1 r_2 1 x4_3))
theorem m_M_X6_drawnSize {l : Launch} {D : va_G} {d : Nat → ClassId} {h : IX} {p1 : Int32} {σ : ST} {z : ST × Int32} (hf : M_X6_drawnSize σ p1 = some z) : XM l D d EN yX6_drawnSize cX6_drawnSize 5 (some .int) 1 0 0 [.ref (h 99 0 0), .int p1] h (xct LM okM h d σ) (Qi D (pz z) (cw h LM okM d)) := by
  refine XM.of (by decide +kernel) (Nat.le_of_ble_eq_true rfl) ?_
  intro p e s m below meth c A ls X _ K _ O hl
  have hl : lv_has ls 5 [(0, .ref (h 99 0 0)), (1, .int p1)] := hl
  have hx := X.1.1; have hb := X.1.2.1
  rw [M_X6_drawnSize] at hf
  refine lv_aload_n hx hb dX6_drawnSize_0 rfl (lv_at hl 0 rfl) ?_
  refine lv_iload_n hx hb dX6_drawnSize_1 rfl (lv_at hl 1 rfl) ?_
  obtain ⟨σ_1, r_2, hg, hf⟩ := bn2_s hf
  refine x_calli (x_runV (As := [.int p1]) (rest := []) X K O (xct_obj rfl LM_99) rfl (m_M_X6_draw hg) EN_b EN_h (lw_V q1508 q1510 qs81 q124 q1511) 1 rfl hl.1 (Nat.le_of_ble_eq_true rfl) hdV_X6_draw ⟨by decide, by decide⟩ ⟨Nat.le_refl _, Nat.le_refl _⟩ dX6_drawnSize_2) (fun r u H locs hp O _ => ?_)
  cases hp
  have O : XH D A s.heap h (xct LM okM h d σ_1) H locs := O
  refine lv_istore_n (lv' := [(2, .int r_2), (0, .ref (h 99 0 0)), (1, .int p1)]) hx hb dX6_drawnSize_5 rfl hl (by decide) rfl (fun ls hl => ?_)
  refine lv_iconst (v := 1) hx hb dX6_drawnSize_6 (by decide) ?_
  refine lv_istore_n (lv' := [(3, .int 1), (2, .int r_2), (0, .ref (h 99 0 0)), (1, .int p1)]) hx hb dX6_drawnSize_7 rfl hl (by decide) rfl (fun ls hl => ?_)
  refine lv_aload_n hx hb dX6_drawnSize_8 rfl (lv_at hl 2 rfl) ?_
  refine x_gF X K O 6 rfl LM_99 rfl rfl in_X6 (by decide) q1156 dX6_drawnSize_9 ?_
  refine lv_bipush (v := 11) hx hb dX6_drawnSize_12 (by decide) ?_
  refine x_ild X K O rfl LM_6 (by decide) (j := 11) rfl dX6_drawnSize_14 ?_
  obtain ⟨x4_3, ex4_3, hf⟩ := lt1_s hf
  refine x_top (w := .int x4_3) (by rw [ex4_3]) ?_
  refine lv_istore (lv' := [(4, .int x4_3), (3, .int 1), (2, .int r_2), (0, .ref (h 99 0 0)), (1, .int p1)]) hx hb dX6_drawnSize_15 hl (by decide) rfl (fun ls hl => ?_)
  exact w_M_X6_drawnSize_b17 X K _ _ _ _ _ ls _ _ O (lv_sub hl [3, 2, 1, 0] rfl) hf
theorem hdV_X6_drawnSize : yX6_drawnSize.cls = RX6 ∧ (yX6_drawnSize.cls ≠ "java/lang/invoke/MethodHandle" ∧ yX6_drawnSize.cls ≠ "java/lang/invoke/VarHandle" ∧ (parseMethodDescriptor yX6_drawnSize.desc).map (fun d => d.parameters.length) = some 1) := by decide +kernel
theorem hdV_X6_weights : yX6_weights.cls = RX6 ∧ (yX6_weights.cls ≠ "java/lang/invoke/MethodHandle" ∧ yX6_weights.cls ≠ "java/lang/invoke/VarHandle" ∧ (parseMethodDescriptor yX6_weights.desc).map (fun d => d.parameters.length) = some 0) := by decide +kernel
def M_X6_goesBy_b174 (kb84 : ST → Int32 → Option (ST)) (σ : ST) (x2 : Int32) : Option (ST) :=
  lt1 (x2 + 1) (fun x2_1 => kb84 σ x2_1)
theorem w_M_X6_goesBy_b174 (X : FX p m c meth s args RX6 cX6_goesBy 5 none) (K : XK D d A s) {z : ST} {kb84 : ST → Int32 → Option (ST)} (hkb84 : ∀ (σ : ST) (x2 : Int32) (ls : Array Slot) (H : Heap) (locs : List Loc), XH D A s.heap h (xct LM okM h d σ) H locs → lv_has ls 5 [(0, .ref (h 99 0 0)), (2, .int x2)] → kb84 σ x2 = some z → W p l e (rmD 6 0 0) s m args below meth c H locs 0 0 (MQ below (Qv D (pu z) (cw h LM okM d) A) args s 0 0 A) (F0 m 84 ls [])) (σ : ST) (x2 : Int32) (ls : Array Slot) (H : Heap) (locs : List Loc) (O : XH D A s.heap h (xct LM okM h d σ) H locs) (hl : lv_has ls 5 [(0, .ref (h 99 0 0)), (2, .int x2)]) (hf : M_X6_goesBy_b174 kb84 σ x2 = some z) : W p l e (rmD 6 0 0) s m args below meth c H locs 0 0 (MQ below (Qv D (pu z) (cw h LM okM d) A) args s 0 0 A) (F0 m 174 ls []) := by
  have hx := X.1.1; have hb := X.1.2.1
  rw [M_X6_goesBy_b174] at hf
  obtain ⟨x2_1, ex2_1, hf⟩ := lt1_s hf
  refine lv_iinc (v := x2_1) (lv' := [(2, .int x2_1), (0, .ref (h 99 0 0))]) hx hb dX6_goesBy_174 hl (k := 1) rfl (by rw [ex2_1]; rfl) (by decide) rfl (fun ls hl => ?_)
  refine lv_goto (tgt := 84) hx hb dX6_goesBy_177 (by decide) ?_
  exact hkb84 _ _ ls _ _ O (lv_sub hl [1, 0] rfl) hf
def M_X6_goesBy_b156 (kb84 : ST → Int32 → Option (ST)) : Nat → ST → Int32 → Int32 → Option (ST)
  | 0, _, _, _ => none
  | n + 1, σ, x2, x3 =>
    (if 5 < x3 then M_X6_goesBy_b174 kb84 σ x2 else bn1 (M_X6_puts σ x2 x3 0) (fun σ_2 => lt1 (x3 + 1) (fun x3_3 => (M_X6_goesBy_b156 kb84 n) σ_2 x2 x3_3)))
theorem w_M_X6_goesBy_b156 (X : FX p m c meth s args RX6 cX6_goesBy 5 none) (K : XK D d A s) {z : ST} {kb84 : ST → Int32 → Option (ST)} (hkb84 : ∀ (σ : ST) (x2 : Int32) (ls : Array Slot) (H : Heap) (locs : List Loc), XH D A s.heap h (xct LM okM h d σ) H locs → lv_has ls 5 [(0, .ref (h 99 0 0)), (2, .int x2)] → kb84 σ x2 = some z → W p l e (rmD 6 0 0) s m args below meth c H locs 0 0 (MQ below (Qv D (pu z) (cw h LM okM d) A) args s 0 0 A) (F0 m 84 ls [])) : ∀ (n : Nat) (σ : ST) (x2 : Int32) (x3 : Int32) (ls : Array Slot) (H : Heap) (locs : List Loc), XH D A s.heap h (xct LM okM h d σ) H locs → lv_has ls 5 [(0, .ref (h 99 0 0)), (2, .int x2), (3, .int x3)] → M_X6_goesBy_b156 kb84 n σ x2 x3 = some z → W p l e (rmD 6 0 0) s m args below meth c H locs 0 0 (MQ below (Qv D (pu z) (cw h LM okM d) A) args s 0 0 A) (F0 m 156 ls []) := by
  have hx := X.1.1; have hb := X.1.2.1
  intro n
  induction n with
  | zero =>
    intro σ x2 x3 ls H locs O hl hf
    exact absurd hf (fun q => by cases q)
  | succ n ih =>
    intro σ x2 x3 ls H locs O hl hf
    rw [M_X6_goesBy_b156] at hf
    refine lv_iload_n hx hb dX6_goesBy_156 rfl (lv_at hl 2 rfl) ?_
    refine lv_iconst (v := 5) hx hb dX6_goesBy_157 (by decide) ?_
    refine lv_icmp_gt (tgt := 174) hx hb dX6_goesBy_158 (by decide) (fun c_1 => ?_) (fun c_1 => ?_)
    · replace hf := if_t c_1 hf
      exact w_M_X6_goesBy_b174 X K hkb84 _ _ ls _ _ O (lv_sub hl [0, 1] rfl) hf
    · replace hf := if_f c_1 hf
      refine lv_aload_n hx hb dX6_goesBy_161 rfl (lv_at hl 0 rfl) ?_
      refine lv_iload_n hx hb dX6_goesBy_162 rfl (lv_at hl 1 rfl) ?_
      refine lv_iload_n hx hb dX6_goesBy_163 rfl (lv_at hl 2 rfl) ?_
      refine lv_iconst (v := 0) hx hb dX6_goesBy_164 (by decide) ?_
      obtain ⟨σ_2, hg, hf⟩ := bn1_s hf
      refine x_callv (x_runV (As := [.int x2, .int x3, .int 0]) (rest := []) X K O (xct_obj rfl LM_99) rfl (m_M_X6_puts hg) EN_b EN_h (lw_V q1331 q1333 qs46 q124 q1334) 3 rfl hl.1 (Nat.le_of_ble_eq_true rfl) hdV_X6_puts ⟨by decide, by decide⟩ ⟨Nat.le_refl _, Nat.le_refl _⟩ dX6_goesBy_165) (fun u H locs hp O _ => ?_)
      cases hp
      have O : XH D A s.heap h (xct LM okM h d σ_2) H locs := O
      obtain ⟨x3_3, ex3_3, hf⟩ := lt1_s hf
      refine lv_iinc (v := x3_3) (lv' := [(3, .int x3_3), (0, .ref (h 99 0 0)), (2, .int x2)]) hx hb dX6_goesBy_168 hl (k := 2) rfl (by rw [ex3_3]; rfl) (by decide) rfl (fun ls hl => ?_)
      refine lv_goto (tgt := 156) hx hb dX6_goesBy_171 (by decide) ?_
      exact ih _ _ _ ls _ _ O (lv_sub hl [1, 2, 0] rfl) hf
def M_X6_goesBy_b128 (kb84 : ST → Int32 → Option (ST)) (σ : ST) (x2 : Int32) : Option (ST) :=
  (if (gI σ 6 0 0 7) ≤ 0 then M_X6_goesBy_b174 kb84 σ x2 else bn2 (M_X6_fact σ x2 1) (fun σ_2 r_3 => (if r_3 = (gI σ_2 6 0 0 7) then M_X6_goesBy_b156 kb84 FUEL σ_2 x2 2 else M_X6_goesBy_b174 kb84 σ_2 x2)))
theorem w_M_X6_goesBy_b128 (X : FX p m c meth s args RX6 cX6_goesBy 5 none) (K : XK D d A s) {z : ST} {kb84 : ST → Int32 → Option (ST)} (hkb84 : ∀ (σ : ST) (x2 : Int32) (ls : Array Slot) (H : Heap) (locs : List Loc), XH D A s.heap h (xct LM okM h d σ) H locs → lv_has ls 5 [(0, .ref (h 99 0 0)), (2, .int x2)] → kb84 σ x2 = some z → W p l e (rmD 6 0 0) s m args below meth c H locs 0 0 (MQ below (Qv D (pu z) (cw h LM okM d) A) args s 0 0 A) (F0 m 84 ls [])) (σ : ST) (x2 : Int32) (ls : Array Slot) (H : Heap) (locs : List Loc) (O : XH D A s.heap h (xct LM okM h d σ) H locs) (hl : lv_has ls 5 [(0, .ref (h 99 0 0)), (2, .int x2)]) (hf : M_X6_goesBy_b128 kb84 σ x2 = some z) : W p l e (rmD 6 0 0) s m args below meth c H locs 0 0 (MQ below (Qv D (pu z) (cw h LM okM d) A) args s 0 0 A) (F0 m 128 ls []) := by
  have hx := X.1.1; have hb := X.1.2.1
  rw [M_X6_goesBy_b128] at hf
  refine lv_aload_n hx hb dX6_goesBy_128 rfl (lv_at hl 0 rfl) ?_
  refine x_gF X K O 6 rfl LM_99 rfl rfl in_X6 (by decide) q1156 dX6_goesBy_129 ?_
  refine lv_bipush (v := 7) hx hb dX6_goesBy_132 (by decide) ?_
  refine x_ild X K O rfl LM_6 (by decide) (j := 7) rfl dX6_goesBy_134 ?_
  refine lv_if_le (tgt := 174) hx hb dX6_goesBy_135 (by decide) (fun c_1 => ?_) (fun c_1 => ?_)
  · replace hf := if_t c_1 hf
    exact w_M_X6_goesBy_b174 X K hkb84 _ _ ls _ _ O (lv_sub hl [0, 1] rfl) hf
  · replace hf := if_f c_1 hf
    refine lv_aload_n hx hb dX6_goesBy_138 rfl (lv_at hl 0 rfl) ?_
    refine lv_iload_n hx hb dX6_goesBy_139 rfl (lv_at hl 1 rfl) ?_
    refine lv_iconst (v := 1) hx hb dX6_goesBy_140 (by decide) ?_
    obtain ⟨σ_2, r_3, hg, hf⟩ := bn2_s hf
    refine x_calli (x_runV (As := [.int x2, .int 1]) (rest := []) X K O (xct_obj rfl LM_99) rfl (m_M_X6_fact hg) EN_b EN_h (lw_V q1447 q1449 qs68 q124 q1450) 2 rfl hl.1 (Nat.le_of_ble_eq_true rfl) hdV_X6_fact ⟨by decide, by decide⟩ ⟨Nat.le_refl _, Nat.le_refl _⟩ dX6_goesBy_141) (fun r u H locs hp O _ => ?_)
    cases hp
    have O : XH D A s.heap h (xct LM okM h d σ_2) H locs := O
    refine lv_aload_n hx hb dX6_goesBy_144 rfl (lv_at hl 0 rfl) ?_
    refine x_gF X K O 6 rfl LM_99 rfl rfl in_X6 (by decide) q1156 dX6_goesBy_145 ?_
    refine lv_bipush (v := 7) hx hb dX6_goesBy_148 (by decide) ?_
    refine x_ild X K O rfl LM_6 (by decide) (j := 7) rfl dX6_goesBy_150 ?_
    refine lv_icmp_ne (tgt := 174) hx hb dX6_goesBy_151 (by decide) (fun c_4 => ?_) (fun c_4 => ?_)
    · replace hf := if_f c_4 hf
      exact w_M_X6_goesBy_b174 X K hkb84 _ _ ls _ _ O (lv_sub hl [0, 1] rfl) hf
    · replace hf := if_t c_4 hf
      refine lv_iconst (v := 2) hx hb dX6_goesBy_154 (by decide) ?_
      refine lv_istore_n (lv' := [(3, .int 2), (0, .ref (h 99 0 0)), (2, .int x2)]) hx hb dX6_goesBy_155 rfl hl (by decide) rfl (fun ls hl => ?_)
      exact w_M_X6_goesBy_b156 X K hkb84 _ _ _ _ ls _ _ O (lv_sub hl [1, 2, 0] rfl) hf
def M_X6_goesBy_b110 (kb84 : ST → Int32 → Option (ST)) (σ : ST) (x2 : Int32) : Option (ST) :=
  bn2 (M_X6_fact σ x2 1) (fun σ_1 r_2 => (if 99 ≤ r_2 then M_X6_goesBy_b128 kb84 σ_1 x2 else bn1 (M_X6_adds σ_1 x2 1 1) (fun σ_4 => M_X6_goesBy_b128 kb84 σ_4 x2)))
theorem w_M_X6_goesBy_b110 (X : FX p m c meth s args RX6 cX6_goesBy 5 none) (K : XK D d A s) {z : ST} {kb84 : ST → Int32 → Option (ST)} (hkb84 : ∀ (σ : ST) (x2 : Int32) (ls : Array Slot) (H : Heap) (locs : List Loc), XH D A s.heap h (xct LM okM h d σ) H locs → lv_has ls 5 [(0, .ref (h 99 0 0)), (2, .int x2)] → kb84 σ x2 = some z → W p l e (rmD 6 0 0) s m args below meth c H locs 0 0 (MQ below (Qv D (pu z) (cw h LM okM d) A) args s 0 0 A) (F0 m 84 ls [])) (σ : ST) (x2 : Int32) (ls : Array Slot) (H : Heap) (locs : List Loc) (O : XH D A s.heap h (xct LM okM h d σ) H locs) (hl : lv_has ls 5 [(0, .ref (h 99 0 0)), (2, .int x2)]) (hf : M_X6_goesBy_b110 kb84 σ x2 = some z) : W p l e (rmD 6 0 0) s m args below meth c H locs 0 0 (MQ below (Qv D (pu z) (cw h LM okM d) A) args s 0 0 A) (F0 m 110 ls []) := by
  have hx := X.1.1; have hb := X.1.2.1
  rw [M_X6_goesBy_b110] at hf
  refine lv_aload_n hx hb dX6_goesBy_110 rfl (lv_at hl 0 rfl) ?_
  refine lv_iload_n hx hb dX6_goesBy_111 rfl (lv_at hl 1 rfl) ?_
  refine lv_iconst (v := 1) hx hb dX6_goesBy_112 (by decide) ?_
  obtain ⟨σ_1, r_2, hg, hf⟩ := bn2_s hf
  refine x_calli (x_runV (As := [.int x2, .int 1]) (rest := []) X K O (xct_obj rfl LM_99) rfl (m_M_X6_fact hg) EN_b EN_h (lw_V q1447 q1449 qs68 q124 q1450) 2 rfl hl.1 (Nat.le_of_ble_eq_true rfl) hdV_X6_fact ⟨by decide, by decide⟩ ⟨Nat.le_refl _, Nat.le_refl _⟩ dX6_goesBy_113) (fun r u H locs hp O _ => ?_)
  cases hp
  have O : XH D A s.heap h (xct LM okM h d σ_1) H locs := O
  refine lv_bipush (v := 99) hx hb dX6_goesBy_116 (by decide) ?_
  refine lv_icmp_ge (tgt := 128) hx hb dX6_goesBy_118 (by decide) (fun c_3 => ?_) (fun c_3 => ?_)
  · replace hf := if_t c_3 hf
    exact w_M_X6_goesBy_b128 X K hkb84 _ _ ls _ _ O (lv_sub hl [0, 1] rfl) hf
  · replace hf := if_f c_3 hf
    refine lv_aload_n hx hb dX6_goesBy_121 rfl (lv_at hl 0 rfl) ?_
    refine lv_iload_n hx hb dX6_goesBy_122 rfl (lv_at hl 1 rfl) ?_
    refine lv_iconst (v := 1) hx hb dX6_goesBy_123 (by decide) ?_
    refine lv_iconst (v := 1) hx hb dX6_goesBy_124 (by decide) ?_
    obtain ⟨σ_4, hg, hf⟩ := bn1_s hf
    refine x_callv (x_runV (As := [.int x2, .int 1, .int 1]) (rest := []) X K O (xct_obj rfl LM_99) rfl (m_M_X6_adds hg) EN_b EN_h (lw_V q1500 q1502 qs79 q124 q1503) 3 rfl hl.1 (Nat.le_of_ble_eq_true rfl) hdV_X6_adds ⟨by decide, by decide⟩ ⟨Nat.le_refl _, Nat.le_refl _⟩ dX6_goesBy_125) (fun u H locs hp O _ => ?_)
    cases hp
    have O : XH D A s.heap h (xct LM okM h d σ_4) H locs := O
    exact w_M_X6_goesBy_b128 X K hkb84 _ _ ls _ _ O (lv_sub hl [0, 1] rfl) hf
def M_X6_goesBy_b84 : Nat → ST → Int32 → Option (ST)
  | 0, _, _ => none
  | n + 1, σ, x2 =>
    (if (gI σ 99 0 0 2) ≤ x2 then lt1 (sI σ 99 0 0 3 ((gI σ 99 0 0 3) + 1)) (fun σ_2 => some σ_2) else bn2 (M_X6_fact σ x2 6) (fun σ_3 r_4 => (if r_4 ≤ 0 then M_X6_goesBy_b110 (M_X6_goesBy_b84 n) σ_3 x2 else bn1 (M_X6_adds σ_3 x2 6 (-1)) (fun σ_6 => M_X6_goesBy_b110 (M_X6_goesBy_b84 n) σ_6 x2))))
theorem w_M_X6_goesBy_b84 (X : FX p m c meth s args RX6 cX6_goesBy 5 none) (K : XK D d A s) {z : ST} : ∀ (n : Nat) (σ : ST) (x2 : Int32) (ls : Array Slot) (H : Heap) (locs : List Loc), XH D A s.heap h (xct LM okM h d σ) H locs → lv_has ls 5 [(0, .ref (h 99 0 0)), (2, .int x2)] → M_X6_goesBy_b84 n σ x2 = some z → W p l e (rmD 6 0 0) s m args below meth c H locs 0 0 (MQ below (Qv D (pu z) (cw h LM okM d) A) args s 0 0 A) (F0 m 84 ls []) := by
  have hx := X.1.1; have hb := X.1.2.1
  intro n
  induction n with
  | zero =>
    intro σ x2 ls H locs O hl hf
    exact absurd hf (fun q => by cases q)
  | succ n ih =>
    intro σ x2 ls H locs O hl hf
    rw [M_X6_goesBy_b84] at hf
    refine lv_iload_n hx hb dX6_goesBy_84 rfl (lv_at hl 1 rfl) ?_
    refine lv_aload_n hx hb dX6_goesBy_85 rfl (lv_at hl 0 rfl) ?_
    refine x_gI X K O 2 rfl LM_99 rfl rfl in_X6 (by decide) q1152 dX6_goesBy_86 ?_
    refine lv_icmp_ge (tgt := 180) hx hb dX6_goesBy_89 (by decide) (fun c_1 => ?_) (fun c_1 => ?_)
    · replace hf := if_t c_1 hf
      refine lv_aload_n hx hb dX6_goesBy_180 rfl (lv_at hl 0 rfl) ?_
      refine lv_aload_n hx hb dX6_goesBy_181 rfl (lv_at hl 0 rfl) ?_
      refine x_gI X K O 3 rfl LM_99 rfl rfl in_X6 (by decide) q1153 dX6_goesBy_182 ?_
      refine lv_iconst (v := 1) hx hb dX6_goesBy_185 (by decide) ?_
      refine lv_iadd hx hb dX6_goesBy_186 ?_
      obtain ⟨σ_2, eσ_2, hf⟩ := lt1_s hf
      refine x_pI X K O 3 rfl LM_99 rfl rfl in_X6 tyX6_ok nmX6 (by decide) q1153 rfl rfl rfl dX6_goesBy_187 (fun H locs O => ?_)
      rw [← eσ_2] at O
      exact x_vret X O rfl _ (Option.some.inj hf).symm rfl dX6_goesBy_190
    · replace hf := if_f c_1 hf
      refine lv_aload_n hx hb dX6_goesBy_92 rfl (lv_at hl 0 rfl) ?_
      refine lv_iload_n hx hb dX6_goesBy_93 rfl (lv_at hl 1 rfl) ?_
      refine lv_bipush (v := 6) hx hb dX6_goesBy_94 (by decide) ?_
      obtain ⟨σ_3, r_4, hg, hf⟩ := bn2_s hf
      refine x_calli (x_runV (As := [.int x2, .int 6]) (rest := []) X K O (xct_obj rfl LM_99) rfl (m_M_X6_fact hg) EN_b EN_h (lw_V q1447 q1449 qs68 q124 q1450) 2 rfl hl.1 (Nat.le_of_ble_eq_true rfl) hdV_X6_fact ⟨by decide, by decide⟩ ⟨Nat.le_refl _, Nat.le_refl _⟩ dX6_goesBy_96) (fun r u H locs hp O _ => ?_)
      cases hp
      have O : XH D A s.heap h (xct LM okM h d σ_3) H locs := O
      refine lv_if_le (tgt := 110) hx hb dX6_goesBy_99 (by decide) (fun c_5 => ?_) (fun c_5 => ?_)
      · replace hf := if_t c_5 hf
        exact w_M_X6_goesBy_b110 X K ih _ _ ls _ _ O (lv_sub hl [0, 1] rfl) hf
      · replace hf := if_f c_5 hf
        refine lv_aload_n hx hb dX6_goesBy_102 rfl (lv_at hl 0 rfl) ?_
        refine lv_iload_n hx hb dX6_goesBy_103 rfl (lv_at hl 1 rfl) ?_
        refine lv_bipush (v := 6) hx hb dX6_goesBy_104 (by decide) ?_
        refine lv_iconst (v := (-1)) hx hb dX6_goesBy_106 (by decide) ?_
        obtain ⟨σ_6, hg, hf⟩ := bn1_s hf
        refine x_callv (x_runV (As := [.int x2, .int 6, .int (-1)]) (rest := []) X K O (xct_obj rfl LM_99) rfl (m_M_X6_adds hg) EN_b EN_h (lw_V q1500 q1502 qs79 q124 q1503) 3 rfl hl.1 (Nat.le_of_ble_eq_true rfl) hdV_X6_adds ⟨by decide, by decide⟩ ⟨Nat.le_refl _, Nat.le_refl _⟩ dX6_goesBy_107) (fun u H locs hp O _ => ?_)
        cases hp
        have O : XH D A s.heap h (xct LM okM h d σ_6) H locs := O
        exact w_M_X6_goesBy_b110 X K ih _ _ ls _ _ O (lv_sub hl [0, 1] rfl) hf
def M_X6_goesBy_b82 (σ : ST) : Option (ST) :=
  M_X6_goesBy_b84 FUEL σ 0
theorem w_M_X6_goesBy_b82 (X : FX p m c meth s args RX6 cX6_goesBy 5 none) (K : XK D d A s) {z : ST} (σ : ST) (ls : Array Slot) (H : Heap) (locs : List Loc) (O : XH D A s.heap h (xct LM okM h d σ) H locs) (hl : lv_has ls 5 [(0, .ref (h 99 0 0))]) (hf : M_X6_goesBy_b82 σ = some z) : W p l e (rmD 6 0 0) s m args below meth c H locs 0 0 (MQ below (Qv D (pu z) (cw h LM okM d) A) args s 0 0 A) (F0 m 82 ls []) := by
  have hx := X.1.1; have hb := X.1.2.1
  rw [M_X6_goesBy_b82] at hf
  refine lv_iconst (v := 0) hx hb dX6_goesBy_82 (by decide) ?_
  refine lv_istore_n (lv' := [(2, .int 0), (0, .ref (h 99 0 0))]) hx hb dX6_goesBy_83 rfl hl (by decide) rfl (fun ls hl => ?_)
  exact w_M_X6_goesBy_b84 X K _ _ _ ls _ _ O (lv_sub hl [1, 0] rfl) hf
def M_X6_goesBy_b63 (kb7 : ST → Int32 → Int32 → Option (ST)) (σ : ST) (x1 : Int32) (x2 : Int32) (x3 : Int32) (x4 : Int32) : Option (ST) :=
  bn2 (M_X6_drawnSize σ x1) (fun σ_1 r_2 => bn2 (M_X6_settlesDeal σ_1 x3 x4 r_2) (fun σ_3 r_4 => lt1 (x2 + 1) (fun x2_5 => kb7 σ_3 x1 x2_5)))
theorem w_M_X6_goesBy_b63 (X : FX p m c meth s args RX6 cX6_goesBy 5 none) (K : XK D d A s) {z : ST} {kb7 : ST → Int32 → Int32 → Option (ST)} (hkb7 : ∀ (σ : ST) (x1 : Int32) (x2 : Int32) (ls : Array Slot) (H : Heap) (locs : List Loc), XH D A s.heap h (xct LM okM h d σ) H locs → lv_has ls 5 [(0, .ref (h 99 0 0)), (1, .int x1), (2, .int x2)] → kb7 σ x1 x2 = some z → W p l e (rmD 6 0 0) s m args below meth c H locs 0 0 (MQ below (Qv D (pu z) (cw h LM okM d) A) args s 0 0 A) (F0 m 7 ls [])) (σ : ST) (x1 : Int32) (x2 : Int32) (x3 : Int32) (x4 : Int32) (ls : Array Slot) (H : Heap) (locs : List Loc) (O : XH D A s.heap h (xct LM okM h d σ) H locs) (hl : lv_has ls 5 [(0, .ref (h 99 0 0)), (1, .int x1), (2, .int x2), (3, .int x3), (4, .int x4)]) (hf : M_X6_goesBy_b63 kb7 σ x1 x2 x3 x4 = some z) : W p l e (rmD 6 0 0) s m args below meth c H locs 0 0 (MQ below (Qv D (pu z) (cw h LM okM d) A) args s 0 0 A) (F0 m 63 ls []) := by
  have hx := X.1.1; have hb := X.1.2.1
  rw [M_X6_goesBy_b63] at hf
  refine lv_aload_n hx hb dX6_goesBy_63 rfl (lv_at hl 0 rfl) ?_
  refine lv_iload_n hx hb dX6_goesBy_64 rfl (lv_at hl 3 rfl) ?_
  refine lv_iload hx hb dX6_goesBy_65 (lv_at hl 4 rfl) ?_
  refine lv_aload_n hx hb dX6_goesBy_67 rfl (lv_at hl 0 rfl) ?_
  refine lv_iload_n hx hb dX6_goesBy_68 rfl (lv_at hl 1 rfl) ?_
  obtain ⟨σ_1, r_2, hg, hf⟩ := bn2_s hf
  refine x_calli (x_runV (As := [.int x1]) (rest := [.int x4, .int x3, .ref (h 99 0 0)]) X K O (xct_obj rfl LM_99) rfl (m_M_X6_drawnSize hg) EN_b EN_h (lw_V q1534 q1536 qs85 q124 q1537) 1 rfl hl.1 (Nat.le_of_ble_eq_true rfl) hdV_X6_drawnSize ⟨by decide, by decide⟩ ⟨Nat.le_refl _, Nat.le_refl _⟩ dX6_goesBy_69) (fun r u H locs hp O _ => ?_)
  cases hp
  have O : XH D A s.heap h (xct LM okM h d σ_1) H locs := O
  obtain ⟨σ_3, r_4, hg, hf⟩ := bn2_s hf
  refine x_calli (x_runV (As := [.int x3, .int x4, .int r_2]) (rest := []) X K O (xct_obj rfl LM_99) rfl (m_M_X6_settlesDeal hg) EN_b EN_h (lw_V q1492 q1494 qs77 q124 q1495) 3 rfl hl.1 (Nat.le_of_ble_eq_true rfl) hdV_X6_settlesDeal ⟨by decide, by decide⟩ ⟨Nat.le_refl _, Nat.le_refl _⟩ dX6_goesBy_72) (fun r u H locs hp O _ => ?_)
  cases hp
  have O : XH D A s.heap h (xct LM okM h d σ_3) H locs := O
  refine lv_pop hx hb dX6_goesBy_75 rfl ?_
  obtain ⟨x2_5, ex2_5, hf⟩ := lt1_s hf
  refine lv_iinc (v := x2_5) (lv' := [(2, .int x2_5), (0, .ref (h 99 0 0)), (1, .int x1), (3, .int x3), (4, .int x4)]) hx hb dX6_goesBy_76 hl (k := 2) rfl (by rw [ex2_5]; rfl) (by decide) rfl (fun ls hl => ?_)
  refine lv_goto (tgt := 7) hx hb dX6_goesBy_79 (by decide) ?_
  exact hkb7 _ _ _ ls _ _ O (lv_sub hl [1, 2, 0] rfl) hf
def M_X6_goesBy_b7 : Nat → ST → Int32 → Int32 → Option (ST)
  | 0, _, _, _ => none
  | n + 1, σ, x1, x2 =>
    (if (gI σ 6 0 0 8) ≤ x2 then M_X6_goesBy_b82 σ else (if (gI σ 99 0 0 2) ≤ 1 then M_X6_goesBy_b82 σ else (if x1 ≤ 0 then M_X6_goesBy_b82 σ else bn2 (M_X6_draw σ (gI σ 99 0 0 2)) (fun σ_4 r_5 => bn2 (M_X6_draw σ_4 ((gI σ_4 99 0 0 2) - 1)) (fun σ_6 r_7 => (if r_7 < r_5 then M_X6_goesBy_b63 (M_X6_goesBy_b7 n) σ_6 x1 x2 r_5 r_7 else lt1 (r_7 + 1) (fun x4_9 => M_X6_goesBy_b63 (M_X6_goesBy_b7 n) σ_6 x1 x2 r_5 x4_9)))))))
theorem w_M_X6_goesBy_b7 (X : FX p m c meth s args RX6 cX6_goesBy 5 none) (K : XK D d A s) {z : ST} : ∀ (n : Nat) (σ : ST) (x1 : Int32) (x2 : Int32) (ls : Array Slot) (H : Heap) (locs : List Loc), XH D A s.heap h (xct LM okM h d σ) H locs → lv_has ls 5 [(0, .ref (h 99 0 0)), (1, .int x1), (2, .int x2)] → M_X6_goesBy_b7 n σ x1 x2 = some z → W p l e (rmD 6 0 0) s m args below meth c H locs 0 0 (MQ below (Qv D (pu z) (cw h LM okM d) A) args s 0 0 A) (F0 m 7 ls []) := by
  have hx := X.1.1; have hb := X.1.2.1
  intro n
  induction n with
  | zero =>
    intro σ x1 x2 ls H locs O hl hf
    exact absurd hf (fun q => by cases q)
  | succ n ih =>
    intro σ x1 x2 ls H locs O hl hf
    rw [M_X6_goesBy_b7] at hf
    refine lv_iload_n hx hb dX6_goesBy_7 rfl (lv_at hl 2 rfl) ?_
    refine lv_aload_n hx hb dX6_goesBy_8 rfl (lv_at hl 0 rfl) ?_
    refine x_gF X K O 6 rfl LM_99 rfl rfl in_X6 (by decide) q1156 dX6_goesBy_9 ?_
    refine lv_bipush (v := 8) hx hb dX6_goesBy_12 (by decide) ?_
    refine x_ild X K O rfl LM_6 (by decide) (j := 8) rfl dX6_goesBy_14 ?_
    refine lv_icmp_ge (tgt := 82) hx hb dX6_goesBy_15 (by decide) (fun c_1 => ?_) (fun c_1 => ?_)
    · replace hf := if_t c_1 hf
      exact w_M_X6_goesBy_b82 X K _ ls _ _ O (lv_sub hl [0] rfl) hf
    · replace hf := if_f c_1 hf
      refine lv_aload_n hx hb dX6_goesBy_18 rfl (lv_at hl 0 rfl) ?_
      refine x_gI X K O 2 rfl LM_99 rfl rfl in_X6 (by decide) q1152 dX6_goesBy_19 ?_
      refine lv_iconst (v := 1) hx hb dX6_goesBy_22 (by decide) ?_
      refine lv_icmp_le (tgt := 82) hx hb dX6_goesBy_23 (by decide) (fun c_2 => ?_) (fun c_2 => ?_)
      · replace hf := if_t c_2 hf
        exact w_M_X6_goesBy_b82 X K _ ls _ _ O (lv_sub hl [0] rfl) hf
      · replace hf := if_f c_2 hf
        refine lv_iload_n hx hb dX6_goesBy_26 rfl (lv_at hl 1 rfl) ?_
        refine lv_if_le (tgt := 82) hx hb dX6_goesBy_27 (by decide) (fun c_3 => ?_) (fun c_3 => ?_)
        · replace hf := if_t c_3 hf
          exact w_M_X6_goesBy_b82 X K _ ls _ _ O (lv_sub hl [0] rfl) hf
        · replace hf := if_f c_3 hf
          refine lv_aload_n hx hb dX6_goesBy_30 rfl (lv_at hl 0 rfl) ?_
          refine lv_aload_n hx hb dX6_goesBy_31 rfl (lv_at hl 0 rfl) ?_
          refine x_gI X K O 2 rfl LM_99 rfl rfl in_X6 (by decide) q1152 dX6_goesBy_32 ?_
          obtain ⟨σ_4, r_5, hg, hf⟩ := bn2_s hf
          refine x_calli (x_runV (As := [.int (gI σ 99 0 0 2)]) (rest := []) X K O (xct_obj rfl LM_99) rfl (m_M_X6_draw hg) EN_b EN_h (lw_V q1508 q1510 qs81 q124 q1511) 1 rfl hl.1 (Nat.le_of_ble_eq_true rfl) hdV_X6_draw ⟨by decide, by decide⟩ ⟨Nat.le_refl _, Nat.le_refl _⟩ dX6_goesBy_35) (fun r u H locs hp O _ => ?_)
          cases hp
          have O : XH D A s.heap h (xct LM okM h d σ_4) H locs := O
          refine lv_istore_n (lv' := [(3, .int r_5), (0, .ref (h 99 0 0)), (1, .int x1), (2, .int x2)]) hx hb dX6_goesBy_38 rfl hl (by decide) rfl (fun ls hl => ?_)
          refine lv_aload_n hx hb dX6_goesBy_39 rfl (lv_at hl 1 rfl) ?_
          refine lv_aload_n hx hb dX6_goesBy_40 rfl (lv_at hl 1 rfl) ?_
          refine x_gI X K O 2 rfl LM_99 rfl rfl in_X6 (by decide) q1152 dX6_goesBy_41 ?_
          refine lv_iconst (v := 1) hx hb dX6_goesBy_44 (by decide) ?_
          refine lv_isub hx hb dX6_goesBy_45 ?_
          obtain ⟨σ_6, r_7, hg, hf⟩ := bn2_s hf
          refine x_calli (x_runV (As := [.int ((gI σ_4 99 0 0 2) - 1)]) (rest := []) X K O (xct_obj rfl LM_99) rfl (m_M_X6_draw hg) EN_b EN_h (lw_V q1508 q1510 qs81 q124 q1511) 1 rfl hl.1 (Nat.le_of_ble_eq_true rfl) hdV_X6_draw ⟨by decide, by decide⟩ ⟨Nat.le_refl _, Nat.le_refl _⟩ dX6_goesBy_46) (fun r u H locs hp O _ => ?_)
          cases hp
          have O : XH D A s.heap h (xct LM okM h d σ_6) H locs := O
          refine lv_istore (lv' := [(4, .int r_7), (3, .int r_5), (0, .ref (h 99 0 0)), (1, .int x1), (2, .int x2)]) hx hb dX6_goesBy_49 hl (by decide) rfl (fun ls hl => ?_)
          refine lv_iload hx hb dX6_goesBy_51 (lv_at hl 0 rfl) ?_
          refine lv_iload_n hx hb dX6_goesBy_53 rfl (lv_at hl 1 rfl) ?_
          refine lv_icmp_lt (tgt := 63) hx hb dX6_goesBy_54 (by decide) (fun c_8 => ?_) (fun c_8 => ?_)
          · replace hf := if_t c_8 hf
            exact w_M_X6_goesBy_b63 X K ih _ _ _ _ _ ls _ _ O (lv_sub hl [2, 3, 4, 1, 0] rfl) hf
          · replace hf := if_f c_8 hf
            refine lv_iload hx hb dX6_goesBy_57 (lv_at hl 0 rfl) ?_
            refine lv_iconst (v := 1) hx hb dX6_goesBy_59 (by decide) ?_
            refine lv_iadd hx hb dX6_goesBy_60 ?_
            obtain ⟨x4_9, ex4_9, hf⟩ := lt1_s hf
            refine x_top (w := .int x4_9) (by rw [ex4_9]) ?_
            refine lv_istore (lv' := [(4, .int x4_9), (3, .int r_5), (0, .ref (h 99 0 0)), (1, .int x1), (2, .int x2)]) hx hb dX6_goesBy_61 hl (by decide) rfl (fun ls hl => ?_)
            exact w_M_X6_goesBy_b63 X K ih _ _ _ _ _ ls _ _ O (lv_sub hl [2, 3, 4, 1, 0] rfl) hf
def M_X6_goesBy (σ : ST) : Option (ST) :=
  bn2 (M_X6_weights σ) (fun σ_1 r_2 => M_X6_goesBy_b7 FUEL σ_1 r_2 0)
theorem m_M_X6_goesBy {l : Launch} {D : va_G} {d : Nat → ClassId} {h : IX} {σ : ST} {z : ST} (hf : M_X6_goesBy σ = some z) : XM l D d EN yX6_goesBy cX6_goesBy 5 none 6 0 0 [.ref (h 99 0 0)] h (xct LM okM h d σ) (Qv D (pu z) (cw h LM okM d)) := by
  refine XM.of (by decide +kernel) (Nat.le_of_ble_eq_true rfl) ?_
  intro p e s m below meth c A ls X _ K _ O hl
  have hl : lv_has ls 5 [(0, .ref (h 99 0 0))] := hl
  have hx := X.1.1; have hb := X.1.2.1
  rw [M_X6_goesBy] at hf
  refine lv_aload_n hx hb dX6_goesBy_0 rfl (lv_at hl 0 rfl) ?_
  obtain ⟨σ_1, r_2, hg, hf⟩ := bn2_s hf
  refine x_calli (x_runV (As := []) (rest := []) X K O (xct_obj rfl LM_99) rfl (m_M_X6_weights hg) EN_b EN_h (lw_V q1530 q1532 qs84 q124 q1533) 0 rfl hl.1 (Nat.le_of_ble_eq_true rfl) hdV_X6_weights ⟨by decide, by decide⟩ ⟨Nat.le_refl _, Nat.le_refl _⟩ dX6_goesBy_1) (fun r u H locs hp O _ => ?_)
  cases hp
  have O : XH D A s.heap h (xct LM okM h d σ_1) H locs := O
  refine lv_istore_n (lv' := [(1, .int r_2), (0, .ref (h 99 0 0))]) hx hb dX6_goesBy_4 rfl hl (by decide) rfl (fun ls hl => ?_)
  refine lv_iconst (v := 0) hx hb dX6_goesBy_5 (by decide) ?_
  refine lv_istore_n (lv' := [(2, .int 0), (1, .int r_2), (0, .ref (h 99 0 0))]) hx hb dX6_goesBy_6 rfl hl (by decide) rfl (fun ls hl => ?_)
  exact w_M_X6_goesBy_b7 X K _ _ _ _ ls _ _ O (lv_sub hl [2, 1, 0] rfl) hf
theorem hdV_X6_goesBy : yX6_goesBy.cls = RX6 ∧ (yX6_goesBy.cls ≠ "java/lang/invoke/MethodHandle" ∧ yX6_goesBy.cls ≠ "java/lang/invoke/VarHandle" ∧ (parseMethodDescriptor yX6_goesBy.desc).map (fun d => d.parameters.length) = some 0) := by decide +kernel
def M_X6_years_b37 : Nat → ST → Int32 → Int32 → Int32 → Option (ST × Int32)
  | 0, _, _, _, _ => none
  | n + 1, σ, x1, x2, x3 =>
    (if x1 ≤ x3 then some (σ, ((gI σ 99 0 0 4) - x2)) else bn1 (M_X6_goesBy σ) (fun σ_2 => lt1 (x3 + 1) (fun x3_3 => (M_X6_years_b37 n) σ_2 x1 x2 x3_3)))
theorem w_M_X6_years_b37 (X : FX p m c meth s args RX6 cX6_years 4 (some .int)) (K : XK D d A s) {z : ST × Int32} : ∀ (n : Nat) (σ : ST) (x1 : Int32) (x2 : Int32) (x3 : Int32) (ls : Array Slot) (H : Heap) (locs : List Loc), XH D A s.heap h (xct LM okM h d σ) H locs → lv_has ls 4 [(0, .ref (h 99 0 0)), (1, .int x1), (2, .int x2), (3, .int x3)] → M_X6_years_b37 n σ x1 x2 x3 = some z → W p l e (rmD 7 0 0) s m args below meth c H locs 0 0 (MQ below (Qi D (pz z) (cw h LM okM d) A) args s 0 0 A) (F0 m 37 ls []) := by
  have hx := X.1.1; have hb := X.1.2.1
  intro n
  induction n with
  | zero =>
    intro σ x1 x2 x3 ls H locs O hl hf
    exact absurd hf (fun q => by cases q)
  | succ n ih =>
    intro σ x1 x2 x3 ls H locs O hl hf
    rw [M_X6_years_b37] at hf
    refine lv_iload_n hx hb dX6_years_37 rfl (lv_at hl 3 rfl) ?_
    refine lv_iload_n hx hb dX6_years_38 rfl (lv_at hl 1 rfl) ?_
    refine lv_icmp_ge (tgt := 52) hx hb dX6_years_39 (by decide) (fun c_1 => ?_) (fun c_1 => ?_)
    · replace hf := if_t c_1 hf
      refine lv_aload_n hx hb dX6_years_52 rfl (lv_at hl 0 rfl) ?_
      refine x_gI X K O 4 rfl LM_99 rfl rfl in_X6 (by decide) q1154 dX6_years_53 ?_
      refine lv_iload_n hx hb dX6_years_56 rfl (lv_at hl 2 rfl) ?_
      refine lv_isub hx hb dX6_years_57 ?_
      exact x_iret X O rfl _ (Option.some.inj hf).symm rfl dX6_years_58
    · replace hf := if_f c_1 hf
      refine lv_aload_n hx hb dX6_years_42 rfl (lv_at hl 0 rfl) ?_
      obtain ⟨σ_2, hg, hf⟩ := bn1_s hf
      refine x_callv (x_runV (As := []) (rest := []) X K O (xct_obj rfl LM_99) rfl (m_M_X6_goesBy hg) EN_b EN_h (lw_V q1526 q1528 qs83 q124 q1529) 0 rfl hl.1 (Nat.le_of_ble_eq_true rfl) hdV_X6_goesBy ⟨by decide, by decide⟩ ⟨Nat.le_refl _, Nat.le_refl _⟩ dX6_years_43) (fun u H locs hp O _ => ?_)
      cases hp
      have O : XH D A s.heap h (xct LM okM h d σ_2) H locs := O
      obtain ⟨x3_3, ex3_3, hf⟩ := lt1_s hf
      refine lv_iinc (v := x3_3) (lv' := [(3, .int x3_3), (0, .ref (h 99 0 0)), (1, .int x1), (2, .int x2)]) hx hb dX6_years_46 hl (k := 3) rfl (by rw [ex3_3]; rfl) (by decide) rfl (fun ls hl => ?_)
      refine lv_goto (tgt := 37) hx hb dX6_years_49 (by decide) ?_
      exact ih _ _ _ _ ls _ _ O (lv_sub hl [1, 2, 3, 0] rfl) hf
def M_X6_years (σ : ST) (p1 : Int32) : Option (ST × Int32) :=
  lt1 (sI σ 99 0 0 0 0) (fun σ_1 => bn2 (M_X6_isIn σ_1 p1 1 60) (fun σ_2 r_3 => (if r_3 = 0 then some (σ_2, (-1)) else (if ((gI σ_2 99 0 0 3) + p1) ≤ 999 then lt1 (gI σ_2 99 0 0 4) (fun x2_6 => M_X6_years_b37 FUEL σ_2 p1 x2_6 0) else some (σ_2, (-1))))))
theorem m_M_X6_years {l : Launch} {D : va_G} {d : Nat → ClassId} {h : IX} {p1 : Int32} {σ : ST} {z : ST × Int32} (hf : M_X6_years σ p1 = some z) : XM l D d EN yX6_years cX6_years 4 (some .int) 7 0 0 [.ref (h 99 0 0), .int p1] h (xct LM okM h d σ) (Qi D (pz z) (cw h LM okM d)) := by
  refine XM.of (by decide +kernel) (Nat.le_of_ble_eq_true rfl) ?_
  intro p e s m below meth c A ls X _ K _ O hl
  have hl : lv_has ls 4 [(0, .ref (h 99 0 0)), (1, .int p1)] := hl
  have hx := X.1.1; have hb := X.1.2.1
  rw [M_X6_years] at hf
  refine lv_aload_n hx hb dX6_years_0 rfl (lv_at hl 0 rfl) ?_
  refine lv_iconst (v := 0) hx hb dX6_years_1 (by decide) ?_
  obtain ⟨σ_1, eσ_1, hf⟩ := lt1_s hf
  refine x_pI X K O 0 rfl LM_99 rfl rfl in_X6 tyX6_ok nmX6 (by decide) q1150 rfl rfl rfl dX6_years_2 (fun H locs O => ?_)
  rw [← eσ_1] at O
  refine lv_aload_n hx hb dX6_years_5 rfl (lv_at hl 0 rfl) ?_
  refine lv_iload_n hx hb dX6_years_6 rfl (lv_at hl 1 rfl) ?_
  refine lv_iconst (v := 1) hx hb dX6_years_7 (by decide) ?_
  refine lv_bipush (v := 60) hx hb dX6_years_8 (by decide) ?_
  obtain ⟨σ_2, r_3, hg, hf⟩ := bn2_s hf
  refine x_calli (x_runV (As := [.int p1, .int 1, .int 60]) (rest := []) X K O (xct_obj rfl LM_99) rfl (m_M_X6_isIn hg) EN_b EN_h (lw_V q1327 q1329 qs45 q124 q1330) 3 rfl hl.1 (Nat.le_of_ble_eq_true rfl) hdV_X6_isIn ⟨by decide, by decide⟩ ⟨Nat.le_refl _, Nat.le_refl _⟩ dX6_years_10) (fun r u H locs hp O _ => ?_)
  cases hp
  have O : XH D A s.heap h (xct LM okM h d σ_2) H locs := O
  refine lv_if_eq (tgt := 28) hx hb dX6_years_13 (by decide) (fun c_4 => ?_) (fun c_4 => ?_)
  · replace hf := if_t c_4 hf
    refine lv_iconst (v := (-1)) hx hb dX6_years_28 (by decide) ?_
    exact x_iret X O rfl _ (Option.some.inj hf).symm rfl dX6_years_29
  · replace hf := if_f c_4 hf
    refine lv_aload_n hx hb dX6_years_16 rfl (lv_at hl 0 rfl) ?_
    refine x_gI X K O 3 rfl LM_99 rfl rfl in_X6 (by decide) q1153 dX6_years_17 ?_
    refine lv_iload_n hx hb dX6_years_20 rfl (lv_at hl 1 rfl) ?_
    refine lv_iadd hx hb dX6_years_21 ?_
    refine lv_sipush (v := 999) hx hb dX6_years_22 (by decide) ?_
    refine lv_icmp_le (tgt := 30) hx hb dX6_years_25 (by decide) (fun c_5 => ?_) (fun c_5 => ?_)
    · replace hf := if_t c_5 hf
      refine lv_aload_n hx hb dX6_years_30 rfl (lv_at hl 0 rfl) ?_
      refine x_gI X K O 4 rfl LM_99 rfl rfl in_X6 (by decide) q1154 dX6_years_31 ?_
      obtain ⟨x2_6, ex2_6, hf⟩ := lt1_s hf
      refine x_top (w := .int x2_6) (by rw [ex2_6]) ?_
      refine lv_istore_n (lv' := [(2, .int x2_6), (0, .ref (h 99 0 0)), (1, .int p1)]) hx hb dX6_years_34 rfl hl (by decide) rfl (fun ls hl => ?_)
      refine lv_iconst (v := 0) hx hb dX6_years_35 (by decide) ?_
      refine lv_istore_n (lv' := [(3, .int 0), (2, .int x2_6), (0, .ref (h 99 0 0)), (1, .int p1)]) hx hb dX6_years_36 rfl hl (by decide) rfl (fun ls hl => ?_)
      exact w_M_X6_years_b37 X K _ _ _ _ _ ls _ _ O (lv_sub hl [2, 3, 1, 0] rfl) hf
    · replace hf := if_f c_5 hf
      refine lv_iconst (v := (-1)) hx hb dX6_years_28 (by decide) ?_
      exact x_iret X O rfl _ (Option.some.inj hf).symm rfl dX6_years_29
def M_X6_keeping_b34 (σ : ST) (s0 : Int64) (s1 : Int64) (s3 : Int32) : Option (ST × Int64) :=
  ck (okI s3 25) (some (σ, (s0 + ((s1 * (gL σ 34 0 0 (Int32.toNatClampNeg s3))) / 1000))))
theorem w_M_X6_keeping_b34 (X : FX p m c meth s args RX6 cX6_keeping 4 (some .long)) (K : XK D d A s) {z : ST × Int64} (σ : ST) (s0 : Int64) (s1 : Int64) (s3 : Int32) (ls : Array Slot) (H : Heap) (locs : List Loc) (O : XH D A s.heap h (xct LM okM h d σ) H locs) (hl : lv_has ls 4 []) (hf : M_X6_keeping_b34 σ s0 s1 s3 = some z) : W p l e (rmD 0 0 0) s m args below meth c H locs 0 0 (MQ below (Ql D (pz z) (cw h LM okM d) A) args s 0 0 A) (F0 m 34 ls [.int s3, .ref (h 34 0 0), .long s1, .long s0]) := by
  have hx := X.1.1; have hb := X.1.2.1
  rw [M_X6_keeping_b34] at hf
  obtain ⟨c_1, hf⟩ := ck_s hf
  refine x_lld X K O rfl LM_34 c_1 (j := (Int32.toNatClampNeg s3)) rfl dX6_keeping_34 ?_
  refine lv_lmul hx hb dX6_keeping_35 ?_
  refine lv_ldc2 (v := 1000) hx hb X.1.2.2.2.1 (X.1.2.2.2.2 _ q1555) dX6_keeping_36 ?_
  refine lv_ldiv hx hb dX6_keeping_39 (by decide) ?_
  refine lv_ladd hx hb dX6_keeping_40 ?_
  exact x_lret X O rfl _ (Option.some.inj hf).symm rfl dX6_keeping_41
def M_X6_keeping (σ : ST) (p1 : Int32) (p2 : Int32) (p3 : Int32) : Option (ST × Int64) :=
  (if 24 ≤ p1 then M_X6_keeping_b34 σ ((1000 * (Int32.toInt64 (gI σ 6 0 0 0))) * (p2.toInt64)) (p3.toInt64) 24 else M_X6_keeping_b34 σ ((1000 * (Int32.toInt64 (gI σ 6 0 0 0))) * (p2.toInt64)) (p3.toInt64) (p1 + 1))
theorem m_M_X6_keeping {l : Launch} {D : va_G} {d : Nat → ClassId} {h : IX} {p1 : Int32} {p2 : Int32} {p3 : Int32} {σ : ST} {z : ST × Int64} (hf : M_X6_keeping σ p1 p2 p3 = some z) : XM l D d EN yX6_keeping cX6_keeping 4 (some .long) 0 0 0 [.ref (h 99 0 0), .int p1, .int p2, .int p3] h (xct LM okM h d σ) (Ql D (pz z) (cw h LM okM d)) := by
  refine XM.of (by decide +kernel) (Nat.le_of_ble_eq_true rfl) ?_
  intro p e s m below meth c A ls X _ K _ O hl
  have hl : lv_has ls 4 [(0, .ref (h 99 0 0)), (1, .int p1), (2, .int p2), (3, .int p3)] := hl
  have hx := X.1.1; have hb := X.1.2.1
  rw [M_X6_keeping] at hf
  refine lv_ldc2 (v := 1000) hx hb X.1.2.2.2.1 (X.1.2.2.2.2 _ q1555) dX6_keeping_0 ?_
  refine lv_aload_n hx hb dX6_keeping_3 rfl (lv_at hl 0 rfl) ?_
  refine x_gF X K O 6 rfl LM_99 rfl rfl in_X6 (by decide) q1156 dX6_keeping_4 ?_
  refine lv_iconst (v := 0) hx hb dX6_keeping_7 (by decide) ?_
  refine x_ild X K O rfl LM_6 (by decide) (j := 0) rfl dX6_keeping_8 ?_
  refine lv_i2l (v := (Int32.toInt64 (gI σ 6 0 0 0))) hx hb dX6_keeping_9 rfl ?_
  refine lv_lmul hx hb dX6_keeping_10 ?_
  refine lv_iload_n hx hb dX6_keeping_11 rfl (lv_at hl 2 rfl) ?_
  refine lv_i2l (v := (p2.toInt64)) hx hb dX6_keeping_12 rfl ?_
  refine lv_lmul hx hb dX6_keeping_13 ?_
  refine lv_iload_n hx hb dX6_keeping_14 rfl (lv_at hl 3 rfl) ?_
  refine lv_i2l (v := (p3.toInt64)) hx hb dX6_keeping_15 rfl ?_
  refine lv_aload_n hx hb dX6_keeping_16 rfl (lv_at hl 0 rfl) ?_
  refine x_gF X K O 34 rfl LM_99 rfl rfl in_X6 (by decide) q1184 dX6_keeping_17 ?_
  refine lv_iload_n hx hb dX6_keeping_20 rfl (lv_at hl 1 rfl) ?_
  refine lv_bipush (v := 24) hx hb dX6_keeping_21 (by decide) ?_
  refine lv_icmp_ge (tgt := 32) hx hb dX6_keeping_23 (by decide) (fun c_1 => ?_) (fun c_1 => ?_)
  · replace hf := if_t c_1 hf
    refine lv_bipush (v := 24) hx hb dX6_keeping_32 (by decide) ?_
    exact w_M_X6_keeping_b34 X K _ _ _ _ ls _ _ O (lv_sub hl [] rfl) hf
  · replace hf := if_f c_1 hf
    refine lv_iload_n hx hb dX6_keeping_26 rfl (lv_at hl 1 rfl) ?_
    refine lv_iconst (v := 1) hx hb dX6_keeping_27 (by decide) ?_
    refine lv_iadd hx hb dX6_keeping_28 ?_
    refine lv_goto (tgt := 34) hx hb dX6_keeping_29 (by decide) ?_
    exact w_M_X6_keeping_b34 X K _ _ _ _ ls _ _ O (lv_sub hl [] rfl) hf
def M_X6_breaking (σ : ST) (p1 : Int32) (p2 : Int32) (p3 : Int32) (p4 : Int32) : Option (ST × Int64) :=
  ck (okI (p1 - p2) 25) (some (σ, (((1000 * (Int32.toInt64 (gI σ 6 0 0 1))) * (p3.toInt64)) + (((p4.toInt64) * (gL σ 34 0 0 (Int32.toNatClampNeg (p1 - p2)))) / 1000))))
theorem m_M_X6_breaking {l : Launch} {D : va_G} {d : Nat → ClassId} {h : IX} {p1 : Int32} {p2 : Int32} {p3 : Int32} {p4 : Int32} {σ : ST} {z : ST × Int64} (hf : M_X6_breaking σ p1 p2 p3 p4 = some z) : XM l D d EN yX6_breaking cX6_breaking 5 (some .long) 0 0 0 [.ref (h 99 0 0), .int p1, .int p2, .int p3, .int p4] h (xct LM okM h d σ) (Ql D (pz z) (cw h LM okM d)) := by
  refine XM.of (by decide +kernel) (Nat.le_of_ble_eq_true rfl) ?_
  intro p e s m below meth c A ls X _ K _ O hl
  have hl : lv_has ls 5 [(0, .ref (h 99 0 0)), (1, .int p1), (2, .int p2), (3, .int p3), (4, .int p4)] := hl
  have hx := X.1.1; have hb := X.1.2.1
  rw [M_X6_breaking] at hf
  refine lv_ldc2 (v := 1000) hx hb X.1.2.2.2.1 (X.1.2.2.2.2 _ q1555) dX6_breaking_0 ?_
  refine lv_aload_n hx hb dX6_breaking_3 rfl (lv_at hl 0 rfl) ?_
  refine x_gF X K O 6 rfl LM_99 rfl rfl in_X6 (by decide) q1156 dX6_breaking_4 ?_
  refine lv_iconst (v := 1) hx hb dX6_breaking_7 (by decide) ?_
  refine x_ild X K O rfl LM_6 (by decide) (j := 1) rfl dX6_breaking_8 ?_
  refine lv_i2l (v := (Int32.toInt64 (gI σ 6 0 0 1))) hx hb dX6_breaking_9 rfl ?_
  refine lv_lmul hx hb dX6_breaking_10 ?_
  refine lv_iload_n hx hb dX6_breaking_11 rfl (lv_at hl 3 rfl) ?_
  refine lv_i2l (v := (p3.toInt64)) hx hb dX6_breaking_12 rfl ?_
  refine lv_lmul hx hb dX6_breaking_13 ?_
  refine lv_iload hx hb dX6_breaking_14 (lv_at hl 4 rfl) ?_
  refine lv_i2l (v := (p4.toInt64)) hx hb dX6_breaking_16 rfl ?_
  refine lv_aload_n hx hb dX6_breaking_17 rfl (lv_at hl 0 rfl) ?_
  refine x_gF X K O 34 rfl LM_99 rfl rfl in_X6 (by decide) q1184 dX6_breaking_18 ?_
  refine lv_iload_n hx hb dX6_breaking_21 rfl (lv_at hl 1 rfl) ?_
  refine lv_iload_n hx hb dX6_breaking_22 rfl (lv_at hl 2 rfl) ?_
  refine lv_isub hx hb dX6_breaking_23 ?_
  obtain ⟨c_1, hf⟩ := ck_s hf
  refine x_lld X K O rfl LM_34 c_1 (j := (Int32.toNatClampNeg (p1 - p2))) rfl dX6_breaking_24 ?_
  refine lv_lmul hx hb dX6_breaking_25 ?_
  refine lv_ldc2 (v := 1000) hx hb X.1.2.2.2.1 (X.1.2.2.2.2 _ q1555) dX6_breaking_26 ?_
  refine lv_ldiv hx hb dX6_breaking_29 (by decide) ?_
  refine lv_ladd hx hb dX6_breaking_30 ?_
  exact x_lret X O rfl _ (Option.some.inj hf).symm rfl dX6_breaking_31
theorem hdV_X6_breaking : yX6_breaking.cls = RX6 ∧ (yX6_breaking.cls ≠ "java/lang/invoke/MethodHandle" ∧ yX6_breaking.cls ≠ "java/lang/invoke/VarHandle" ∧ (parseMethodDescriptor yX6_breaking.desc).map (fun d => d.parameters.length) = some 4) := by decide +kernel
theorem hdV_X6_keeping : yX6_keeping.cls = RX6 ∧ (yX6_keeping.cls ≠ "java/lang/invoke/MethodHandle" ∧ yX6_keeping.cls ≠ "java/lang/invoke/VarHandle" ∧ (parseMethodDescriptor yX6_keeping.desc).map (fun d => d.parameters.length) = some 3) := by decide +kernel
def M_X6_dealsLess_b109 : Nat → ST → Int32 → Option (ST)
  | 0, _, _ => none
  | n + 1, σ, x3 =>
    (if 24 < x3 then some σ else ck (okI x3 25) (ck (okI x3 25) (lt1 (sL σ 34 0 0 (Int32.toNatClampNeg x3) (gL σ 35 0 0 (Int32.toNatClampNeg x3))) (fun σ_4 => lt1 (x3 + 1) (fun x3_5 => (M_X6_dealsLess_b109 n) σ_4 x3_5)))))
theorem w_M_X6_dealsLess_b109 (X : FX p m c meth s args RX6 cX6_dealsLess 9 none) (K : XK D d A s) {z : ST} : ∀ (n : Nat) (σ : ST) (x3 : Int32) (ls : Array Slot) (H : Heap) (locs : List Loc), XH D A s.heap h (xct LM okM h d σ) H locs → lv_has ls 9 [(0, .ref (h 99 0 0)), (3, .int x3)] → M_X6_dealsLess_b109 n σ x3 = some z → W p l e (rmD 1 0 0) s m args below meth c H locs 0 0 (MQ below (Qv D (pu z) (cw h LM okM d) A) args s 0 0 A) (F0 m 109 ls []) := by
  have hx := X.1.1; have hb := X.1.2.1
  intro n
  induction n with
  | zero =>
    intro σ x3 ls H locs O hl hf
    exact absurd hf (fun q => by cases q)
  | succ n ih =>
    intro σ x3 ls H locs O hl hf
    rw [M_X6_dealsLess_b109] at hf
    refine lv_iload_n hx hb dX6_dealsLess_109 rfl (lv_at hl 1 rfl) ?_
    refine lv_bipush (v := 24) hx hb dX6_dealsLess_110 (by decide) ?_
    refine lv_icmp_gt (tgt := 133) hx hb dX6_dealsLess_112 (by decide) (fun c_1 => ?_) (fun c_1 => ?_)
    · replace hf := if_t c_1 hf
      exact x_vret X O rfl _ (Option.some.inj hf).symm rfl dX6_dealsLess_133
    · replace hf := if_f c_1 hf
      refine lv_aload_n hx hb dX6_dealsLess_115 rfl (lv_at hl 0 rfl) ?_
      refine x_gF X K O 34 rfl LM_99 rfl rfl in_X6 (by decide) q1184 dX6_dealsLess_116 ?_
      refine lv_iload_n hx hb dX6_dealsLess_119 rfl (lv_at hl 1 rfl) ?_
      refine lv_aload_n hx hb dX6_dealsLess_120 rfl (lv_at hl 0 rfl) ?_
      refine x_gF X K O 35 rfl LM_99 rfl rfl in_X6 (by decide) q1185 dX6_dealsLess_121 ?_
      refine lv_iload_n hx hb dX6_dealsLess_124 rfl (lv_at hl 1 rfl) ?_
      obtain ⟨c_2, hf⟩ := ck_s hf
      refine x_lld X K O rfl LM_35 c_2 (j := (Int32.toNatClampNeg x3)) rfl dX6_dealsLess_125 ?_
      obtain ⟨c_3, hf⟩ := ck_s hf
      obtain ⟨σ_4, eσ_4, hf⟩ := lt1_s hf
      refine x_lst X K O rfl LM_34 c_3 (j := (Int32.toNatClampNeg x3)) rfl dX6_dealsLess_126 (fun H locs O => ?_)
      rw [← eσ_4] at O
      obtain ⟨x3_5, ex3_5, hf⟩ := lt1_s hf
      refine lv_iinc (v := x3_5) (lv' := [(3, .int x3_5), (0, .ref (h 99 0 0))]) hx hb dX6_dealsLess_127 hl (k := 1) rfl (by rw [ex3_5]; rfl) (by decide) rfl (fun ls hl => ?_)
      refine lv_goto (tgt := 109) hx hb dX6_dealsLess_130 (by decide) ?_
      exact ih _ _ ls _ _ O (lv_sub hl [1, 0] rfl) hf
def M_X6_dealsLess_b62 (kb2 : ST → Int32 → Int32 → Int32 → Option (ST)) (kb14 : ST → Int32 → Int32 → Int32 → Int64 → Int32 → Option (ST)) (σ : ST) (x1 : Int32) (x2 : Int32) (x3 : Int32) (x4 : Int64) (x6 : Int32) (x7 : Int64) : Option (ST) :=
  ck (okI (10 + x6) 23) (lt1 (x4 + ((Int32.toInt64 (gI σ 6 0 0 (Int32.toNatClampNeg (10 + x6)))) * x7)) (fun x4_2 => lt1 (x6 + 1) (fun x6_3 => kb14 σ x1 x2 x3 x4_2 x6_3)))
theorem w_M_X6_dealsLess_b62 (X : FX p m c meth s args RX6 cX6_dealsLess 9 none) (K : XK D d A s) {z : ST} {kb2 : ST → Int32 → Int32 → Int32 → Option (ST)} (hkb2 : ∀ (σ : ST) (x1 : Int32) (x2 : Int32) (x3 : Int32) (ls : Array Slot) (H : Heap) (locs : List Loc), XH D A s.heap h (xct LM okM h d σ) H locs → lv_has ls 9 [(0, .ref (h 99 0 0)), (1, .int x1), (2, .int x2), (3, .int x3)] → kb2 σ x1 x2 x3 = some z → W p l e (rmD 1 0 0) s m args below meth c H locs 0 0 (MQ below (Qv D (pu z) (cw h LM okM d) A) args s 0 0 A) (F0 m 2 ls [])) {kb14 : ST → Int32 → Int32 → Int32 → Int64 → Int32 → Option (ST)} (hkb14 : ∀ (σ : ST) (x1 : Int32) (x2 : Int32) (x3 : Int32) (x4 : Int64) (x6 : Int32) (ls : Array Slot) (H : Heap) (locs : List Loc), XH D A s.heap h (xct LM okM h d σ) H locs → lv_has ls 9 [(0, .ref (h 99 0 0)), (1, .int x1), (2, .int x2), (3, .int x3), (4, .long x4), (6, .int x6)] → kb14 σ x1 x2 x3 x4 x6 = some z → W p l e (rmD 1 0 0) s m args below meth c H locs 0 0 (MQ below (Qv D (pu z) (cw h LM okM d) A) args s 0 0 A) (F0 m 14 ls [])) (σ : ST) (x1 : Int32) (x2 : Int32) (x3 : Int32) (x4 : Int64) (x6 : Int32) (x7 : Int64) (ls : Array Slot) (H : Heap) (locs : List Loc) (O : XH D A s.heap h (xct LM okM h d σ) H locs) (hl : lv_has ls 9 [(0, .ref (h 99 0 0)), (1, .int x1), (2, .int x2), (3, .int x3), (4, .long x4), (6, .int x6), (7, .long x7)]) (hf : M_X6_dealsLess_b62 kb2 kb14 σ x1 x2 x3 x4 x6 x7 = some z) : W p l e (rmD 1 0 0) s m args below meth c H locs 0 0 (MQ below (Qv D (pu z) (cw h LM okM d) A) args s 0 0 A) (F0 m 62 ls []) := by
  have hx := X.1.1; have hb := X.1.2.1
  rw [M_X6_dealsLess_b62] at hf
  refine lv_lload hx hb dX6_dealsLess_62 (lv_at hl 4 rfl) ?_
  refine lv_aload_n hx hb dX6_dealsLess_64 rfl (lv_at hl 0 rfl) ?_
  refine x_gF X K O 6 rfl LM_99 rfl rfl in_X6 (by decide) q1156 dX6_dealsLess_65 ?_
  refine lv_bipush (v := 10) hx hb dX6_dealsLess_68 (by decide) ?_
  refine lv_iload hx hb dX6_dealsLess_70 (lv_at hl 5 rfl) ?_
  refine lv_iadd hx hb dX6_dealsLess_72 ?_
  obtain ⟨c_1, hf⟩ := ck_s hf
  refine x_ild X K O rfl LM_6 c_1 (j := (Int32.toNatClampNeg (10 + x6))) rfl dX6_dealsLess_73 ?_
  refine lv_i2l (v := (Int32.toInt64 (gI σ 6 0 0 (Int32.toNatClampNeg (10 + x6))))) hx hb dX6_dealsLess_74 rfl ?_
  refine lv_lload hx hb dX6_dealsLess_75 (lv_at hl 6 rfl) ?_
  refine lv_lmul hx hb dX6_dealsLess_77 ?_
  refine lv_ladd hx hb dX6_dealsLess_78 ?_
  obtain ⟨x4_2, ex4_2, hf⟩ := lt1_s hf
  refine x_top (w := .long x4_2) (by rw [ex4_2]) ?_
  refine lv_lstore (lv' := [(4, .long x4_2), (0, .ref (h 99 0 0)), (1, .int x1), (2, .int x2), (3, .int x3), (6, .int x6), (7, .long x7)]) hx hb dX6_dealsLess_79 hl (by decide) rfl (fun ls hl => ?_)
  obtain ⟨x6_3, ex6_3, hf⟩ := lt1_s hf
  refine lv_iinc (v := x6_3) (lv' := [(6, .int x6_3), (4, .long x4_2), (0, .ref (h 99 0 0)), (1, .int x1), (2, .int x2), (3, .int x3), (7, .long x7)]) hx hb dX6_dealsLess_81 hl (k := 5) rfl (by rw [ex6_3]; rfl) (by decide) rfl (fun ls hl => ?_)
  refine lv_goto (tgt := 14) hx hb dX6_dealsLess_84 (by decide) ?_
  exact hkb14 _ _ _ _ _ _ ls _ _ O (lv_sub hl [2, 3, 4, 5, 1, 0] rfl) hf
def M_X6_dealsLess_b14 (kb2 : ST → Int32 → Int32 → Int32 → Option (ST)) : Nat → ST → Int32 → Int32 → Int32 → Int64 → Int32 → Option (ST)
  | 0, _, _, _, _, _, _ => none
  | n + 1, σ, x1, x2, x3, x4, x6 =>
    (if 12 < x6 then bn2 (M_X6_weights σ) (fun σ_2 r_3 => ck (decide (¬ (r_3.toInt64) = 0)) (ck (okI x3 25) (lt1 (sL σ_2 35 0 0 (Int32.toNatClampNeg x3) (x4 / (r_3.toInt64))) (fun σ_6 => lt1 (x3 + 1) (fun x3_7 => kb2 σ_6 x1 x2 x3_7))))) else bn2 (M_X6_keeping σ x3 x6 x2) (fun σ_8 r_9 => (if x3 < x1 then M_X6_dealsLess_b62 kb2 (M_X6_dealsLess_b14 kb2 n) σ_8 x1 x2 x3 x4 x6 r_9 else bn2 (M_X6_breaking σ_8 x3 x1 x6 x2) (fun σ_11 r_12 => (if (lg_cmp r_12 r_9) ≤ 0 then M_X6_dealsLess_b62 kb2 (M_X6_dealsLess_b14 kb2 n) σ_11 x1 x2 x3 x4 x6 r_9 else bn2 (M_X6_breaking σ_11 x3 x1 x6 x2) (fun σ_14 r_15 => M_X6_dealsLess_b62 kb2 (M_X6_dealsLess_b14 kb2 n) σ_14 x1 x2 x3 x4 x6 r_15))))))
theorem w_M_X6_dealsLess_b14 (X : FX p m c meth s args RX6 cX6_dealsLess 9 none) (K : XK D d A s) {z : ST} {kb2 : ST → Int32 → Int32 → Int32 → Option (ST)} (hkb2 : ∀ (σ : ST) (x1 : Int32) (x2 : Int32) (x3 : Int32) (ls : Array Slot) (H : Heap) (locs : List Loc), XH D A s.heap h (xct LM okM h d σ) H locs → lv_has ls 9 [(0, .ref (h 99 0 0)), (1, .int x1), (2, .int x2), (3, .int x3)] → kb2 σ x1 x2 x3 = some z → W p l e (rmD 1 0 0) s m args below meth c H locs 0 0 (MQ below (Qv D (pu z) (cw h LM okM d) A) args s 0 0 A) (F0 m 2 ls [])) : ∀ (n : Nat) (σ : ST) (x1 : Int32) (x2 : Int32) (x3 : Int32) (x4 : Int64) (x6 : Int32) (ls : Array Slot) (H : Heap) (locs : List Loc), XH D A s.heap h (xct LM okM h d σ) H locs → lv_has ls 9 [(0, .ref (h 99 0 0)), (1, .int x1), (2, .int x2), (3, .int x3), (4, .long x4), (6, .int x6)] → M_X6_dealsLess_b14 kb2 n σ x1 x2 x3 x4 x6 = some z → W p l e (rmD 1 0 0) s m args below meth c H locs 0 0 (MQ below (Qv D (pu z) (cw h LM okM d) A) args s 0 0 A) (F0 m 14 ls []) := by
  have hx := X.1.1; have hb := X.1.2.1
  intro n
  induction n with
  | zero =>
    intro σ x1 x2 x3 x4 x6 ls H locs O hl hf
    exact absurd hf (fun q => by cases q)
  | succ n ih =>
    intro σ x1 x2 x3 x4 x6 ls H locs O hl hf
    rw [M_X6_dealsLess_b14] at hf
    refine lv_iload hx hb dX6_dealsLess_14 (lv_at hl 5 rfl) ?_
    refine lv_bipush (v := 12) hx hb dX6_dealsLess_16 (by decide) ?_
    refine lv_icmp_gt (tgt := 87) hx hb dX6_dealsLess_18 (by decide) (fun c_1 => ?_) (fun c_1 => ?_)
    · replace hf := if_t c_1 hf
      refine lv_aload_n hx hb dX6_dealsLess_87 rfl (lv_at hl 0 rfl) ?_
      refine x_gF X K O 35 rfl LM_99 rfl rfl in_X6 (by decide) q1185 dX6_dealsLess_88 ?_
      refine lv_iload_n hx hb dX6_dealsLess_91 rfl (lv_at hl 3 rfl) ?_
      refine lv_lload hx hb dX6_dealsLess_92 (lv_at hl 4 rfl) ?_
      refine lv_aload_n hx hb dX6_dealsLess_94 rfl (lv_at hl 0 rfl) ?_
      obtain ⟨σ_2, r_3, hg, hf⟩ := bn2_s hf
      refine x_calli (x_runV (As := []) (rest := [.long x4, .int x3, .ref (h 35 0 0)]) X K O (xct_obj rfl LM_99) rfl (m_M_X6_weights hg) EN_b EN_h (lw_V q1530 q1532 qs84 q124 q1533) 0 rfl hl.1 (Nat.le_of_ble_eq_true rfl) hdV_X6_weights ⟨by decide, by decide⟩ ⟨Nat.le_refl _, Nat.le_refl _⟩ dX6_dealsLess_95) (fun r u H locs hp O _ => ?_)
      cases hp
      have O : XH D A s.heap h (xct LM okM h d σ_2) H locs := O
      refine lv_i2l (v := (r_3.toInt64)) hx hb dX6_dealsLess_98 rfl ?_
      obtain ⟨c_4, hf⟩ := ck_s hf
      refine lv_ldiv hx hb dX6_dealsLess_99 (of_decide_eq_true c_4) ?_
      obtain ⟨c_5, hf⟩ := ck_s hf
      obtain ⟨σ_6, eσ_6, hf⟩ := lt1_s hf
      refine x_lst X K O rfl LM_35 c_5 (j := (Int32.toNatClampNeg x3)) rfl dX6_dealsLess_100 (fun H locs O => ?_)
      rw [← eσ_6] at O
      obtain ⟨x3_7, ex3_7, hf⟩ := lt1_s hf
      refine lv_iinc (v := x3_7) (lv' := [(3, .int x3_7), (0, .ref (h 99 0 0)), (1, .int x1), (2, .int x2), (4, .long x4), (6, .int x6)]) hx hb dX6_dealsLess_101 hl (k := 3) rfl (by rw [ex3_7]; rfl) (by decide) rfl (fun ls hl => ?_)
      refine lv_goto (tgt := 2) hx hb dX6_dealsLess_104 (by decide) ?_
      exact hkb2 _ _ _ _ ls _ _ O (lv_sub hl [1, 2, 3, 0] rfl) hf
    · replace hf := if_f c_1 hf
      refine lv_aload_n hx hb dX6_dealsLess_21 rfl (lv_at hl 0 rfl) ?_
      refine lv_iload_n hx hb dX6_dealsLess_22 rfl (lv_at hl 3 rfl) ?_
      refine lv_iload hx hb dX6_dealsLess_23 (lv_at hl 5 rfl) ?_
      refine lv_iload_n hx hb dX6_dealsLess_25 rfl (lv_at hl 2 rfl) ?_
      obtain ⟨σ_8, r_9, hg, hf⟩ := bn2_s hf
      refine x_calll (x_runV (As := [.int x3, .int x6, .int x2]) (rest := []) X K O (xct_obj rfl LM_99) rfl (m_M_X6_keeping hg) EN_b EN_h (lw_V q1551 q1553 qs88 q124 q1554) 3 rfl hl.1 (Nat.le_of_ble_eq_true rfl) hdV_X6_keeping ⟨by decide, by decide⟩ ⟨Nat.le_refl _, Nat.le_refl _⟩ dX6_dealsLess_26) (fun r u H locs hp O _ => ?_)
      cases hp
      have O : XH D A s.heap h (xct LM okM h d σ_8) H locs := O
      refine lv_lstore (lv' := [(7, .long r_9), (0, .ref (h 99 0 0)), (1, .int x1), (2, .int x2), (3, .int x3), (4, .long x4), (6, .int x6)]) hx hb dX6_dealsLess_29 hl (by decide) rfl (fun ls hl => ?_)
      refine lv_iload_n hx hb dX6_dealsLess_31 rfl (lv_at hl 4 rfl) ?_
      refine lv_iload_n hx hb dX6_dealsLess_32 rfl (lv_at hl 2 rfl) ?_
      refine lv_icmp_lt (tgt := 62) hx hb dX6_dealsLess_33 (by decide) (fun c_10 => ?_) (fun c_10 => ?_)
      · replace hf := if_t c_10 hf
        exact w_M_X6_dealsLess_b62 X K hkb2 ih _ _ _ _ _ _ _ ls _ _ O (lv_sub hl [1, 2, 3, 4, 5, 6, 0] rfl) hf
      · replace hf := if_f c_10 hf
        refine lv_aload_n hx hb dX6_dealsLess_36 rfl (lv_at hl 1 rfl) ?_
        refine lv_iload_n hx hb dX6_dealsLess_37 rfl (lv_at hl 4 rfl) ?_
        refine lv_iload_n hx hb dX6_dealsLess_38 rfl (lv_at hl 2 rfl) ?_
        refine lv_iload hx hb dX6_dealsLess_39 (lv_at hl 6 rfl) ?_
        refine lv_iload_n hx hb dX6_dealsLess_41 rfl (lv_at hl 3 rfl) ?_
        obtain ⟨σ_11, r_12, hg, hf⟩ := bn2_s hf
        refine x_calll (x_runV (As := [.int x3, .int x1, .int x6, .int x2]) (rest := []) X K O (xct_obj rfl LM_99) rfl (m_M_X6_breaking hg) EN_b EN_h (lw_V q1556 q1558 qs89 q124 q1559) 4 rfl hl.1 (Nat.le_of_ble_eq_true rfl) hdV_X6_breaking ⟨by decide, by decide⟩ ⟨Nat.le_refl _, Nat.le_refl _⟩ dX6_dealsLess_42) (fun r u H locs hp O _ => ?_)
        cases hp
        have O : XH D A s.heap h (xct LM okM h d σ_11) H locs := O
        refine lv_lload hx hb dX6_dealsLess_45 (lv_at hl 0 rfl) ?_
        refine W.lcmp hx hb dX6_dealsLess_47 ?_
        refine lv_if_le (tgt := 62) hx hb dX6_dealsLess_48 (by decide) (fun c_13 => ?_) (fun c_13 => ?_)
        · replace hf := if_t c_13 hf
          exact w_M_X6_dealsLess_b62 X K hkb2 ih _ _ _ _ _ _ _ ls _ _ O (lv_sub hl [1, 2, 3, 4, 5, 6, 0] rfl) hf
        · replace hf := if_f c_13 hf
          refine lv_aload_n hx hb dX6_dealsLess_51 rfl (lv_at hl 1 rfl) ?_
          refine lv_iload_n hx hb dX6_dealsLess_52 rfl (lv_at hl 4 rfl) ?_
          refine lv_iload_n hx hb dX6_dealsLess_53 rfl (lv_at hl 2 rfl) ?_
          refine lv_iload hx hb dX6_dealsLess_54 (lv_at hl 6 rfl) ?_
          refine lv_iload_n hx hb dX6_dealsLess_56 rfl (lv_at hl 3 rfl) ?_
          obtain ⟨σ_14, r_15, hg, hf⟩ := bn2_s hf
          refine x_calll (x_runV (As := [.int x3, .int x1, .int x6, .int x2]) (rest := []) X K O (xct_obj rfl LM_99) rfl (m_M_X6_breaking hg) EN_b EN_h (lw_V q1556 q1558 qs89 q124 q1559) 4 rfl hl.1 (Nat.le_of_ble_eq_true rfl) hdV_X6_breaking ⟨by decide, by decide⟩ ⟨Nat.le_refl _, Nat.le_refl _⟩ dX6_dealsLess_57) (fun r u H locs hp O _ => ?_)
          cases hp
          have O : XH D A s.heap h (xct LM okM h d σ_14) H locs := O
          refine lv_lstore (lv' := [(7, .long r_15), (0, .ref (h 99 0 0)), (1, .int x1), (2, .int x2), (3, .int x3), (4, .long x4), (6, .int x6)]) hx hb dX6_dealsLess_60 hl (by decide) rfl (fun ls hl => ?_)
          exact w_M_X6_dealsLess_b62 X K hkb2 ih _ _ _ _ _ _ _ ls _ _ O (lv_sub hl [1, 2, 3, 4, 5, 6, 0] rfl) hf
def M_X6_dealsLess_b2 : Nat → ST → Int32 → Int32 → Int32 → Option (ST)
  | 0, _, _, _, _ => none
  | n + 1, σ, x1, x2, x3 =>
    (if 24 < x3 then M_X6_dealsLess_b109 FUEL σ 0 else M_X6_dealsLess_b14 (M_X6_dealsLess_b2 n) FUEL σ x1 x2 x3 0 1)
theorem w_M_X6_dealsLess_b2 (X : FX p m c meth s args RX6 cX6_dealsLess 9 none) (K : XK D d A s) {z : ST} : ∀ (n : Nat) (σ : ST) (x1 : Int32) (x2 : Int32) (x3 : Int32) (ls : Array Slot) (H : Heap) (locs : List Loc), XH D A s.heap h (xct LM okM h d σ) H locs → lv_has ls 9 [(0, .ref (h 99 0 0)), (1, .int x1), (2, .int x2), (3, .int x3)] → M_X6_dealsLess_b2 n σ x1 x2 x3 = some z → W p l e (rmD 1 0 0) s m args below meth c H locs 0 0 (MQ below (Qv D (pu z) (cw h LM okM d) A) args s 0 0 A) (F0 m 2 ls []) := by
  have hx := X.1.1; have hb := X.1.2.1
  intro n
  induction n with
  | zero =>
    intro σ x1 x2 x3 ls H locs O hl hf
    exact absurd hf (fun q => by cases q)
  | succ n ih =>
    intro σ x1 x2 x3 ls H locs O hl hf
    rw [M_X6_dealsLess_b2] at hf
    refine lv_iload_n hx hb dX6_dealsLess_2 rfl (lv_at hl 3 rfl) ?_
    refine lv_bipush (v := 24) hx hb dX6_dealsLess_3 (by decide) ?_
    refine lv_icmp_gt (tgt := 107) hx hb dX6_dealsLess_5 (by decide) (fun c_1 => ?_) (fun c_1 => ?_)
    · replace hf := if_t c_1 hf
      refine lv_iconst (v := 0) hx hb dX6_dealsLess_107 (by decide) ?_
      refine lv_istore_n (lv' := [(3, .int 0), (0, .ref (h 99 0 0)), (1, .int x1), (2, .int x2)]) hx hb dX6_dealsLess_108 rfl hl (by decide) rfl (fun ls hl => ?_)
      exact w_M_X6_dealsLess_b109 X K _ _ _ ls _ _ O (lv_sub hl [1, 0] rfl) hf
    · replace hf := if_f c_1 hf
      refine lv_lconst (v := 0) hx hb dX6_dealsLess_8 (by decide) ?_
      refine lv_lstore (lv' := [(4, .long 0), (0, .ref (h 99 0 0)), (1, .int x1), (2, .int x2), (3, .int x3)]) hx hb dX6_dealsLess_9 hl (by decide) rfl (fun ls hl => ?_)
      refine lv_iconst (v := 1) hx hb dX6_dealsLess_11 (by decide) ?_
      refine lv_istore (lv' := [(6, .int 1), (4, .long 0), (0, .ref (h 99 0 0)), (1, .int x1), (2, .int x2), (3, .int x3)]) hx hb dX6_dealsLess_12 hl (by decide) rfl (fun ls hl => ?_)
      exact w_M_X6_dealsLess_b14 X K ih _ _ _ _ _ _ _ ls _ _ O (lv_sub hl [2, 3, 4, 5, 1, 0] rfl) hf
def M_X6_dealsLess (σ : ST) (p1 : Int32) (p2 : Int32) : Option (ST) :=
  M_X6_dealsLess_b2 FUEL σ p1 p2 0
theorem m_M_X6_dealsLess {l : Launch} {D : va_G} {d : Nat → ClassId} {h : IX} {p1 : Int32} {p2 : Int32} {σ : ST} {z : ST} (hf : M_X6_dealsLess σ p1 p2 = some z) : XM l D d EN yX6_dealsLess cX6_dealsLess 9 none 1 0 0 [.ref (h 99 0 0), .int p1, .int p2] h (xct LM okM h d σ) (Qv D (pu z) (cw h LM okM d)) := by
  refine XM.of (by decide +kernel) (Nat.le_of_ble_eq_true rfl) ?_
  intro p e s m below meth c A ls X _ K _ O hl
  have hl : lv_has ls 9 [(0, .ref (h 99 0 0)), (1, .int p1), (2, .int p2)] := hl
  have hx := X.1.1; have hb := X.1.2.1
  rw [M_X6_dealsLess] at hf
  refine lv_iconst (v := 0) hx hb dX6_dealsLess_0 (by decide) ?_
  refine lv_istore_n (lv' := [(3, .int 0), (0, .ref (h 99 0 0)), (1, .int p1), (2, .int p2)]) hx hb dX6_dealsLess_1 rfl hl (by decide) rfl (fun ls hl => ?_)
  exact w_M_X6_dealsLess_b2 X K _ _ _ _ _ ls _ _ O (lv_sub hl [1, 2, 3, 0] rfl) hf
end MW
