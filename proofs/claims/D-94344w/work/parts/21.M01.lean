section MW
variable {p : Program} {l : Launch} {e : Env} {s : State} {m : MethodId} {args : Array Value} {below : List Frame} {meth : Method} {c : Code} {D : va_G} {A : Nat → Prop} {h : IX} {d : Nat → ClassId}

def M_X6_state (σ : ST) (p1 : Int32) : Option (ST × Int32) :=
  lt1 (sI σ 99 0 0 0 0) (fun σ_1 => lt1 (gI σ_1 99 0 0 1) (fun x2_2 => lt1 (sI σ_1 99 0 0 1 p1) (fun σ_3 => some (σ_3, x2_2))))
theorem m_M_X6_state {l : Launch} {D : va_G} {d : Nat → ClassId} {h : IX} {p1 : Int32} {σ : ST} {z : ST × Int32} (hf : M_X6_state σ p1 = some z) : XM l D d EN yX6_state cX6_state 3 (some .int) 0 0 0 [.ref (h 99 0 0), .int p1] h (xct LM okM h d σ) (Qi D (pz z) (cw h LM okM d)) := by
  refine XM.of (by decide +kernel) (Nat.le_of_ble_eq_true rfl) ?_
  intro p e s m below meth c A ls X _ K _ O hl
  have hl : lv_has ls 3 [(0, .ref (h 99 0 0)), (1, .int p1)] := hl
  have hx := X.1.1; have hb := X.1.2.1
  rw [M_X6_state] at hf
  refine lv_aload_n hx hb dX6_state_0 rfl (lv_at hl 0 rfl) ?_
  refine lv_iconst (v := 0) hx hb dX6_state_1 (by decide) ?_
  obtain ⟨σ_1, eσ_1, hf⟩ := lt1_s hf
  refine x_pI X K O 0 rfl LM_99 rfl rfl in_X6 tyX6_ok nmX6 (by decide) q1150 rfl rfl rfl dX6_state_2 (fun H locs O => ?_)
  rw [← eσ_1] at O
  refine lv_aload_n hx hb dX6_state_5 rfl (lv_at hl 0 rfl) ?_
  refine x_gI X K O 1 rfl LM_99 rfl rfl in_X6 (by decide) q1151 dX6_state_6 ?_
  obtain ⟨x2_2, ex2_2, hf⟩ := lt1_s hf
  refine x_top (w := .int x2_2) (by rw [ex2_2]) ?_
  refine lv_istore_n (lv' := [(2, .int x2_2), (0, .ref (h 99 0 0)), (1, .int p1)]) hx hb dX6_state_9 rfl hl (by decide) rfl (fun ls hl => ?_)
  refine lv_aload_n hx hb dX6_state_10 rfl (lv_at hl 1 rfl) ?_
  refine lv_iload_n hx hb dX6_state_11 rfl (lv_at hl 2 rfl) ?_
  obtain ⟨σ_3, eσ_3, hf⟩ := lt1_s hf
  refine x_pI X K O 1 rfl LM_99 rfl rfl in_X6 tyX6_ok nmX6 (by decide) q1151 rfl rfl rfl dX6_state_12 (fun H locs O => ?_)
  rw [← eσ_3] at O
  refine lv_iload_n hx hb dX6_state_15 rfl (lv_at hl 0 rfl) ?_
  exact x_iret X O rfl _ (Option.some.inj hf).symm rfl dX6_state_16
def M_X6_isIn (σ : ST) (p1 : Int32) (p2 : Int32) (p3 : Int32) : Option (ST × Int32) :=
  (if p1 < p2 then some (σ, 0) else (if p3 < p1 then some (σ, 0) else some (σ, 1)))
theorem m_M_X6_isIn {l : Launch} {D : va_G} {d : Nat → ClassId} {h : IX} {p1 : Int32} {p2 : Int32} {p3 : Int32} {σ : ST} {z : ST × Int32} (hf : M_X6_isIn σ p1 p2 p3 = some z) : XM l D d EN yX6_isIn cX6_isIn 4 (some .boolean) 0 0 0 [.ref (h 99 0 0), .int p1, .int p2, .int p3] h (xct LM okM h d σ) (Qi D (pz z) (cw h LM okM d)) := by
  refine XM.of (by decide +kernel) (Nat.le_of_ble_eq_true rfl) ?_
  intro p e s m below meth c A ls X _ K _ O hl
  have hl : lv_has ls 4 [(0, .ref (h 99 0 0)), (1, .int p1), (2, .int p2), (3, .int p3)] := hl
  have hx := X.1.1; have hb := X.1.2.1
  rw [M_X6_isIn] at hf
  refine lv_iload_n hx hb dX6_isIn_0 rfl (lv_at hl 1 rfl) ?_
  refine lv_iload_n hx hb dX6_isIn_1 rfl (lv_at hl 2 rfl) ?_
  refine lv_icmp_lt (tgt := 14) hx hb dX6_isIn_2 (by decide) (fun c_1 => ?_) (fun c_1 => ?_)
  · replace hf := if_t c_1 hf
    refine lv_iconst (v := 0) hx hb dX6_isIn_14 (by decide) ?_
    exact x_zret X O rfl rfl _ (Option.some.inj hf).symm rfl dX6_isIn_15
  · replace hf := if_f c_1 hf
    refine lv_iload_n hx hb dX6_isIn_5 rfl (lv_at hl 1 rfl) ?_
    refine lv_iload_n hx hb dX6_isIn_6 rfl (lv_at hl 3 rfl) ?_
    refine lv_icmp_gt (tgt := 14) hx hb dX6_isIn_7 (by decide) (fun c_2 => ?_) (fun c_2 => ?_)
    · replace hf := if_t c_2 hf
      refine lv_iconst (v := 0) hx hb dX6_isIn_14 (by decide) ?_
      exact x_zret X O rfl rfl _ (Option.some.inj hf).symm rfl dX6_isIn_15
    · replace hf := if_f c_2 hf
      refine lv_iconst (v := 1) hx hb dX6_isIn_10 (by decide) ?_
      refine lv_goto (tgt := 15) hx hb dX6_isIn_11 (by decide) ?_
      exact x_zret X O rfl rfl _ (Option.some.inj hf).symm rfl dX6_isIn_15
def M_X6_puts (σ : ST) (p1 : Int32) (p2 : Int32) (p3 : Int32) : Option (ST) :=
  ck (okI ((9 * p1) + p2) 108) (lt1 (sI σ 5 0 0 (Int32.toNatClampNeg ((9 * p1) + p2)) p3) (fun σ_2 => some σ_2))
theorem m_M_X6_puts {l : Launch} {D : va_G} {d : Nat → ClassId} {h : IX} {p1 : Int32} {p2 : Int32} {p3 : Int32} {σ : ST} {z : ST} (hf : M_X6_puts σ p1 p2 p3 = some z) : XM l D d EN yX6_puts cX6_puts 4 none 0 0 0 [.ref (h 99 0 0), .int p1, .int p2, .int p3] h (xct LM okM h d σ) (Qv D (pu z) (cw h LM okM d)) := by
  refine XM.of (by decide +kernel) (Nat.le_of_ble_eq_true rfl) ?_
  intro p e s m below meth c A ls X _ K _ O hl
  have hl : lv_has ls 4 [(0, .ref (h 99 0 0)), (1, .int p1), (2, .int p2), (3, .int p3)] := hl
  have hx := X.1.1; have hb := X.1.2.1
  rw [M_X6_puts] at hf
  refine lv_aload_n hx hb dX6_puts_0 rfl (lv_at hl 0 rfl) ?_
  refine x_gF X K O 5 rfl LM_99 rfl rfl in_X6 (by decide) q1155 dX6_puts_1 ?_
  refine lv_bipush (v := 9) hx hb dX6_puts_4 (by decide) ?_
  refine lv_iload_n hx hb dX6_puts_6 rfl (lv_at hl 1 rfl) ?_
  refine lv_imul hx hb dX6_puts_7 ?_
  refine lv_iload_n hx hb dX6_puts_8 rfl (lv_at hl 2 rfl) ?_
  refine lv_iadd hx hb dX6_puts_9 ?_
  refine lv_iload_n hx hb dX6_puts_10 rfl (lv_at hl 3 rfl) ?_
  obtain ⟨c_1, hf⟩ := ck_s hf
  obtain ⟨σ_2, eσ_2, hf⟩ := lt1_s hf
  refine x_ist X K O rfl LM_5 c_1 (j := (Int32.toNatClampNeg ((9 * p1) + p2))) rfl dX6_puts_11 (fun H locs O => ?_)
  rw [← eσ_2] at O
  exact x_vret X O rfl _ (Option.some.inj hf).symm rfl dX6_puts_12
theorem hdV_X6_isIn : yX6_isIn.cls = RX6 ∧ (yX6_isIn.cls ≠ "java/lang/invoke/MethodHandle" ∧ yX6_isIn.cls ≠ "java/lang/invoke/VarHandle" ∧ (parseMethodDescriptor yX6_isIn.desc).map (fun d => d.parameters.length) = some 3) := by decide +kernel
theorem hdV_X6_puts : yX6_puts.cls = RX6 ∧ (yX6_puts.cls ≠ "java/lang/invoke/MethodHandle" ∧ yX6_puts.cls ≠ "java/lang/invoke/VarHandle" ∧ (parseMethodDescriptor yX6_puts.desc).map (fun d => d.parameters.length) = some 3) := by decide +kernel
def M_X6_one_b39 : Nat → ST → Int32 → Int32 → Int32 → Option (ST × Int32)
  | 0, _, _, _, _ => none
  | n + 1, σ, x1, x2, x3 =>
    (if 9 ≤ x3 then bn1 (M_X6_puts σ (gI σ 99 0 0 2) 0 x2) (fun σ_2 => bn1 (M_X6_puts σ_2 (gI σ_2 99 0 0 2) 1 x1) (fun σ_3 => lt1 (sI σ_3 99 0 0 2 ((gI σ_3 99 0 0 2) + 1)) (fun σ_4 => some (σ_4, ((gI σ_4 99 0 0 2) - 1))))) else bn1 (M_X6_puts σ (gI σ 99 0 0 2) x3 0) (fun σ_5 => lt1 (x3 + 1) (fun x3_6 => (M_X6_one_b39 n) σ_5 x1 x2 x3_6)))
theorem w_M_X6_one_b39 (X : FX p m c meth s args RX6 cX6_one 4 (some .int)) (K : XK D d A s) {z : ST × Int32} : ∀ (n : Nat) (σ : ST) (x1 : Int32) (x2 : Int32) (x3 : Int32) (ls : Array Slot) (H : Heap) (locs : List Loc), XH D A s.heap h (xct LM okM h d σ) H locs → lv_has ls 4 [(0, .ref (h 99 0 0)), (1, .int x1), (2, .int x2), (3, .int x3)] → M_X6_one_b39 n σ x1 x2 x3 = some z → W p l e (rmD 1 0 0) s m args below meth c H locs 0 0 (MQ below (Qi D (pz z) (cw h LM okM d) A) args s 0 0 A) (F0 m 39 ls []) := by
  have hx := X.1.1; have hb := X.1.2.1
  intro n
  induction n with
  | zero =>
    intro σ x1 x2 x3 ls H locs O hl hf
    exact absurd hf (fun q => by cases q)
  | succ n ih =>
    intro σ x1 x2 x3 ls H locs O hl hf
    rw [M_X6_one_b39] at hf
    refine lv_iload_n hx hb dX6_one_39 rfl (lv_at hl 3 rfl) ?_
    refine lv_bipush (v := 9) hx hb dX6_one_40 (by decide) ?_
    refine lv_icmp_ge (tgt := 61) hx hb dX6_one_42 (by decide) (fun c_1 => ?_) (fun c_1 => ?_)
    · replace hf := if_t c_1 hf
      refine lv_aload_n hx hb dX6_one_61 rfl (lv_at hl 0 rfl) ?_
      refine lv_aload_n hx hb dX6_one_62 rfl (lv_at hl 0 rfl) ?_
      refine x_gI X K O 2 rfl LM_99 rfl rfl in_X6 (by decide) q1152 dX6_one_63 ?_
      refine lv_iconst (v := 0) hx hb dX6_one_66 (by decide) ?_
      refine lv_iload_n hx hb dX6_one_67 rfl (lv_at hl 2 rfl) ?_
      obtain ⟨σ_2, hg, hf⟩ := bn1_s hf
      refine x_callv (x_runV (As := [.int (gI σ 99 0 0 2), .int 0, .int x2]) (rest := []) X K O (xct_obj rfl LM_99) rfl (m_M_X6_puts hg) EN_b EN_h (lw_V q1331 q1333 qs46 q124 q1334) 3 rfl hl.1 (Nat.le_of_ble_eq_true rfl) hdV_X6_puts ⟨by decide, by decide⟩ ⟨Nat.le_refl _, Nat.le_refl _⟩ dX6_one_68) (fun u H locs hp O _ => ?_)
      cases hp
      have O : XH D A s.heap h (xct LM okM h d σ_2) H locs := O
      refine lv_aload_n hx hb dX6_one_71 rfl (lv_at hl 0 rfl) ?_
      refine lv_aload_n hx hb dX6_one_72 rfl (lv_at hl 0 rfl) ?_
      refine x_gI X K O 2 rfl LM_99 rfl rfl in_X6 (by decide) q1152 dX6_one_73 ?_
      refine lv_iconst (v := 1) hx hb dX6_one_76 (by decide) ?_
      refine lv_iload_n hx hb dX6_one_77 rfl (lv_at hl 1 rfl) ?_
      obtain ⟨σ_3, hg, hf⟩ := bn1_s hf
      refine x_callv (x_runV (As := [.int (gI σ_2 99 0 0 2), .int 1, .int x1]) (rest := []) X K O (xct_obj rfl LM_99) rfl (m_M_X6_puts hg) EN_b EN_h (lw_V q1331 q1333 qs46 q124 q1334) 3 rfl hl.1 (Nat.le_of_ble_eq_true rfl) hdV_X6_puts ⟨by decide, by decide⟩ ⟨Nat.le_refl _, Nat.le_refl _⟩ dX6_one_78) (fun u H locs hp O _ => ?_)
      cases hp
      have O : XH D A s.heap h (xct LM okM h d σ_3) H locs := O
      refine lv_aload_n hx hb dX6_one_81 rfl (lv_at hl 0 rfl) ?_
      refine lv_aload_n hx hb dX6_one_82 rfl (lv_at hl 0 rfl) ?_
      refine x_gI X K O 2 rfl LM_99 rfl rfl in_X6 (by decide) q1152 dX6_one_83 ?_
      refine lv_iconst (v := 1) hx hb dX6_one_86 (by decide) ?_
      refine lv_iadd hx hb dX6_one_87 ?_
      obtain ⟨σ_4, eσ_4, hf⟩ := lt1_s hf
      refine x_pI X K O 2 rfl LM_99 rfl rfl in_X6 tyX6_ok nmX6 (by decide) q1152 rfl rfl rfl dX6_one_88 (fun H locs O => ?_)
      rw [← eσ_4] at O
      refine lv_aload_n hx hb dX6_one_91 rfl (lv_at hl 0 rfl) ?_
      refine x_gI X K O 2 rfl LM_99 rfl rfl in_X6 (by decide) q1152 dX6_one_92 ?_
      refine lv_iconst (v := 1) hx hb dX6_one_95 (by decide) ?_
      refine lv_isub hx hb dX6_one_96 ?_
      exact x_iret X O rfl _ (Option.some.inj hf).symm rfl dX6_one_97
    · replace hf := if_f c_1 hf
      refine lv_aload_n hx hb dX6_one_45 rfl (lv_at hl 0 rfl) ?_
      refine lv_aload_n hx hb dX6_one_46 rfl (lv_at hl 0 rfl) ?_
      refine x_gI X K O 2 rfl LM_99 rfl rfl in_X6 (by decide) q1152 dX6_one_47 ?_
      refine lv_iload_n hx hb dX6_one_50 rfl (lv_at hl 3 rfl) ?_
      refine lv_iconst (v := 0) hx hb dX6_one_51 (by decide) ?_
      obtain ⟨σ_5, hg, hf⟩ := bn1_s hf
      refine x_callv (x_runV (As := [.int (gI σ 99 0 0 2), .int x3, .int 0]) (rest := []) X K O (xct_obj rfl LM_99) rfl (m_M_X6_puts hg) EN_b EN_h (lw_V q1331 q1333 qs46 q124 q1334) 3 rfl hl.1 (Nat.le_of_ble_eq_true rfl) hdV_X6_puts ⟨by decide, by decide⟩ ⟨Nat.le_refl _, Nat.le_refl _⟩ dX6_one_52) (fun u H locs hp O _ => ?_)
      cases hp
      have O : XH D A s.heap h (xct LM okM h d σ_5) H locs := O
      obtain ⟨x3_6, ex3_6, hf⟩ := lt1_s hf
      refine lv_iinc (v := x3_6) (lv' := [(3, .int x3_6), (0, .ref (h 99 0 0)), (1, .int x1), (2, .int x2)]) hx hb dX6_one_55 hl (k := 3) rfl (by rw [ex3_6]; rfl) (by decide) rfl (fun ls hl => ?_)
      refine lv_goto (tgt := 39) hx hb dX6_one_58 (by decide) ?_
      exact ih _ _ _ _ ls _ _ O (lv_sub hl [1, 2, 3, 0] rfl) hf
def M_X6_one (σ : ST) (p1 : Int32) (p2 : Int32) : Option (ST × Int32) :=
  lt1 (sI σ 99 0 0 0 0) (fun σ_1 => bn2 (M_X6_isIn σ_1 p1 0 99) (fun σ_2 r_3 => (if r_3 = 0 then some (σ_2, (-1)) else bn2 (M_X6_isIn σ_2 p2 0 4) (fun σ_5 r_6 => (if r_6 = 0 then some (σ_5, (-1)) else (if (gI σ_5 99 0 0 2) = 12 then some (σ_5, (-1)) else M_X6_one_b39 FUEL σ_5 p1 p2 0))))))
theorem m_M_X6_one {l : Launch} {D : va_G} {d : Nat → ClassId} {h : IX} {p1 : Int32} {p2 : Int32} {σ : ST} {z : ST × Int32} (hf : M_X6_one σ p1 p2 = some z) : XM l D d EN yX6_one cX6_one 4 (some .int) 1 0 0 [.ref (h 99 0 0), .int p1, .int p2] h (xct LM okM h d σ) (Qi D (pz z) (cw h LM okM d)) := by
  refine XM.of (by decide +kernel) (Nat.le_of_ble_eq_true rfl) ?_
  intro p e s m below meth c A ls X _ K _ O hl
  have hl : lv_has ls 4 [(0, .ref (h 99 0 0)), (1, .int p1), (2, .int p2)] := hl
  have hx := X.1.1; have hb := X.1.2.1
  rw [M_X6_one] at hf
  refine lv_aload_n hx hb dX6_one_0 rfl (lv_at hl 0 rfl) ?_
  refine lv_iconst (v := 0) hx hb dX6_one_1 (by decide) ?_
  obtain ⟨σ_1, eσ_1, hf⟩ := lt1_s hf
  refine x_pI X K O 0 rfl LM_99 rfl rfl in_X6 tyX6_ok nmX6 (by decide) q1150 rfl rfl rfl dX6_one_2 (fun H locs O => ?_)
  rw [← eσ_1] at O
  refine lv_aload_n hx hb dX6_one_5 rfl (lv_at hl 0 rfl) ?_
  refine lv_iload_n hx hb dX6_one_6 rfl (lv_at hl 1 rfl) ?_
  refine lv_iconst (v := 0) hx hb dX6_one_7 (by decide) ?_
  refine lv_bipush (v := 99) hx hb dX6_one_8 (by decide) ?_
  obtain ⟨σ_2, r_3, hg, hf⟩ := bn2_s hf
  refine x_calli (x_runV (As := [.int p1, .int 0, .int 99]) (rest := []) X K O (xct_obj rfl LM_99) rfl (m_M_X6_isIn hg) EN_b EN_h (lw_V q1327 q1329 qs45 q124 q1330) 3 rfl hl.1 (Nat.le_of_ble_eq_true rfl) hdV_X6_isIn ⟨by decide, by decide⟩ ⟨Nat.le_refl _, Nat.le_refl _⟩ dX6_one_10) (fun r u H locs hp O _ => ?_)
  cases hp
  have O : XH D A s.heap h (xct LM okM h d σ_2) H locs := O
  refine lv_if_eq (tgt := 35) hx hb dX6_one_13 (by decide) (fun c_4 => ?_) (fun c_4 => ?_)
  · replace hf := if_t c_4 hf
    refine lv_iconst (v := (-1)) hx hb dX6_one_35 (by decide) ?_
    exact x_iret X O rfl _ (Option.some.inj hf).symm rfl dX6_one_36
  · replace hf := if_f c_4 hf
    refine lv_aload_n hx hb dX6_one_16 rfl (lv_at hl 0 rfl) ?_
    refine lv_iload_n hx hb dX6_one_17 rfl (lv_at hl 2 rfl) ?_
    refine lv_iconst (v := 0) hx hb dX6_one_18 (by decide) ?_
    refine lv_iconst (v := 4) hx hb dX6_one_19 (by decide) ?_
    obtain ⟨σ_5, r_6, hg, hf⟩ := bn2_s hf
    refine x_calli (x_runV (As := [.int p2, .int 0, .int 4]) (rest := []) X K O (xct_obj rfl LM_99) rfl (m_M_X6_isIn hg) EN_b EN_h (lw_V q1327 q1329 qs45 q124 q1330) 3 rfl hl.1 (Nat.le_of_ble_eq_true rfl) hdV_X6_isIn ⟨by decide, by decide⟩ ⟨Nat.le_refl _, Nat.le_refl _⟩ dX6_one_20) (fun r u H locs hp O _ => ?_)
    cases hp
    have O : XH D A s.heap h (xct LM okM h d σ_5) H locs := O
    refine lv_if_eq (tgt := 35) hx hb dX6_one_23 (by decide) (fun c_7 => ?_) (fun c_7 => ?_)
    · replace hf := if_t c_7 hf
      refine lv_iconst (v := (-1)) hx hb dX6_one_35 (by decide) ?_
      exact x_iret X O rfl _ (Option.some.inj hf).symm rfl dX6_one_36
    · replace hf := if_f c_7 hf
      refine lv_aload_n hx hb dX6_one_26 rfl (lv_at hl 0 rfl) ?_
      refine x_gI X K O 2 rfl LM_99 rfl rfl in_X6 (by decide) q1152 dX6_one_27 ?_
      refine lv_bipush (v := 12) hx hb dX6_one_30 (by decide) ?_
      refine lv_icmp_ne (tgt := 37) hx hb dX6_one_32 (by decide) (fun c_8 => ?_) (fun c_8 => ?_)
      · replace hf := if_f c_8 hf
        refine lv_iconst (v := 0) hx hb dX6_one_37 (by decide) ?_
        refine lv_istore_n (lv' := [(3, .int 0), (0, .ref (h 99 0 0)), (1, .int p1), (2, .int p2)]) hx hb dX6_one_38 rfl hl (by decide) rfl (fun ls hl => ?_)
        exact w_M_X6_one_b39 X K _ _ _ _ _ ls _ _ O (lv_sub hl [1, 2, 3, 0] rfl) hf
      · replace hf := if_t c_8 hf
        refine lv_iconst (v := (-1)) hx hb dX6_one_35 (by decide) ?_
        exact x_iret X O rfl _ (Option.some.inj hf).symm rfl dX6_one_36
def M_X6_isOne (σ : ST) (p1 : Int32) : Option (ST × Int32) :=
  (if p1 < 0 then some (σ, 0) else (if (gI σ 99 0 0 2) ≤ p1 then some (σ, 0) else some (σ, 1)))
theorem m_M_X6_isOne {l : Launch} {D : va_G} {d : Nat → ClassId} {h : IX} {p1 : Int32} {σ : ST} {z : ST × Int32} (hf : M_X6_isOne σ p1 = some z) : XM l D d EN yX6_isOne cX6_isOne 2 (some .boolean) 0 0 0 [.ref (h 99 0 0), .int p1] h (xct LM okM h d σ) (Qi D (pz z) (cw h LM okM d)) := by
  refine XM.of (by decide +kernel) (Nat.le_of_ble_eq_true rfl) ?_
  intro p e s m below meth c A ls X _ K _ O hl
  have hl : lv_has ls 2 [(0, .ref (h 99 0 0)), (1, .int p1)] := hl
  have hx := X.1.1; have hb := X.1.2.1
  rw [M_X6_isOne] at hf
  refine lv_iload_n hx hb dX6_isOne_0 rfl (lv_at hl 1 rfl) ?_
  refine lv_if_lt (tgt := 16) hx hb dX6_isOne_1 (by decide) (fun c_1 => ?_) (fun c_1 => ?_)
  · replace hf := if_t c_1 hf
    refine lv_iconst (v := 0) hx hb dX6_isOne_16 (by decide) ?_
    exact x_zret X O rfl rfl _ (Option.some.inj hf).symm rfl dX6_isOne_17
  · replace hf := if_f c_1 hf
    refine lv_iload_n hx hb dX6_isOne_4 rfl (lv_at hl 1 rfl) ?_
    refine lv_aload_n hx hb dX6_isOne_5 rfl (lv_at hl 0 rfl) ?_
    refine x_gI X K O 2 rfl LM_99 rfl rfl in_X6 (by decide) q1152 dX6_isOne_6 ?_
    refine lv_icmp_ge (tgt := 16) hx hb dX6_isOne_9 (by decide) (fun c_2 => ?_) (fun c_2 => ?_)
    · replace hf := if_t c_2 hf
      refine lv_iconst (v := 0) hx hb dX6_isOne_16 (by decide) ?_
      exact x_zret X O rfl rfl _ (Option.some.inj hf).symm rfl dX6_isOne_17
    · replace hf := if_f c_2 hf
      refine lv_iconst (v := 1) hx hb dX6_isOne_12 (by decide) ?_
      refine lv_goto (tgt := 17) hx hb dX6_isOne_13 (by decide) ?_
      exact x_zret X O rfl rfl _ (Option.some.inj hf).symm rfl dX6_isOne_17
theorem hdV_X6_isOne : yX6_isOne.cls = RX6 ∧ (yX6_isOne.cls ≠ "java/lang/invoke/MethodHandle" ∧ yX6_isOne.cls ≠ "java/lang/invoke/VarHandle" ∧ (parseMethodDescriptor yX6_isOne.desc).map (fun d => d.parameters.length) = some 1) := by decide +kernel
def M_X6_stick_b58 (σ : ST) (x1 : Int32) (x2 : Int32) (x3 : Int32) (s0 : Int32) : Option (ST × Int32) :=
  bn2 (M_X6_isIn σ x3 0 s0) (fun σ_1 r_2 => (if r_2 = 0 then some (σ_1, 0) else bn1 (M_X6_puts σ_1 x1 x2 x3) (fun σ_4 => some (σ_4, 1))))
theorem w_M_X6_stick_b58 (X : FX p m c meth s args RX6 cX6_stick 5 (some .boolean)) (K : XK D d A s) {z : ST × Int32} (σ : ST) (x1 : Int32) (x2 : Int32) (x3 : Int32) (s0 : Int32) (ls : Array Slot) (H : Heap) (locs : List Loc) (O : XH D A s.heap h (xct LM okM h d σ) H locs) (hl : lv_has ls 5 [(0, .ref (h 99 0 0)), (1, .int x1), (2, .int x2), (3, .int x3)]) (hf : M_X6_stick_b58 σ x1 x2 x3 s0 = some z) : W p l e (rmD 1 0 0) s m args below meth c H locs 0 0 (MQ below (Qi D (pz z) (cw h LM okM d) A) args s 0 0 A) (F0 m 58 ls [.int s0]) := by
  have hx := X.1.1; have hb := X.1.2.1
  rw [M_X6_stick_b58] at hf
  refine lv_istore (lv' := [(4, .int s0), (0, .ref (h 99 0 0)), (1, .int x1), (2, .int x2), (3, .int x3)]) hx hb dX6_stick_58 hl (by decide) rfl (fun ls hl => ?_)
  refine lv_aload_n hx hb dX6_stick_60 rfl (lv_at hl 1 rfl) ?_
  refine lv_iload_n hx hb dX6_stick_61 rfl (lv_at hl 4 rfl) ?_
  refine lv_iconst (v := 0) hx hb dX6_stick_62 (by decide) ?_
  refine lv_iload hx hb dX6_stick_63 (lv_at hl 0 rfl) ?_
  obtain ⟨σ_1, r_2, hg, hf⟩ := bn2_s hf
  refine x_calli (x_runV (As := [.int x3, .int 0, .int s0]) (rest := []) X K O (xct_obj rfl LM_99) rfl (m_M_X6_isIn hg) EN_b EN_h (lw_V q1327 q1329 qs45 q124 q1330) 3 rfl hl.1 (Nat.le_of_ble_eq_true rfl) hdV_X6_isIn ⟨by decide, by decide⟩ ⟨Nat.le_refl _, Nat.le_refl _⟩ dX6_stick_65) (fun r u H locs hp O _ => ?_)
  cases hp
  have O : XH D A s.heap h (xct LM okM h d σ_1) H locs := O
  refine lv_if_ne (tgt := 73) hx hb dX6_stick_68 (by decide) (fun c_3 => ?_) (fun c_3 => ?_)
  · replace hf := if_f c_3 hf
    refine lv_aload_n hx hb dX6_stick_73 rfl (lv_at hl 1 rfl) ?_
    refine lv_iload_n hx hb dX6_stick_74 rfl (lv_at hl 2 rfl) ?_
    refine lv_iload_n hx hb dX6_stick_75 rfl (lv_at hl 3 rfl) ?_
    refine lv_iload_n hx hb dX6_stick_76 rfl (lv_at hl 4 rfl) ?_
    obtain ⟨σ_4, hg, hf⟩ := bn1_s hf
    refine x_callv (x_runV (As := [.int x1, .int x2, .int x3]) (rest := []) X K O (xct_obj rfl LM_99) rfl (m_M_X6_puts hg) EN_b EN_h (lw_V q1331 q1333 qs46 q124 q1334) 3 rfl hl.1 (Nat.le_of_ble_eq_true rfl) hdV_X6_puts ⟨by decide, by decide⟩ ⟨Nat.le_refl _, Nat.le_refl _⟩ dX6_stick_77) (fun u H locs hp O _ => ?_)
    cases hp
    have O : XH D A s.heap h (xct LM okM h d σ_4) H locs := O
    refine lv_iconst (v := 1) hx hb dX6_stick_80 (by decide) ?_
    exact x_zret X O rfl rfl _ (Option.some.inj hf).symm rfl dX6_stick_81
  · replace hf := if_t c_3 hf
    refine lv_iconst (v := 0) hx hb dX6_stick_71 (by decide) ?_
    exact x_zret X O rfl rfl _ (Option.some.inj hf).symm rfl dX6_stick_72
def M_X6_stick (σ : ST) (p1 : Int32) (p2 : Int32) (p3 : Int32) : Option (ST × Int32) :=
  lt1 (sI σ 99 0 0 0 0) (fun σ_1 => bn2 (M_X6_isOne σ_1 p1) (fun σ_2 r_3 => (if r_3 = 0 then some (σ_2, 0) else bn2 (M_X6_isIn σ_2 p2 0 6) (fun σ_5 r_6 => (if r_6 = 0 then some (σ_5, 0) else (if p2 = 0 then M_X6_stick_b58 σ_5 p1 p2 p3 4 else (if p2 = 1 then M_X6_stick_b58 σ_5 p1 p2 p3 99 else (if p2 = 6 then M_X6_stick_b58 σ_5 p1 p2 p3 9 else M_X6_stick_b58 σ_5 p1 p2 p3 9999))))))))
theorem m_M_X6_stick {l : Launch} {D : va_G} {d : Nat → ClassId} {h : IX} {p1 : Int32} {p2 : Int32} {p3 : Int32} {σ : ST} {z : ST × Int32} (hf : M_X6_stick σ p1 p2 p3 = some z) : XM l D d EN yX6_stick cX6_stick 5 (some .boolean) 1 0 0 [.ref (h 99 0 0), .int p1, .int p2, .int p3] h (xct LM okM h d σ) (Qi D (pz z) (cw h LM okM d)) := by
  refine XM.of (by decide +kernel) (Nat.le_of_ble_eq_true rfl) ?_
  intro p e s m below meth c A ls X _ K _ O hl
  have hl : lv_has ls 5 [(0, .ref (h 99 0 0)), (1, .int p1), (2, .int p2), (3, .int p3)] := hl
  have hx := X.1.1; have hb := X.1.2.1
  rw [M_X6_stick] at hf
  refine lv_aload_n hx hb dX6_stick_0 rfl (lv_at hl 0 rfl) ?_
  refine lv_iconst (v := 0) hx hb dX6_stick_1 (by decide) ?_
  obtain ⟨σ_1, eσ_1, hf⟩ := lt1_s hf
  refine x_pI X K O 0 rfl LM_99 rfl rfl in_X6 tyX6_ok nmX6 (by decide) q1150 rfl rfl rfl dX6_stick_2 (fun H locs O => ?_)
  rw [← eσ_1] at O
  refine lv_aload_n hx hb dX6_stick_5 rfl (lv_at hl 0 rfl) ?_
  refine lv_iload_n hx hb dX6_stick_6 rfl (lv_at hl 1 rfl) ?_
  obtain ⟨σ_2, r_3, hg, hf⟩ := bn2_s hf
  refine x_calli (x_runV (As := [.int p1]) (rest := []) X K O (xct_obj rfl LM_99) rfl (m_M_X6_isOne hg) EN_b EN_h (lw_V q1339 q1341 qs47 q124 q1342) 1 rfl hl.1 (Nat.le_of_ble_eq_true rfl) hdV_X6_isOne ⟨by decide, by decide⟩ ⟨Nat.le_refl _, Nat.le_refl _⟩ dX6_stick_7) (fun r u H locs hp O _ => ?_)
  cases hp
  have O : XH D A s.heap h (xct LM okM h d σ_2) H locs := O
  refine lv_if_eq (tgt := 24) hx hb dX6_stick_10 (by decide) (fun c_4 => ?_) (fun c_4 => ?_)
  · replace hf := if_t c_4 hf
    refine lv_iconst (v := 0) hx hb dX6_stick_24 (by decide) ?_
    exact x_zret X O rfl rfl _ (Option.some.inj hf).symm rfl dX6_stick_25
  · replace hf := if_f c_4 hf
    refine lv_aload_n hx hb dX6_stick_13 rfl (lv_at hl 0 rfl) ?_
    refine lv_iload_n hx hb dX6_stick_14 rfl (lv_at hl 2 rfl) ?_
    refine lv_iconst (v := 0) hx hb dX6_stick_15 (by decide) ?_
    refine lv_bipush (v := 6) hx hb dX6_stick_16 (by decide) ?_
    obtain ⟨σ_5, r_6, hg, hf⟩ := bn2_s hf
    refine x_calli (x_runV (As := [.int p2, .int 0, .int 6]) (rest := []) X K O (xct_obj rfl LM_99) rfl (m_M_X6_isIn hg) EN_b EN_h (lw_V q1327 q1329 qs45 q124 q1330) 3 rfl hl.1 (Nat.le_of_ble_eq_true rfl) hdV_X6_isIn ⟨by decide, by decide⟩ ⟨Nat.le_refl _, Nat.le_refl _⟩ dX6_stick_18) (fun r u H locs hp O _ => ?_)
    cases hp
    have O : XH D A s.heap h (xct LM okM h d σ_5) H locs := O
    refine lv_if_ne (tgt := 26) hx hb dX6_stick_21 (by decide) (fun c_7 => ?_) (fun c_7 => ?_)
    · replace hf := if_f c_7 hf
      refine lv_iload_n hx hb dX6_stick_26 rfl (lv_at hl 2 rfl) ?_
      refine lv_if_ne (tgt := 34) hx hb dX6_stick_27 (by decide) (fun c_8 => ?_) (fun c_8 => ?_)
      · replace hf := if_f c_8 hf
        refine lv_iload_n hx hb dX6_stick_34 rfl (lv_at hl 2 rfl) ?_
        refine lv_iconst (v := 1) hx hb dX6_stick_35 (by decide) ?_
        refine lv_icmp_ne (tgt := 44) hx hb dX6_stick_36 (by decide) (fun c_9 => ?_) (fun c_9 => ?_)
        · replace hf := if_f c_9 hf
          refine lv_iload_n hx hb dX6_stick_44 rfl (lv_at hl 2 rfl) ?_
          refine lv_bipush (v := 6) hx hb dX6_stick_45 (by decide) ?_
          refine lv_icmp_ne (tgt := 55) hx hb dX6_stick_47 (by decide) (fun c_10 => ?_) (fun c_10 => ?_)
          · replace hf := if_f c_10 hf
            refine lv_sipush (v := 9999) hx hb dX6_stick_55 (by decide) ?_
            exact w_M_X6_stick_b58 X K _ _ _ _ _ ls _ _ O (lv_sub hl [0, 1, 2, 3] rfl) hf
          · replace hf := if_t c_10 hf
            refine lv_bipush (v := 9) hx hb dX6_stick_50 (by decide) ?_
            refine lv_goto (tgt := 58) hx hb dX6_stick_52 (by decide) ?_
            exact w_M_X6_stick_b58 X K _ _ _ _ _ ls _ _ O (lv_sub hl [0, 1, 2, 3] rfl) hf
        · replace hf := if_t c_9 hf
          refine lv_bipush (v := 99) hx hb dX6_stick_39 (by decide) ?_
          refine lv_goto (tgt := 58) hx hb dX6_stick_41 (by decide) ?_
          exact w_M_X6_stick_b58 X K _ _ _ _ _ ls _ _ O (lv_sub hl [0, 1, 2, 3] rfl) hf
      · replace hf := if_t c_8 hf
        refine lv_iconst (v := 4) hx hb dX6_stick_30 (by decide) ?_
        refine lv_goto (tgt := 58) hx hb dX6_stick_31 (by decide) ?_
        exact w_M_X6_stick_b58 X K _ _ _ _ _ ls _ _ O (lv_sub hl [0, 1, 2, 3] rfl) hf
    · replace hf := if_t c_7 hf
      refine lv_iconst (v := 0) hx hb dX6_stick_24 (by decide) ?_
      exact x_zret X O rfl rfl _ (Option.some.inj hf).symm rfl dX6_stick_25
def M_X6_mostOf (σ : ST) (p1 : Int32) : Option (ST × Int32) :=
  (if p1 = 5 then some (σ, 1000) else (if p1 = 6 then some (σ, 9) else (if p1 = 8 then some (σ, 20) else (if p1 = 9 then some (σ, 1) else some (σ, 99)))))
theorem m_M_X6_mostOf {l : Launch} {D : va_G} {d : Nat → ClassId} {h : IX} {p1 : Int32} {σ : ST} {z : ST × Int32} (hf : M_X6_mostOf σ p1 = some z) : XM l D d EN yX6_mostOf cX6_mostOf 2 (some .int) 0 0 0 [.ref (h 99 0 0), .int p1] h (xct LM okM h d σ) (Qi D (pz z) (cw h LM okM d)) := by
  refine XM.of (by decide +kernel) (Nat.le_of_ble_eq_true rfl) ?_
  intro p e s m below meth c A ls X _ K _ O hl
  have hl : lv_has ls 2 [(0, .ref (h 99 0 0)), (1, .int p1)] := hl
  have hx := X.1.1; have hb := X.1.2.1
  rw [M_X6_mostOf] at hf
  refine lv_iload_n hx hb dX6_mostOf_0 rfl (lv_at hl 1 rfl) ?_
  refine lv_iconst (v := 5) hx hb dX6_mostOf_1 (by decide) ?_
  refine lv_icmp_ne (tgt := 9) hx hb dX6_mostOf_2 (by decide) (fun c_1 => ?_) (fun c_1 => ?_)
  · replace hf := if_f c_1 hf
    refine lv_iload_n hx hb dX6_mostOf_9 rfl (lv_at hl 1 rfl) ?_
    refine lv_bipush (v := 6) hx hb dX6_mostOf_10 (by decide) ?_
    refine lv_icmp_ne (tgt := 18) hx hb dX6_mostOf_12 (by decide) (fun c_2 => ?_) (fun c_2 => ?_)
    · replace hf := if_f c_2 hf
      refine lv_iload_n hx hb dX6_mostOf_18 rfl (lv_at hl 1 rfl) ?_
      refine lv_bipush (v := 8) hx hb dX6_mostOf_19 (by decide) ?_
      refine lv_icmp_ne (tgt := 27) hx hb dX6_mostOf_21 (by decide) (fun c_3 => ?_) (fun c_3 => ?_)
      · replace hf := if_f c_3 hf
        refine lv_iload_n hx hb dX6_mostOf_27 rfl (lv_at hl 1 rfl) ?_
        refine lv_bipush (v := 9) hx hb dX6_mostOf_28 (by decide) ?_
        refine lv_icmp_ne (tgt := 37) hx hb dX6_mostOf_30 (by decide) (fun c_4 => ?_) (fun c_4 => ?_)
        · replace hf := if_f c_4 hf
          refine lv_bipush (v := 99) hx hb dX6_mostOf_37 (by decide) ?_
          exact x_iret X O rfl _ (Option.some.inj hf).symm rfl dX6_mostOf_39
        · replace hf := if_t c_4 hf
          refine lv_iconst (v := 1) hx hb dX6_mostOf_33 (by decide) ?_
          refine lv_goto (tgt := 39) hx hb dX6_mostOf_34 (by decide) ?_
          exact x_iret X O rfl _ (Option.some.inj hf).symm rfl dX6_mostOf_39
      · replace hf := if_t c_3 hf
        refine lv_bipush (v := 20) hx hb dX6_mostOf_24 (by decide) ?_
        exact x_iret X O rfl _ (Option.some.inj hf).symm rfl dX6_mostOf_26
    · replace hf := if_t c_2 hf
      refine lv_bipush (v := 9) hx hb dX6_mostOf_15 (by decide) ?_
      exact x_iret X O rfl _ (Option.some.inj hf).symm rfl dX6_mostOf_17
  · replace hf := if_t c_1 hf
    refine lv_sipush (v := 1000) hx hb dX6_mostOf_5 (by decide) ?_
    exact x_iret X O rfl _ (Option.some.inj hf).symm rfl dX6_mostOf_8
theorem hdV_X6_mostOf : yX6_mostOf.cls = RX6 ∧ (yX6_mostOf.cls ≠ "java/lang/invoke/MethodHandle" ∧ yX6_mostOf.cls ≠ "java/lang/invoke/VarHandle" ∧ (parseMethodDescriptor yX6_mostOf.desc).map (fun d => d.parameters.length) = some 1) := by decide +kernel
def M_X6_set (σ : ST) (p1 : Int32) (p2 : Int32) : Option (ST × Int32) :=
  lt1 (sI σ 99 0 0 0 0) (fun σ_1 => bn2 (M_X6_isIn σ_1 p1 0 22) (fun σ_2 r_3 => (if r_3 = 0 then some (σ_2, 0) else (if p1 = 10 then some (σ_2, 0) else bn2 (M_X6_mostOf σ_2 p1) (fun σ_6 r_7 => bn2 (M_X6_isIn σ_6 p2 0 r_7) (fun σ_8 r_9 => (if r_9 = 0 then some (σ_8, 0) else ck (okI p1 23) (lt1 (sI σ_8 6 0 0 (Int32.toNatClampNeg p1) p2) (fun σ_12 => some (σ_12, 1))))))))))
theorem m_M_X6_set {l : Launch} {D : va_G} {d : Nat → ClassId} {h : IX} {p1 : Int32} {p2 : Int32} {σ : ST} {z : ST × Int32} (hf : M_X6_set σ p1 p2 = some z) : XM l D d EN yX6_set cX6_set 3 (some .boolean) 1 0 0 [.ref (h 99 0 0), .int p1, .int p2] h (xct LM okM h d σ) (Qi D (pz z) (cw h LM okM d)) := by
  refine XM.of (by decide +kernel) (Nat.le_of_ble_eq_true rfl) ?_
  intro p e s m below meth c A ls X _ K _ O hl
  have hl : lv_has ls 3 [(0, .ref (h 99 0 0)), (1, .int p1), (2, .int p2)] := hl
  have hx := X.1.1; have hb := X.1.2.1
  rw [M_X6_set] at hf
  refine lv_aload_n hx hb dX6_set_0 rfl (lv_at hl 0 rfl) ?_
  refine lv_iconst (v := 0) hx hb dX6_set_1 (by decide) ?_
  obtain ⟨σ_1, eσ_1, hf⟩ := lt1_s hf
  refine x_pI X K O 0 rfl LM_99 rfl rfl in_X6 tyX6_ok nmX6 (by decide) q1150 rfl rfl rfl dX6_set_2 (fun H locs O => ?_)
  rw [← eσ_1] at O
  refine lv_aload_n hx hb dX6_set_5 rfl (lv_at hl 0 rfl) ?_
  refine lv_iload_n hx hb dX6_set_6 rfl (lv_at hl 1 rfl) ?_
  refine lv_iconst (v := 0) hx hb dX6_set_7 (by decide) ?_
  refine lv_bipush (v := 22) hx hb dX6_set_8 (by decide) ?_
  obtain ⟨σ_2, r_3, hg, hf⟩ := bn2_s hf
  refine x_calli (x_runV (As := [.int p1, .int 0, .int 22]) (rest := []) X K O (xct_obj rfl LM_99) rfl (m_M_X6_isIn hg) EN_b EN_h (lw_V q1327 q1329 qs45 q124 q1330) 3 rfl hl.1 (Nat.le_of_ble_eq_true rfl) hdV_X6_isIn ⟨by decide, by decide⟩ ⟨Nat.le_refl _, Nat.le_refl _⟩ dX6_set_10) (fun r u H locs hp O _ => ?_)
  cases hp
  have O : XH D A s.heap h (xct LM okM h d σ_2) H locs := O
  refine lv_if_eq (tgt := 36) hx hb dX6_set_13 (by decide) (fun c_4 => ?_) (fun c_4 => ?_)
  · replace hf := if_t c_4 hf
    refine lv_iconst (v := 0) hx hb dX6_set_36 (by decide) ?_
    exact x_zret X O rfl rfl _ (Option.some.inj hf).symm rfl dX6_set_37
  · replace hf := if_f c_4 hf
    refine lv_iload_n hx hb dX6_set_16 rfl (lv_at hl 1 rfl) ?_
    refine lv_bipush (v := 10) hx hb dX6_set_17 (by decide) ?_
    refine lv_icmp_eq (tgt := 36) hx hb dX6_set_19 (by decide) (fun c_5 => ?_) (fun c_5 => ?_)
    · replace hf := if_t c_5 hf
      refine lv_iconst (v := 0) hx hb dX6_set_36 (by decide) ?_
      exact x_zret X O rfl rfl _ (Option.some.inj hf).symm rfl dX6_set_37
    · replace hf := if_f c_5 hf
      refine lv_aload_n hx hb dX6_set_22 rfl (lv_at hl 0 rfl) ?_
      refine lv_iload_n hx hb dX6_set_23 rfl (lv_at hl 2 rfl) ?_
      refine lv_iconst (v := 0) hx hb dX6_set_24 (by decide) ?_
      refine lv_aload_n hx hb dX6_set_25 rfl (lv_at hl 0 rfl) ?_
      refine lv_iload_n hx hb dX6_set_26 rfl (lv_at hl 1 rfl) ?_
      obtain ⟨σ_6, r_7, hg, hf⟩ := bn2_s hf
      refine x_calli (x_runV (As := [.int p1]) (rest := [.int 0, .int p2, .ref (h 99 0 0)]) X K O (xct_obj rfl LM_99) rfl (m_M_X6_mostOf hg) EN_b EN_h (lw_V q1347 q1349 qs48 q124 q1350) 1 rfl hl.1 (Nat.le_of_ble_eq_true rfl) hdV_X6_mostOf ⟨by decide, by decide⟩ ⟨Nat.le_refl _, Nat.le_refl _⟩ dX6_set_27) (fun r u H locs hp O _ => ?_)
      cases hp
      have O : XH D A s.heap h (xct LM okM h d σ_6) H locs := O
      obtain ⟨σ_8, r_9, hg, hf⟩ := bn2_s hf
      refine x_calli (x_runV (As := [.int p2, .int 0, .int r_7]) (rest := []) X K O (xct_obj rfl LM_99) rfl (m_M_X6_isIn hg) EN_b EN_h (lw_V q1327 q1329 qs45 q124 q1330) 3 rfl hl.1 (Nat.le_of_ble_eq_true rfl) hdV_X6_isIn ⟨by decide, by decide⟩ ⟨Nat.le_refl _, Nat.le_refl _⟩ dX6_set_30) (fun r u H locs hp O _ => ?_)
      cases hp
      have O : XH D A s.heap h (xct LM okM h d σ_8) H locs := O
      refine lv_if_ne (tgt := 38) hx hb dX6_set_33 (by decide) (fun c_10 => ?_) (fun c_10 => ?_)
      · replace hf := if_f c_10 hf
        refine lv_aload_n hx hb dX6_set_38 rfl (lv_at hl 0 rfl) ?_
        refine x_gF X K O 6 rfl LM_99 rfl rfl in_X6 (by decide) q1156 dX6_set_39 ?_
        refine lv_iload_n hx hb dX6_set_42 rfl (lv_at hl 1 rfl) ?_
        refine lv_iload_n hx hb dX6_set_43 rfl (lv_at hl 2 rfl) ?_
        obtain ⟨c_11, hf⟩ := ck_s hf
        obtain ⟨σ_12, eσ_12, hf⟩ := lt1_s hf
        refine x_ist X K O rfl LM_6 c_11 (j := (Int32.toNatClampNeg p1)) rfl dX6_set_44 (fun H locs O => ?_)
        rw [← eσ_12] at O
        refine lv_iconst (v := 1) hx hb dX6_set_45 (by decide) ?_
        exact x_zret X O rfl rfl _ (Option.some.inj hf).symm rfl dX6_set_46
      · replace hf := if_t c_10 hf
        refine lv_iconst (v := 0) hx hb dX6_set_36 (by decide) ?_
        exact x_zret X O rfl rfl _ (Option.some.inj hf).symm rfl dX6_set_37
def M_X6_types_b3 : Nat → ST → Int32 → Int32 → Option (ST)
  | 0, _, _, _ => none
  | n + 1, σ, x1, x2 =>
    (if x2 < 0 then some σ else ck (okI (gI σ 99 0 0 9) 400) (lt1 (sI σ 8 0 0 (Int32.toNatClampNeg (gI σ 99 0 0 9)) ((x1 >>> (x2 &&& 31)) &&& 255)) (fun σ_3 => lt1 (sI σ_3 99 0 0 9 ((gI σ_3 99 0 0 9) + 1)) (fun σ_4 => lt1 (x2 + (-8)) (fun x2_5 => (M_X6_types_b3 n) σ_4 x1 x2_5)))))
theorem w_M_X6_types_b3 (X : FX p m c meth s args RX6 cX6_types 3 none) (K : XK D d A s) {z : ST} : ∀ (n : Nat) (σ : ST) (x1 : Int32) (x2 : Int32) (ls : Array Slot) (H : Heap) (locs : List Loc), XH D A s.heap h (xct LM okM h d σ) H locs → lv_has ls 3 [(0, .ref (h 99 0 0)), (1, .int x1), (2, .int x2)] → M_X6_types_b3 n σ x1 x2 = some z → W p l e (rmD 0 0 0) s m args below meth c H locs 0 0 (MQ below (Qv D (pu z) (cw h LM okM d) A) args s 0 0 A) (F0 m 3 ls []) := by
  have hx := X.1.1; have hb := X.1.2.1
  intro n
  induction n with
  | zero =>
    intro σ x1 x2 ls H locs O hl hf
    exact absurd hf (fun q => by cases q)
  | succ n ih =>
    intro σ x1 x2 ls H locs O hl hf
    rw [M_X6_types_b3] at hf
    refine lv_iload_n hx hb dX6_types_3 rfl (lv_at hl 2 rfl) ?_
    refine lv_if_lt (tgt := 39) hx hb dX6_types_4 (by decide) (fun c_1 => ?_) (fun c_1 => ?_)
    · replace hf := if_t c_1 hf
      exact x_vret X O rfl _ (Option.some.inj hf).symm rfl dX6_types_39
    · replace hf := if_f c_1 hf
      refine lv_aload_n hx hb dX6_types_7 rfl (lv_at hl 0 rfl) ?_
      refine x_gF X K O 8 rfl LM_99 rfl rfl in_X6 (by decide) q1158 dX6_types_8 ?_
      refine lv_aload_n hx hb dX6_types_11 rfl (lv_at hl 0 rfl) ?_
      refine x_gI X K O 9 rfl LM_99 rfl rfl in_X6 (by decide) q1159 dX6_types_12 ?_
      refine lv_iload_n hx hb dX6_types_15 rfl (lv_at hl 1 rfl) ?_
      refine lv_iload_n hx hb dX6_types_16 rfl (lv_at hl 2 rfl) ?_
      refine lv_ishr hx hb dX6_types_17 ?_
      refine lv_sipush (v := 255) hx hb dX6_types_18 (by decide) ?_
      refine lv_iand hx hb dX6_types_21 ?_
      obtain ⟨c_2, hf⟩ := ck_s hf
      obtain ⟨σ_3, eσ_3, hf⟩ := lt1_s hf
      refine x_ist X K O rfl LM_8 c_2 (j := (Int32.toNatClampNeg (gI σ 99 0 0 9))) rfl dX6_types_22 (fun H locs O => ?_)
      rw [← eσ_3] at O
      refine lv_aload_n hx hb dX6_types_23 rfl (lv_at hl 0 rfl) ?_
      refine lv_aload_n hx hb dX6_types_24 rfl (lv_at hl 0 rfl) ?_
      refine x_gI X K O 9 rfl LM_99 rfl rfl in_X6 (by decide) q1159 dX6_types_25 ?_
      refine lv_iconst (v := 1) hx hb dX6_types_28 (by decide) ?_
      refine lv_iadd hx hb dX6_types_29 ?_
      obtain ⟨σ_4, eσ_4, hf⟩ := lt1_s hf
      refine x_pI X K O 9 rfl LM_99 rfl rfl in_X6 tyX6_ok nmX6 (by decide) q1159 rfl rfl rfl dX6_types_30 (fun H locs O => ?_)
      rw [← eσ_4] at O
      obtain ⟨x2_5, ex2_5, hf⟩ := lt1_s hf
      refine lv_iinc (v := x2_5) (lv' := [(2, .int x2_5), (0, .ref (h 99 0 0)), (1, .int x1)]) hx hb dX6_types_33 hl (k := 2) rfl (by rw [ex2_5]; rfl) (by decide) rfl (fun ls hl => ?_)
      refine lv_goto (tgt := 3) hx hb dX6_types_36 (by decide) ?_
      exact ih _ _ _ ls _ _ O (lv_sub hl [1, 2, 0] rfl) hf
def M_X6_types (σ : ST) (p1 : Int32) : Option (ST) :=
  M_X6_types_b3 FUEL σ p1 24
theorem m_M_X6_types {l : Launch} {D : va_G} {d : Nat → ClassId} {h : IX} {p1 : Int32} {σ : ST} {z : ST} (hf : M_X6_types σ p1 = some z) : XM l D d EN yX6_types cX6_types 3 none 0 0 0 [.ref (h 99 0 0), .int p1] h (xct LM okM h d σ) (Qv D (pu z) (cw h LM okM d)) := by
  refine XM.of (by decide +kernel) (Nat.le_of_ble_eq_true rfl) ?_
  intro p e s m below meth c A ls X _ K _ O hl
  have hl : lv_has ls 3 [(0, .ref (h 99 0 0)), (1, .int p1)] := hl
  have hx := X.1.1; have hb := X.1.2.1
  rw [M_X6_types] at hf
  refine lv_bipush (v := 24) hx hb dX6_types_0 (by decide) ?_
  refine lv_istore_n (lv' := [(2, .int 24), (0, .ref (h 99 0 0)), (1, .int p1)]) hx hb dX6_types_2 rfl hl (by decide) rfl (fun ls hl => ?_)
  exact w_M_X6_types_b3 X K _ _ _ _ ls _ _ O (lv_sub hl [1, 2, 0] rfl) hf
theorem hdV_X6_types : yX6_types.cls = RX6 ∧ (yX6_types.cls ≠ "java/lang/invoke/MethodHandle" ∧ yX6_types.cls ≠ "java/lang/invoke/VarHandle" ∧ (parseMethodDescriptor yX6_types.desc).map (fun d => d.parameters.length) = some 1) := by decide +kernel
def M_X6_feed (σ : ST) (p1 : Int32) (p2 : Int32) (p3 : Int32) (p4 : Int32) (p5 : Int32) : Option (ST × Int32) :=
  lt1 (sI σ 99 0 0 0 0) (fun σ_1 => (if (gI σ_1 99 0 0 9) ≤ 380 then bn1 (M_X6_types σ_1 p1) (fun σ_3 => bn1 (M_X6_types σ_3 p2) (fun σ_4 => bn1 (M_X6_types σ_4 p3) (fun σ_5 => bn1 (M_X6_types σ_5 p4) (fun σ_6 => bn1 (M_X6_types σ_6 p5) (fun σ_7 => some (σ_7, (gI σ_7 99 0 0 9))))))) else some (σ_1, (-1))))
theorem m_M_X6_feed {l : Launch} {D : va_G} {d : Nat → ClassId} {h : IX} {p1 : Int32} {p2 : Int32} {p3 : Int32} {p4 : Int32} {p5 : Int32} {σ : ST} {z : ST × Int32} (hf : M_X6_feed σ p1 p2 p3 p4 p5 = some z) : XM l D d EN yX6_feed cX6_feed 6 (some .int) 1 0 0 [.ref (h 99 0 0), .int p1, .int p2, .int p3, .int p4, .int p5] h (xct LM okM h d σ) (Qi D (pz z) (cw h LM okM d)) := by
  refine XM.of (by decide +kernel) (Nat.le_of_ble_eq_true rfl) ?_
  intro p e s m below meth c A ls X _ K _ O hl
  have hl : lv_has ls 6 [(0, .ref (h 99 0 0)), (1, .int p1), (2, .int p2), (3, .int p3), (4, .int p4), (5, .int p5)] := hl
  have hx := X.1.1; have hb := X.1.2.1
  rw [M_X6_feed] at hf
  refine lv_aload_n hx hb dX6_feed_0 rfl (lv_at hl 0 rfl) ?_
  refine lv_iconst (v := 0) hx hb dX6_feed_1 (by decide) ?_
  obtain ⟨σ_1, eσ_1, hf⟩ := lt1_s hf
  refine x_pI X K O 0 rfl LM_99 rfl rfl in_X6 tyX6_ok nmX6 (by decide) q1150 rfl rfl rfl dX6_feed_2 (fun H locs O => ?_)
  rw [← eσ_1] at O
  refine lv_aload_n hx hb dX6_feed_5 rfl (lv_at hl 0 rfl) ?_
  refine x_gI X K O 9 rfl LM_99 rfl rfl in_X6 (by decide) q1159 dX6_feed_6 ?_
  refine lv_sipush (v := 380) hx hb dX6_feed_9 (by decide) ?_
  refine lv_icmp_le (tgt := 17) hx hb dX6_feed_12 (by decide) (fun c_2 => ?_) (fun c_2 => ?_)
  · replace hf := if_t c_2 hf
    refine lv_aload_n hx hb dX6_feed_17 rfl (lv_at hl 0 rfl) ?_
    refine lv_iload_n hx hb dX6_feed_18 rfl (lv_at hl 1 rfl) ?_
    obtain ⟨σ_3, hg, hf⟩ := bn1_s hf
    refine x_callv (x_runV (As := [.int p1]) (rest := []) X K O (xct_obj rfl LM_99) rfl (m_M_X6_types hg) EN_b EN_h (lw_V q1355 q1357 qs49 q124 q1358) 1 rfl hl.1 (Nat.le_of_ble_eq_true rfl) hdV_X6_types ⟨by decide, by decide⟩ ⟨Nat.le_refl _, Nat.le_refl _⟩ dX6_feed_19) (fun u H locs hp O _ => ?_)
    cases hp
    have O : XH D A s.heap h (xct LM okM h d σ_3) H locs := O
    refine lv_aload_n hx hb dX6_feed_22 rfl (lv_at hl 0 rfl) ?_
    refine lv_iload_n hx hb dX6_feed_23 rfl (lv_at hl 2 rfl) ?_
    obtain ⟨σ_4, hg, hf⟩ := bn1_s hf
    refine x_callv (x_runV (As := [.int p2]) (rest := []) X K O (xct_obj rfl LM_99) rfl (m_M_X6_types hg) EN_b EN_h (lw_V q1355 q1357 qs49 q124 q1358) 1 rfl hl.1 (Nat.le_of_ble_eq_true rfl) hdV_X6_types ⟨by decide, by decide⟩ ⟨Nat.le_refl _, Nat.le_refl _⟩ dX6_feed_24) (fun u H locs hp O _ => ?_)
    cases hp
    have O : XH D A s.heap h (xct LM okM h d σ_4) H locs := O
    refine lv_aload_n hx hb dX6_feed_27 rfl (lv_at hl 0 rfl) ?_
    refine lv_iload_n hx hb dX6_feed_28 rfl (lv_at hl 3 rfl) ?_
    obtain ⟨σ_5, hg, hf⟩ := bn1_s hf
    refine x_callv (x_runV (As := [.int p3]) (rest := []) X K O (xct_obj rfl LM_99) rfl (m_M_X6_types hg) EN_b EN_h (lw_V q1355 q1357 qs49 q124 q1358) 1 rfl hl.1 (Nat.le_of_ble_eq_true rfl) hdV_X6_types ⟨by decide, by decide⟩ ⟨Nat.le_refl _, Nat.le_refl _⟩ dX6_feed_29) (fun u H locs hp O _ => ?_)
    cases hp
    have O : XH D A s.heap h (xct LM okM h d σ_5) H locs := O
    refine lv_aload_n hx hb dX6_feed_32 rfl (lv_at hl 0 rfl) ?_
    refine lv_iload hx hb dX6_feed_33 (lv_at hl 4 rfl) ?_
    obtain ⟨σ_6, hg, hf⟩ := bn1_s hf
    refine x_callv (x_runV (As := [.int p4]) (rest := []) X K O (xct_obj rfl LM_99) rfl (m_M_X6_types hg) EN_b EN_h (lw_V q1355 q1357 qs49 q124 q1358) 1 rfl hl.1 (Nat.le_of_ble_eq_true rfl) hdV_X6_types ⟨by decide, by decide⟩ ⟨Nat.le_refl _, Nat.le_refl _⟩ dX6_feed_35) (fun u H locs hp O _ => ?_)
    cases hp
    have O : XH D A s.heap h (xct LM okM h d σ_6) H locs := O
    refine lv_aload_n hx hb dX6_feed_38 rfl (lv_at hl 0 rfl) ?_
    refine lv_iload hx hb dX6_feed_39 (lv_at hl 5 rfl) ?_
    obtain ⟨σ_7, hg, hf⟩ := bn1_s hf
    refine x_callv (x_runV (As := [.int p5]) (rest := []) X K O (xct_obj rfl LM_99) rfl (m_M_X6_types hg) EN_b EN_h (lw_V q1355 q1357 qs49 q124 q1358) 1 rfl hl.1 (Nat.le_of_ble_eq_true rfl) hdV_X6_types ⟨by decide, by decide⟩ ⟨Nat.le_refl _, Nat.le_refl _⟩ dX6_feed_41) (fun u H locs hp O _ => ?_)
    cases hp
    have O : XH D A s.heap h (xct LM okM h d σ_7) H locs := O
    refine lv_aload_n hx hb dX6_feed_44 rfl (lv_at hl 0 rfl) ?_
    refine x_gI X K O 9 rfl LM_99 rfl rfl in_X6 (by decide) q1159 dX6_feed_45 ?_
    exact x_iret X O rfl _ (Option.some.inj hf).symm rfl dX6_feed_48
  · replace hf := if_f c_2 hf
    refine lv_iconst (v := (-1)) hx hb dX6_feed_15 (by decide) ?_
    exact x_iret X O rfl _ (Option.some.inj hf).symm rfl dX6_feed_16
def M_X6_end (σ : ST) (p1 : Int32) : Option (ST × Int32) :=
  lt1 (sI σ 99 0 0 0 0) (fun σ_1 => bn2 (M_X6_isIn σ_1 p1 0 (gI σ_1 99 0 0 9)) (fun σ_2 r_3 => (if r_3 = 0 then some (σ_2, 0) else lt1 (sI σ_2 99 0 0 9 p1) (fun σ_5 => some (σ_5, 1)))))
theorem m_M_X6_end {l : Launch} {D : va_G} {d : Nat → ClassId} {h : IX} {p1 : Int32} {σ : ST} {z : ST × Int32} (hf : M_X6_end σ p1 = some z) : XM l D d EN yX6_end cX6_end 2 (some .boolean) 1 0 0 [.ref (h 99 0 0), .int p1] h (xct LM okM h d σ) (Qi D (pz z) (cw h LM okM d)) := by
  refine XM.of (by decide +kernel) (Nat.le_of_ble_eq_true rfl) ?_
  intro p e s m below meth c A ls X _ K _ O hl
  have hl : lv_has ls 2 [(0, .ref (h 99 0 0)), (1, .int p1)] := hl
  have hx := X.1.1; have hb := X.1.2.1
  rw [M_X6_end] at hf
  refine lv_aload_n hx hb dX6_end_0 rfl (lv_at hl 0 rfl) ?_
  refine lv_iconst (v := 0) hx hb dX6_end_1 (by decide) ?_
  obtain ⟨σ_1, eσ_1, hf⟩ := lt1_s hf
  refine x_pI X K O 0 rfl LM_99 rfl rfl in_X6 tyX6_ok nmX6 (by decide) q1150 rfl rfl rfl dX6_end_2 (fun H locs O => ?_)
  rw [← eσ_1] at O
  refine lv_aload_n hx hb dX6_end_5 rfl (lv_at hl 0 rfl) ?_
  refine lv_iload_n hx hb dX6_end_6 rfl (lv_at hl 1 rfl) ?_
  refine lv_iconst (v := 0) hx hb dX6_end_7 (by decide) ?_
  refine lv_aload_n hx hb dX6_end_8 rfl (lv_at hl 0 rfl) ?_
  refine x_gI X K O 9 rfl LM_99 rfl rfl in_X6 (by decide) q1159 dX6_end_9 ?_
  obtain ⟨σ_2, r_3, hg, hf⟩ := bn2_s hf
  refine x_calli (x_runV (As := [.int p1, .int 0, .int (gI σ_1 99 0 0 9)]) (rest := []) X K O (xct_obj rfl LM_99) rfl (m_M_X6_isIn hg) EN_b EN_h (lw_V q1327 q1329 qs45 q124 q1330) 3 rfl hl.1 (Nat.le_of_ble_eq_true rfl) hdV_X6_isIn ⟨by decide, by decide⟩ ⟨Nat.le_refl _, Nat.le_refl _⟩ dX6_end_12) (fun r u H locs hp O _ => ?_)
  cases hp
  have O : XH D A s.heap h (xct LM okM h d σ_2) H locs := O
  refine lv_if_ne (tgt := 20) hx hb dX6_end_15 (by decide) (fun c_4 => ?_) (fun c_4 => ?_)
  · replace hf := if_f c_4 hf
    refine lv_aload_n hx hb dX6_end_20 rfl (lv_at hl 0 rfl) ?_
    refine lv_iload_n hx hb dX6_end_21 rfl (lv_at hl 1 rfl) ?_
    obtain ⟨σ_5, eσ_5, hf⟩ := lt1_s hf
    refine x_pI X K O 9 rfl LM_99 rfl rfl in_X6 tyX6_ok nmX6 (by decide) q1159 rfl rfl rfl dX6_end_22 (fun H locs O => ?_)
    rw [← eσ_5] at O
    refine lv_iconst (v := 1) hx hb dX6_end_25 (by decide) ?_
    exact x_zret X O rfl rfl _ (Option.some.inj hf).symm rfl dX6_end_26
  · replace hf := if_t c_4 hf
    refine lv_iconst (v := 0) hx hb dX6_end_18 (by decide) ?_
    exact x_zret X O rfl rfl _ (Option.some.inj hf).symm rfl dX6_end_19
def M_X6_raw (σ : ST) (p1 : Int32) : Option (ST × Int32) :=
  (if (gI σ 99 0 0 9) ≤ p1 then some (σ, (-1)) else ck (okI p1 400) (some (σ, (gI σ 8 0 0 (Int32.toNatClampNeg p1)))))
theorem m_M_X6_raw {l : Launch} {D : va_G} {d : Nat → ClassId} {h : IX} {p1 : Int32} {σ : ST} {z : ST × Int32} (hf : M_X6_raw σ p1 = some z) : XM l D d EN yX6_raw cX6_raw 2 (some .int) 0 0 0 [.ref (h 99 0 0), .int p1] h (xct LM okM h d σ) (Qi D (pz z) (cw h LM okM d)) := by
  refine XM.of (by decide +kernel) (Nat.le_of_ble_eq_true rfl) ?_
  intro p e s m below meth c A ls X _ K _ O hl
  have hl : lv_has ls 2 [(0, .ref (h 99 0 0)), (1, .int p1)] := hl
  have hx := X.1.1; have hb := X.1.2.1
  rw [M_X6_raw] at hf
  refine lv_iload_n hx hb dX6_raw_0 rfl (lv_at hl 1 rfl) ?_
  refine lv_aload_n hx hb dX6_raw_1 rfl (lv_at hl 0 rfl) ?_
  refine x_gI X K O 9 rfl LM_99 rfl rfl in_X6 (by decide) q1159 dX6_raw_2 ?_
  refine lv_icmp_ge (tgt := 17) hx hb dX6_raw_5 (by decide) (fun c_1 => ?_) (fun c_1 => ?_)
  · replace hf := if_t c_1 hf
    refine lv_iconst (v := (-1)) hx hb dX6_raw_17 (by decide) ?_
    exact x_iret X O rfl _ (Option.some.inj hf).symm rfl dX6_raw_18
  · replace hf := if_f c_1 hf
    refine lv_aload_n hx hb dX6_raw_8 rfl (lv_at hl 0 rfl) ?_
    refine x_gF X K O 8 rfl LM_99 rfl rfl in_X6 (by decide) q1158 dX6_raw_9 ?_
    refine lv_iload_n hx hb dX6_raw_12 rfl (lv_at hl 1 rfl) ?_
    obtain ⟨c_2, hf⟩ := ck_s hf
    refine x_ild X K O rfl LM_8 c_2 (j := (Int32.toNatClampNeg p1)) rfl dX6_raw_13 ?_
    refine lv_goto (tgt := 18) hx hb dX6_raw_14 (by decide) ?_
    exact x_iret X O rfl _ (Option.some.inj hf).symm rfl dX6_raw_18
def M_X6_isLetter_b24 (σ : ST) : Option (ST × Int32) :=
  some (σ, 1)
theorem w_M_X6_isLetter_b24 (X : FX p m c meth s args RX6 cX6_isLetter 2 (some .boolean)) (K : XK D d A s) {z : ST × Int32} (σ : ST) (ls : Array Slot) (H : Heap) (locs : List Loc) (O : XH D A s.heap h (xct LM okM h d σ) H locs) (hl : lv_has ls 2 []) (hf : M_X6_isLetter_b24 σ = some z) : W p l e (rmD 1 0 0) s m args below meth c H locs 0 0 (MQ below (Qi D (pz z) (cw h LM okM d) A) args s 0 0 A) (F0 m 24 ls []) := by
  have hx := X.1.1; have hb := X.1.2.1
  rw [M_X6_isLetter_b24] at hf
  refine lv_iconst (v := 1) hx hb dX6_isLetter_24 (by decide) ?_
  refine lv_goto (tgt := 29) hx hb dX6_isLetter_25 (by decide) ?_
  exact x_zret X O rfl rfl _ (Option.some.inj hf).symm rfl dX6_isLetter_29
def M_X6_isLetter (σ : ST) (p1 : Int32) : Option (ST × Int32) :=
  bn2 (M_X6_isIn σ p1 97 122) (fun σ_1 r_2 => (if r_2 = 0 then bn2 (M_X6_isIn σ_1 p1 65 90) (fun σ_4 r_5 => (if r_5 = 0 then some (σ_4, 0) else M_X6_isLetter_b24 σ_4)) else M_X6_isLetter_b24 σ_1))
theorem m_M_X6_isLetter {l : Launch} {D : va_G} {d : Nat → ClassId} {h : IX} {p1 : Int32} {σ : ST} {z : ST × Int32} (hf : M_X6_isLetter σ p1 = some z) : XM l D d EN yX6_isLetter cX6_isLetter 2 (some .boolean) 1 0 0 [.ref (h 99 0 0), .int p1] h (xct LM okM h d σ) (Qi D (pz z) (cw h LM okM d)) := by
  refine XM.of (by decide +kernel) (Nat.le_of_ble_eq_true rfl) ?_
  intro p e s m below meth c A ls X _ K _ O hl
  have hl : lv_has ls 2 [(0, .ref (h 99 0 0)), (1, .int p1)] := hl
  have hx := X.1.1; have hb := X.1.2.1
  rw [M_X6_isLetter] at hf
  refine lv_aload_n hx hb dX6_isLetter_0 rfl (lv_at hl 0 rfl) ?_
  refine lv_iload_n hx hb dX6_isLetter_1 rfl (lv_at hl 1 rfl) ?_
  refine lv_bipush (v := 97) hx hb dX6_isLetter_2 (by decide) ?_
  refine lv_bipush (v := 122) hx hb dX6_isLetter_4 (by decide) ?_
  obtain ⟨σ_1, r_2, hg, hf⟩ := bn2_s hf
  refine x_calli (x_runV (As := [.int p1, .int 97, .int 122]) (rest := []) X K O (xct_obj rfl LM_99) rfl (m_M_X6_isIn hg) EN_b EN_h (lw_V q1327 q1329 qs45 q124 q1330) 3 rfl hl.1 (Nat.le_of_ble_eq_true rfl) hdV_X6_isIn ⟨by decide, by decide⟩ ⟨Nat.le_refl _, Nat.le_refl _⟩ dX6_isLetter_6) (fun r u H locs hp O _ => ?_)
  cases hp
  have O : XH D A s.heap h (xct LM okM h d σ_1) H locs := O
  refine lv_if_ne (tgt := 24) hx hb dX6_isLetter_9 (by decide) (fun c_3 => ?_) (fun c_3 => ?_)
  · replace hf := if_f c_3 hf
    exact w_M_X6_isLetter_b24 X K _ ls _ _ O (lv_sub hl [] rfl) hf
  · replace hf := if_t c_3 hf
    refine lv_aload_n hx hb dX6_isLetter_12 rfl (lv_at hl 0 rfl) ?_
    refine lv_iload_n hx hb dX6_isLetter_13 rfl (lv_at hl 1 rfl) ?_
    refine lv_bipush (v := 65) hx hb dX6_isLetter_14 (by decide) ?_
    refine lv_bipush (v := 90) hx hb dX6_isLetter_16 (by decide) ?_
    obtain ⟨σ_4, r_5, hg, hf⟩ := bn2_s hf
    refine x_calli (x_runV (As := [.int p1, .int 65, .int 90]) (rest := []) X K O (xct_obj rfl LM_99) rfl (m_M_X6_isIn hg) EN_b EN_h (lw_V q1327 q1329 qs45 q124 q1330) 3 rfl hl.1 (Nat.le_of_ble_eq_true rfl) hdV_X6_isIn ⟨by decide, by decide⟩ ⟨Nat.le_refl _, Nat.le_refl _⟩ dX6_isLetter_18) (fun r u H locs hp O _ => ?_)
    cases hp
    have O : XH D A s.heap h (xct LM okM h d σ_4) H locs := O
    refine lv_if_eq (tgt := 28) hx hb dX6_isLetter_21 (by decide) (fun c_6 => ?_) (fun c_6 => ?_)
    · replace hf := if_t c_6 hf
      refine lv_iconst (v := 0) hx hb dX6_isLetter_28 (by decide) ?_
      exact x_zret X O rfl rfl _ (Option.some.inj hf).symm rfl dX6_isLetter_29
    · replace hf := if_f c_6 hf
      exact w_M_X6_isLetter_b24 X K _ ls _ _ O (lv_sub hl [] rfl) hf
def M_X6_wordAt_b93 (kb5 : ST → Int32 → Int32 → Int32 → Int32 → Option (ST × Int32)) : Nat → ST → Int32 → Int32 → Int32 → Int32 → Option (ST × Int32)
  | 0, _, _, _, _, _ => none
  | n + 1, σ, x1, x2, x3, x4 =>
    ck (okI x4 122) ((if (gI σ 14 0 0 (Int32.toNatClampNeg x4)) = 32 then kb5 σ x1 x2 x3 x4 else lt1 (x4 + 1) (fun x4_3 => (M_X6_wordAt_b93 kb5 n) σ x1 x2 x3 x4_3)))
theorem w_M_X6_wordAt_b93 (X : FX p m c meth s args RX6 cX6_wordAt 6 (some .int)) (K : XK D d A s) {z : ST × Int32} {kb5 : ST → Int32 → Int32 → Int32 → Int32 → Option (ST × Int32)} (hkb5 : ∀ (σ : ST) (x1 : Int32) (x2 : Int32) (x3 : Int32) (x4 : Int32) (ls : Array Slot) (H : Heap) (locs : List Loc), XH D A s.heap h (xct LM okM h d σ) H locs → lv_has ls 6 [(0, .ref (h 99 0 0)), (1, .int x1), (2, .int x2), (3, .int x3), (4, .int x4)] → kb5 σ x1 x2 x3 x4 = some z → W p l e (rmD 0 0 0) s m args below meth c H locs 0 0 (MQ below (Qi D (pz z) (cw h LM okM d) A) args s 0 0 A) (F0 m 5 ls [])) : ∀ (n : Nat) (σ : ST) (x1 : Int32) (x2 : Int32) (x3 : Int32) (x4 : Int32) (ls : Array Slot) (H : Heap) (locs : List Loc), XH D A s.heap h (xct LM okM h d σ) H locs → lv_has ls 6 [(0, .ref (h 99 0 0)), (1, .int x1), (2, .int x2), (3, .int x3), (4, .int x4)] → M_X6_wordAt_b93 kb5 n σ x1 x2 x3 x4 = some z → W p l e (rmD 0 0 0) s m args below meth c H locs 0 0 (MQ below (Qi D (pz z) (cw h LM okM d) A) args s 0 0 A) (F0 m 93 ls []) := by
  have hx := X.1.1; have hb := X.1.2.1
  intro n
  induction n with
  | zero =>
    intro σ x1 x2 x3 x4 ls H locs O hl hf
    exact absurd hf (fun q => by cases q)
  | succ n ih =>
    intro σ x1 x2 x3 x4 ls H locs O hl hf
    rw [M_X6_wordAt_b93] at hf
    refine lv_aload_n hx hb dX6_wordAt_93 rfl (lv_at hl 0 rfl) ?_
    refine x_gF X K O 14 rfl LM_99 rfl rfl in_X6 (by decide) q1164 dX6_wordAt_94 ?_
    refine lv_iload hx hb dX6_wordAt_97 (lv_at hl 4 rfl) ?_
    obtain ⟨c_1, hf⟩ := ck_s hf
    refine x_ild X K O rfl LM_14 c_1 (j := (Int32.toNatClampNeg x4)) rfl dX6_wordAt_99 ?_
    refine lv_bipush (v := 32) hx hb dX6_wordAt_100 (by decide) ?_
    refine lv_icmp_eq (tgt := 114) hx hb dX6_wordAt_102 (by decide) (fun c_2 => ?_) (fun c_2 => ?_)
    · replace hf := if_t c_2 hf
      refine lv_goto (tgt := 5) hx hb dX6_wordAt_114 (by decide) ?_
      exact hkb5 _ _ _ _ _ ls _ _ O (lv_sub hl [0, 1, 2, 3, 4] rfl) hf
    · replace hf := if_f c_2 hf
      refine lv_iload hx hb dX6_wordAt_105 (lv_at hl 4 rfl) ?_
      refine lv_iconst (v := 1) hx hb dX6_wordAt_107 (by decide) ?_
      refine lv_iadd hx hb dX6_wordAt_108 ?_
      obtain ⟨x4_3, ex4_3, hf⟩ := lt1_s hf
      refine x_top (w := .int x4_3) (by rw [ex4_3]) ?_
      refine lv_istore (lv' := [(4, .int x4_3), (0, .ref (h 99 0 0)), (1, .int x1), (2, .int x2), (3, .int x3)]) hx hb dX6_wordAt_109 hl (by decide) rfl (fun ls hl => ?_)
      refine lv_goto (tgt := 93) hx hb dX6_wordAt_111 (by decide) ?_
      exact ih _ _ _ _ _ ls _ _ O (lv_sub hl [1, 2, 3, 4, 0] rfl) hf
def M_X6_wordAt_b87 (kb5 : ST → Int32 → Int32 → Int32 → Int32 → Option (ST × Int32)) (σ : ST) (x1 : Int32) (x2 : Int32) (x3 : Int32) (x4 : Int32) : Option (ST × Int32) :=
  lt1 (x4 + 1) (fun x4_1 => M_X6_wordAt_b93 kb5 FUEL σ x1 x2 x3 x4_1)
theorem w_M_X6_wordAt_b87 (X : FX p m c meth s args RX6 cX6_wordAt 6 (some .int)) (K : XK D d A s) {z : ST × Int32} {kb5 : ST → Int32 → Int32 → Int32 → Int32 → Option (ST × Int32)} (hkb5 : ∀ (σ : ST) (x1 : Int32) (x2 : Int32) (x3 : Int32) (x4 : Int32) (ls : Array Slot) (H : Heap) (locs : List Loc), XH D A s.heap h (xct LM okM h d σ) H locs → lv_has ls 6 [(0, .ref (h 99 0 0)), (1, .int x1), (2, .int x2), (3, .int x3), (4, .int x4)] → kb5 σ x1 x2 x3 x4 = some z → W p l e (rmD 0 0 0) s m args below meth c H locs 0 0 (MQ below (Qi D (pz z) (cw h LM okM d) A) args s 0 0 A) (F0 m 5 ls [])) (σ : ST) (x1 : Int32) (x2 : Int32) (x3 : Int32) (x4 : Int32) (ls : Array Slot) (H : Heap) (locs : List Loc) (O : XH D A s.heap h (xct LM okM h d σ) H locs) (hl : lv_has ls 6 [(0, .ref (h 99 0 0)), (1, .int x1), (2, .int x2), (3, .int x3), (4, .int x4)]) (hf : M_X6_wordAt_b87 kb5 σ x1 x2 x3 x4 = some z) : W p l e (rmD 0 0 0) s m args below meth c H locs 0 0 (MQ below (Qi D (pz z) (cw h LM okM d) A) args s 0 0 A) (F0 m 87 ls []) := by
  have hx := X.1.1; have hb := X.1.2.1
  rw [M_X6_wordAt_b87] at hf
  refine lv_iload hx hb dX6_wordAt_87 (lv_at hl 4 rfl) ?_
  refine lv_iconst (v := 1) hx hb dX6_wordAt_89 (by decide) ?_
  refine lv_iadd hx hb dX6_wordAt_90 ?_
  obtain ⟨x4_1, ex4_1, hf⟩ := lt1_s hf
  refine x_top (w := .int x4_1) (by rw [ex4_1]) ?_
  refine lv_istore (lv' := [(4, .int x4_1), (0, .ref (h 99 0 0)), (1, .int x1), (2, .int x2), (3, .int x3)]) hx hb dX6_wordAt_91 hl (by decide) rfl (fun ls hl => ?_)
  exact w_M_X6_wordAt_b93 X K hkb5 _ _ _ _ _ _ ls _ _ O (lv_sub hl [1, 2, 3, 4, 0] rfl) hf
def M_X6_wordAt_b60 (kb5 : ST → Int32 → Int32 → Int32 → Int32 → Option (ST × Int32)) (σ : ST) (x1 : Int32) (x2 : Int32) (x3 : Int32) (x4 : Int32) (x5 : Int32) : Option (ST × Int32) :=
  (if (x1 + x5) = x2 then ck (okI ((x4 + 1) + x5) 122) ((if (gI σ 14 0 0 (Int32.toNatClampNeg ((x4 + 1) + x5))) = 32 then some (σ, x3) else M_X6_wordAt_b87 kb5 σ x1 x2 x3 x4)) else M_X6_wordAt_b87 kb5 σ x1 x2 x3 x4)
theorem w_M_X6_wordAt_b60 (X : FX p m c meth s args RX6 cX6_wordAt 6 (some .int)) (K : XK D d A s) {z : ST × Int32} {kb5 : ST → Int32 → Int32 → Int32 → Int32 → Option (ST × Int32)} (hkb5 : ∀ (σ : ST) (x1 : Int32) (x2 : Int32) (x3 : Int32) (x4 : Int32) (ls : Array Slot) (H : Heap) (locs : List Loc), XH D A s.heap h (xct LM okM h d σ) H locs → lv_has ls 6 [(0, .ref (h 99 0 0)), (1, .int x1), (2, .int x2), (3, .int x3), (4, .int x4)] → kb5 σ x1 x2 x3 x4 = some z → W p l e (rmD 0 0 0) s m args below meth c H locs 0 0 (MQ below (Qi D (pz z) (cw h LM okM d) A) args s 0 0 A) (F0 m 5 ls [])) (σ : ST) (x1 : Int32) (x2 : Int32) (x3 : Int32) (x4 : Int32) (x5 : Int32) (ls : Array Slot) (H : Heap) (locs : List Loc) (O : XH D A s.heap h (xct LM okM h d σ) H locs) (hl : lv_has ls 6 [(0, .ref (h 99 0 0)), (1, .int x1), (2, .int x2), (3, .int x3), (4, .int x4), (5, .int x5)]) (hf : M_X6_wordAt_b60 kb5 σ x1 x2 x3 x4 x5 = some z) : W p l e (rmD 0 0 0) s m args below meth c H locs 0 0 (MQ below (Qi D (pz z) (cw h LM okM d) A) args s 0 0 A) (F0 m 60 ls []) := by
  have hx := X.1.1; have hb := X.1.2.1
  rw [M_X6_wordAt_b60] at hf
  refine lv_iload_n hx hb dX6_wordAt_60 rfl (lv_at hl 1 rfl) ?_
  refine lv_iload hx hb dX6_wordAt_61 (lv_at hl 5 rfl) ?_
  refine lv_iadd hx hb dX6_wordAt_63 ?_
  refine lv_iload_n hx hb dX6_wordAt_64 rfl (lv_at hl 2 rfl) ?_
  refine lv_icmp_ne (tgt := 87) hx hb dX6_wordAt_65 (by decide) (fun c_1 => ?_) (fun c_1 => ?_)
  · replace hf := if_f c_1 hf
    exact w_M_X6_wordAt_b87 X K hkb5 _ _ _ _ _ ls _ _ O (lv_sub hl [0, 1, 2, 3, 4] rfl) hf
  · replace hf := if_t c_1 hf
    refine lv_aload_n hx hb dX6_wordAt_68 rfl (lv_at hl 0 rfl) ?_
    refine x_gF X K O 14 rfl LM_99 rfl rfl in_X6 (by decide) q1164 dX6_wordAt_69 ?_
    refine lv_iload hx hb dX6_wordAt_72 (lv_at hl 4 rfl) ?_
    refine lv_iconst (v := 1) hx hb dX6_wordAt_74 (by decide) ?_
    refine lv_iadd hx hb dX6_wordAt_75 ?_
    refine lv_iload hx hb dX6_wordAt_76 (lv_at hl 5 rfl) ?_
    refine lv_iadd hx hb dX6_wordAt_78 ?_
    obtain ⟨c_2, hf⟩ := ck_s hf
    refine x_ild X K O rfl LM_14 c_2 (j := (Int32.toNatClampNeg ((x4 + 1) + x5))) rfl dX6_wordAt_79 ?_
    refine lv_bipush (v := 32) hx hb dX6_wordAt_80 (by decide) ?_
    refine lv_icmp_ne (tgt := 87) hx hb dX6_wordAt_82 (by decide) (fun c_3 => ?_) (fun c_3 => ?_)
    · replace hf := if_f c_3 hf
      exact w_M_X6_wordAt_b87 X K hkb5 _ _ _ _ _ ls _ _ O (lv_sub hl [0, 1, 2, 3, 4] rfl) hf
    · replace hf := if_t c_3 hf
      refine lv_iload_n hx hb dX6_wordAt_85 rfl (lv_at hl 3 rfl) ?_
      exact x_iret X O rfl _ (Option.some.inj hf).symm rfl dX6_wordAt_86
def M_X6_wordAt_b19 (kb5 : ST → Int32 → Int32 → Int32 → Int32 → Option (ST × Int32)) : Nat → ST → Int32 → Int32 → Int32 → Int32 → Int32 → Option (ST × Int32)
  | 0, _, _, _, _, _, _ => none
  | n + 1, σ, x1, x2, x3, x4, x5 =>
    (if x2 ≤ (x1 + x5) then M_X6_wordAt_b60 kb5 σ x1 x2 x3 x4 x5 else ck (okI ((x4 + 1) + x5) 122) (ck (okI (x1 + x5) 400) ((if (gI σ 14 0 0 (Int32.toNatClampNeg ((x4 + 1) + x5))) = (gI σ 8 0 0 (Int32.toNatClampNeg (x1 + x5))) then lt1 (x5 + 1) (fun x5_5 => (M_X6_wordAt_b19 kb5 n) σ x1 x2 x3 x4 x5_5) else M_X6_wordAt_b60 kb5 σ x1 x2 x3 x4 x5))))
theorem w_M_X6_wordAt_b19 (X : FX p m c meth s args RX6 cX6_wordAt 6 (some .int)) (K : XK D d A s) {z : ST × Int32} {kb5 : ST → Int32 → Int32 → Int32 → Int32 → Option (ST × Int32)} (hkb5 : ∀ (σ : ST) (x1 : Int32) (x2 : Int32) (x3 : Int32) (x4 : Int32) (ls : Array Slot) (H : Heap) (locs : List Loc), XH D A s.heap h (xct LM okM h d σ) H locs → lv_has ls 6 [(0, .ref (h 99 0 0)), (1, .int x1), (2, .int x2), (3, .int x3), (4, .int x4)] → kb5 σ x1 x2 x3 x4 = some z → W p l e (rmD 0 0 0) s m args below meth c H locs 0 0 (MQ below (Qi D (pz z) (cw h LM okM d) A) args s 0 0 A) (F0 m 5 ls [])) : ∀ (n : Nat) (σ : ST) (x1 : Int32) (x2 : Int32) (x3 : Int32) (x4 : Int32) (x5 : Int32) (ls : Array Slot) (H : Heap) (locs : List Loc), XH D A s.heap h (xct LM okM h d σ) H locs → lv_has ls 6 [(0, .ref (h 99 0 0)), (1, .int x1), (2, .int x2), (3, .int x3), (4, .int x4), (5, .int x5)] → M_X6_wordAt_b19 kb5 n σ x1 x2 x3 x4 x5 = some z → W p l e (rmD 0 0 0) s m args below meth c H locs 0 0 (MQ below (Qi D (pz z) (cw h LM okM d) A) args s 0 0 A) (F0 m 19 ls []) := by
  have hx := X.1.1; have hb := X.1.2.1
  intro n
  induction n with
  | zero =>
    intro σ x1 x2 x3 x4 x5 ls H locs O hl hf
    exact absurd hf (fun q => by cases q)
  | succ n ih =>
    intro σ x1 x2 x3 x4 x5 ls H locs O hl hf
    rw [M_X6_wordAt_b19] at hf
    refine lv_iload_n hx hb dX6_wordAt_19 rfl (lv_at hl 1 rfl) ?_
    refine lv_iload hx hb dX6_wordAt_20 (lv_at hl 5 rfl) ?_
    refine lv_iadd hx hb dX6_wordAt_22 ?_
    refine lv_iload_n hx hb dX6_wordAt_23 rfl (lv_at hl 2 rfl) ?_
    refine lv_icmp_ge (tgt := 60) hx hb dX6_wordAt_24 (by decide) (fun c_1 => ?_) (fun c_1 => ?_)
    · replace hf := if_t c_1 hf
      exact w_M_X6_wordAt_b60 X K hkb5 _ _ _ _ _ _ ls _ _ O (lv_sub hl [0, 1, 2, 3, 4, 5] rfl) hf
    · replace hf := if_f c_1 hf
      refine lv_aload_n hx hb dX6_wordAt_27 rfl (lv_at hl 0 rfl) ?_
      refine x_gF X K O 14 rfl LM_99 rfl rfl in_X6 (by decide) q1164 dX6_wordAt_28 ?_
      refine lv_iload hx hb dX6_wordAt_31 (lv_at hl 4 rfl) ?_
      refine lv_iconst (v := 1) hx hb dX6_wordAt_33 (by decide) ?_
      refine lv_iadd hx hb dX6_wordAt_34 ?_
      refine lv_iload hx hb dX6_wordAt_35 (lv_at hl 5 rfl) ?_
      refine lv_iadd hx hb dX6_wordAt_37 ?_
      obtain ⟨c_2, hf⟩ := ck_s hf
      refine x_ild X K O rfl LM_14 c_2 (j := (Int32.toNatClampNeg ((x4 + 1) + x5))) rfl dX6_wordAt_38 ?_
      refine lv_aload_n hx hb dX6_wordAt_39 rfl (lv_at hl 0 rfl) ?_
      refine x_gF X K O 8 rfl LM_99 rfl rfl in_X6 (by decide) q1158 dX6_wordAt_40 ?_
      refine lv_iload_n hx hb dX6_wordAt_43 rfl (lv_at hl 1 rfl) ?_
      refine lv_iload hx hb dX6_wordAt_44 (lv_at hl 5 rfl) ?_
      refine lv_iadd hx hb dX6_wordAt_46 ?_
      obtain ⟨c_3, hf⟩ := ck_s hf
      refine x_ild X K O rfl LM_8 c_3 (j := (Int32.toNatClampNeg (x1 + x5))) rfl dX6_wordAt_47 ?_
      refine lv_icmp_ne (tgt := 60) hx hb dX6_wordAt_48 (by decide) (fun c_4 => ?_) (fun c_4 => ?_)
      · replace hf := if_f c_4 hf
        exact w_M_X6_wordAt_b60 X K hkb5 _ _ _ _ _ _ ls _ _ O (lv_sub hl [0, 1, 2, 3, 4, 5] rfl) hf
      · replace hf := if_t c_4 hf
        refine lv_iload hx hb dX6_wordAt_51 (lv_at hl 5 rfl) ?_
        refine lv_iconst (v := 1) hx hb dX6_wordAt_53 (by decide) ?_
        refine lv_iadd hx hb dX6_wordAt_54 ?_
        obtain ⟨x5_5, ex5_5, hf⟩ := lt1_s hf
        refine x_top (w := .int x5_5) (by rw [ex5_5]) ?_
        refine lv_istore (lv' := [(5, .int x5_5), (0, .ref (h 99 0 0)), (1, .int x1), (2, .int x2), (3, .int x3), (4, .int x4)]) hx hb dX6_wordAt_55 hl (by decide) rfl (fun ls hl => ?_)
        refine lv_goto (tgt := 19) hx hb dX6_wordAt_57 (by decide) ?_
        exact ih _ _ _ _ _ _ ls _ _ O (lv_sub hl [1, 2, 3, 4, 5, 0] rfl) hf
def M_X6_wordAt_b5 : Nat → ST → Int32 → Int32 → Int32 → Int32 → Option (ST × Int32)
  | 0, _, _, _, _, _ => none
  | n + 1, σ, x1, x2, x3, x4 =>
    (if 121 ≤ x4 then some (σ, (-1)) else lt1 (x3 + 1) (fun x3_2 => M_X6_wordAt_b19 (M_X6_wordAt_b5 n) FUEL σ x1 x2 x3_2 x4 0))
theorem w_M_X6_wordAt_b5 (X : FX p m c meth s args RX6 cX6_wordAt 6 (some .int)) (K : XK D d A s) {z : ST × Int32} : ∀ (n : Nat) (σ : ST) (x1 : Int32) (x2 : Int32) (x3 : Int32) (x4 : Int32) (ls : Array Slot) (H : Heap) (locs : List Loc), XH D A s.heap h (xct LM okM h d σ) H locs → lv_has ls 6 [(0, .ref (h 99 0 0)), (1, .int x1), (2, .int x2), (3, .int x3), (4, .int x4)] → M_X6_wordAt_b5 n σ x1 x2 x3 x4 = some z → W p l e (rmD 0 0 0) s m args below meth c H locs 0 0 (MQ below (Qi D (pz z) (cw h LM okM d) A) args s 0 0 A) (F0 m 5 ls []) := by
  have hx := X.1.1; have hb := X.1.2.1
  intro n
  induction n with
  | zero =>
    intro σ x1 x2 x3 x4 ls H locs O hl hf
    exact absurd hf (fun q => by cases q)
  | succ n ih =>
    intro σ x1 x2 x3 x4 ls H locs O hl hf
    rw [M_X6_wordAt_b5] at hf
    refine lv_iload hx hb dX6_wordAt_5 (lv_at hl 4 rfl) ?_
    refine lv_bipush (v := 121) hx hb dX6_wordAt_7 (by decide) ?_
    refine lv_icmp_ge (tgt := 117) hx hb dX6_wordAt_9 (by decide) (fun c_1 => ?_) (fun c_1 => ?_)
    · replace hf := if_t c_1 hf
      refine lv_iconst (v := (-1)) hx hb dX6_wordAt_117 (by decide) ?_
      exact x_iret X O rfl _ (Option.some.inj hf).symm rfl dX6_wordAt_118
    · replace hf := if_f c_1 hf
      refine lv_iconst (v := 0) hx hb dX6_wordAt_12 (by decide) ?_
      refine lv_istore (lv' := [(5, .int 0), (0, .ref (h 99 0 0)), (1, .int x1), (2, .int x2), (3, .int x3), (4, .int x4)]) hx hb dX6_wordAt_13 hl (by decide) rfl (fun ls hl => ?_)
      refine lv_iload_n hx hb dX6_wordAt_15 rfl (lv_at hl 4 rfl) ?_
      refine lv_iconst (v := 1) hx hb dX6_wordAt_16 (by decide) ?_
      refine lv_iadd hx hb dX6_wordAt_17 ?_
      obtain ⟨x3_2, ex3_2, hf⟩ := lt1_s hf
      refine x_top (w := .int x3_2) (by rw [ex3_2]) ?_
      refine lv_istore_n (lv' := [(3, .int x3_2), (5, .int 0), (0, .ref (h 99 0 0)), (1, .int x1), (2, .int x2), (4, .int x4)]) hx hb dX6_wordAt_18 rfl hl (by decide) rfl (fun ls hl => ?_)
      exact w_M_X6_wordAt_b19 X K ih _ _ _ _ _ _ _ ls _ _ O (lv_sub hl [2, 3, 4, 0, 5, 1] rfl) hf
def M_X6_wordAt (σ : ST) (p1 : Int32) (p2 : Int32) : Option (ST × Int32) :=
  M_X6_wordAt_b5 FUEL σ p1 p2 (-1) 0
theorem m_M_X6_wordAt {l : Launch} {D : va_G} {d : Nat → ClassId} {h : IX} {p1 : Int32} {p2 : Int32} {σ : ST} {z : ST × Int32} (hf : M_X6_wordAt σ p1 p2 = some z) : XM l D d EN yX6_wordAt cX6_wordAt 6 (some .int) 0 0 0 [.ref (h 99 0 0), .int p1, .int p2] h (xct LM okM h d σ) (Qi D (pz z) (cw h LM okM d)) := by
  refine XM.of (by decide +kernel) (Nat.le_of_ble_eq_true rfl) ?_
  intro p e s m below meth c A ls X _ K _ O hl
  have hl : lv_has ls 6 [(0, .ref (h 99 0 0)), (1, .int p1), (2, .int p2)] := hl
  have hx := X.1.1; have hb := X.1.2.1
  rw [M_X6_wordAt] at hf
  refine lv_iconst (v := (-1)) hx hb dX6_wordAt_0 (by decide) ?_
  refine lv_istore_n (lv' := [(3, .int (-1)), (0, .ref (h 99 0 0)), (1, .int p1), (2, .int p2)]) hx hb dX6_wordAt_1 rfl hl (by decide) rfl (fun ls hl => ?_)
  refine lv_iconst (v := 0) hx hb dX6_wordAt_2 (by decide) ?_
  refine lv_istore (lv' := [(4, .int 0), (3, .int (-1)), (0, .ref (h 99 0 0)), (1, .int p1), (2, .int p2)]) hx hb dX6_wordAt_3 hl (by decide) rfl (fun ls hl => ?_)
  exact w_M_X6_wordAt_b5 X K _ _ _ _ _ _ ls _ _ O (lv_sub hl [2, 3, 4, 1, 0] rfl) hf
def M_X6_isDigit (σ : ST) (p1 : Int32) : Option (ST × Int32) :=
  bn2 (M_X6_isIn σ p1 48 57) (fun σ_1 r_2 => ck (okZ r_2) (some (σ_1, r_2)))
theorem m_M_X6_isDigit {l : Launch} {D : va_G} {d : Nat → ClassId} {h : IX} {p1 : Int32} {σ : ST} {z : ST × Int32} (hf : M_X6_isDigit σ p1 = some z) : XM l D d EN yX6_isDigit cX6_isDigit 2 (some .boolean) 1 0 0 [.ref (h 99 0 0), .int p1] h (xct LM okM h d σ) (Qi D (pz z) (cw h LM okM d)) := by
  refine XM.of (by decide +kernel) (Nat.le_of_ble_eq_true rfl) ?_
  intro p e s m below meth c A ls X _ K _ O hl
  have hl : lv_has ls 2 [(0, .ref (h 99 0 0)), (1, .int p1)] := hl
  have hx := X.1.1; have hb := X.1.2.1
  rw [M_X6_isDigit] at hf
  refine lv_aload_n hx hb dX6_isDigit_0 rfl (lv_at hl 0 rfl) ?_
  refine lv_iload_n hx hb dX6_isDigit_1 rfl (lv_at hl 1 rfl) ?_
  refine lv_bipush (v := 48) hx hb dX6_isDigit_2 (by decide) ?_
  refine lv_bipush (v := 57) hx hb dX6_isDigit_4 (by decide) ?_
  obtain ⟨σ_1, r_2, hg, hf⟩ := bn2_s hf
  refine x_calli (x_runV (As := [.int p1, .int 48, .int 57]) (rest := []) X K O (xct_obj rfl LM_99) rfl (m_M_X6_isIn hg) EN_b EN_h (lw_V q1327 q1329 qs45 q124 q1330) 3 rfl hl.1 (Nat.le_of_ble_eq_true rfl) hdV_X6_isIn ⟨by decide, by decide⟩ ⟨Nat.le_refl _, Nat.le_refl _⟩ dX6_isDigit_6) (fun r u H locs hp O _ => ?_)
  cases hp
  have O : XH D A s.heap h (xct LM okM h d σ_1) H locs := O
  obtain ⟨c_3, hf⟩ := ck_s hf
  exact x_zret X O rfl (okZ_n c_3) _ (Option.some.inj hf).symm rfl dX6_isDigit_9
def M_X6_isMarkSign_b60 (σ : ST) : Option (ST × Int32) :=
  some (σ, 1)
theorem w_M_X6_isMarkSign_b60 (X : FX p m c meth s args RX6 cX6_isMarkSign 2 (some .boolean)) (K : XK D d A s) {z : ST × Int32} (σ : ST) (ls : Array Slot) (H : Heap) (locs : List Loc) (O : XH D A s.heap h (xct LM okM h d σ) H locs) (hl : lv_has ls 2 []) (hf : M_X6_isMarkSign_b60 σ = some z) : W p l e (rmD 0 0 0) s m args below meth c H locs 0 0 (MQ below (Qi D (pz z) (cw h LM okM d) A) args s 0 0 A) (F0 m 60 ls []) := by
  have hx := X.1.1; have hb := X.1.2.1
  rw [M_X6_isMarkSign_b60] at hf
  refine lv_iconst (v := 1) hx hb dX6_isMarkSign_60 (by decide) ?_
  refine lv_goto (tgt := 65) hx hb dX6_isMarkSign_61 (by decide) ?_
  exact x_zret X O rfl rfl _ (Option.some.inj hf).symm rfl dX6_isMarkSign_65
def M_X6_isMarkSign (σ : ST) (p1 : Int32) : Option (ST × Int32) :=
  (if p1 = 59 then M_X6_isMarkSign_b60 σ else (if p1 = 43 then M_X6_isMarkSign_b60 σ else (if p1 = 45 then M_X6_isMarkSign_b60 σ else (if p1 = 42 then M_X6_isMarkSign_b60 σ else (if p1 = 47 then M_X6_isMarkSign_b60 σ else (if p1 = 40 then M_X6_isMarkSign_b60 σ else (if p1 = 41 then M_X6_isMarkSign_b60 σ else (if p1 = 60 then M_X6_isMarkSign_b60 σ else (if p1 = 61 then M_X6_isMarkSign_b60 σ else (if p1 = 62 then M_X6_isMarkSign_b60 σ else some (σ, 0)))))))))))
theorem m_M_X6_isMarkSign {l : Launch} {D : va_G} {d : Nat → ClassId} {h : IX} {p1 : Int32} {σ : ST} {z : ST × Int32} (hf : M_X6_isMarkSign σ p1 = some z) : XM l D d EN yX6_isMarkSign cX6_isMarkSign 2 (some .boolean) 0 0 0 [.ref (h 99 0 0), .int p1] h (xct LM okM h d σ) (Qi D (pz z) (cw h LM okM d)) := by
  refine XM.of (by decide +kernel) (Nat.le_of_ble_eq_true rfl) ?_
  intro p e s m below meth c A ls X _ K _ O hl
  have hl : lv_has ls 2 [(0, .ref (h 99 0 0)), (1, .int p1)] := hl
  have hx := X.1.1; have hb := X.1.2.1
  rw [M_X6_isMarkSign] at hf
  refine lv_iload_n hx hb dX6_isMarkSign_0 rfl (lv_at hl 1 rfl) ?_
  refine lv_bipush (v := 59) hx hb dX6_isMarkSign_1 (by decide) ?_
  refine lv_icmp_eq (tgt := 60) hx hb dX6_isMarkSign_3 (by decide) (fun c_1 => ?_) (fun c_1 => ?_)
  · replace hf := if_t c_1 hf
    exact w_M_X6_isMarkSign_b60 X K _ ls _ _ O (lv_sub hl [] rfl) hf
  · replace hf := if_f c_1 hf
    refine lv_iload_n hx hb dX6_isMarkSign_6 rfl (lv_at hl 1 rfl) ?_
    refine lv_bipush (v := 43) hx hb dX6_isMarkSign_7 (by decide) ?_
    refine lv_icmp_eq (tgt := 60) hx hb dX6_isMarkSign_9 (by decide) (fun c_2 => ?_) (fun c_2 => ?_)
    · replace hf := if_t c_2 hf
      exact w_M_X6_isMarkSign_b60 X K _ ls _ _ O (lv_sub hl [] rfl) hf
    · replace hf := if_f c_2 hf
      refine lv_iload_n hx hb dX6_isMarkSign_12 rfl (lv_at hl 1 rfl) ?_
      refine lv_bipush (v := 45) hx hb dX6_isMarkSign_13 (by decide) ?_
      refine lv_icmp_eq (tgt := 60) hx hb dX6_isMarkSign_15 (by decide) (fun c_3 => ?_) (fun c_3 => ?_)
      · replace hf := if_t c_3 hf
        exact w_M_X6_isMarkSign_b60 X K _ ls _ _ O (lv_sub hl [] rfl) hf
      · replace hf := if_f c_3 hf
        refine lv_iload_n hx hb dX6_isMarkSign_18 rfl (lv_at hl 1 rfl) ?_
        refine lv_bipush (v := 42) hx hb dX6_isMarkSign_19 (by decide) ?_
        refine lv_icmp_eq (tgt := 60) hx hb dX6_isMarkSign_21 (by decide) (fun c_4 => ?_) (fun c_4 => ?_)
        · replace hf := if_t c_4 hf
          exact w_M_X6_isMarkSign_b60 X K _ ls _ _ O (lv_sub hl [] rfl) hf
        · replace hf := if_f c_4 hf
          refine lv_iload_n hx hb dX6_isMarkSign_24 rfl (lv_at hl 1 rfl) ?_
          refine lv_bipush (v := 47) hx hb dX6_isMarkSign_25 (by decide) ?_
          refine lv_icmp_eq (tgt := 60) hx hb dX6_isMarkSign_27 (by decide) (fun c_5 => ?_) (fun c_5 => ?_)
          · replace hf := if_t c_5 hf
            exact w_M_X6_isMarkSign_b60 X K _ ls _ _ O (lv_sub hl [] rfl) hf
          · replace hf := if_f c_5 hf
            refine lv_iload_n hx hb dX6_isMarkSign_30 rfl (lv_at hl 1 rfl) ?_
            refine lv_bipush (v := 40) hx hb dX6_isMarkSign_31 (by decide) ?_
            refine lv_icmp_eq (tgt := 60) hx hb dX6_isMarkSign_33 (by decide) (fun c_6 => ?_) (fun c_6 => ?_)
            · replace hf := if_t c_6 hf
              exact w_M_X6_isMarkSign_b60 X K _ ls _ _ O (lv_sub hl [] rfl) hf
            · replace hf := if_f c_6 hf
              refine lv_iload_n hx hb dX6_isMarkSign_36 rfl (lv_at hl 1 rfl) ?_
              refine lv_bipush (v := 41) hx hb dX6_isMarkSign_37 (by decide) ?_
              refine lv_icmp_eq (tgt := 60) hx hb dX6_isMarkSign_39 (by decide) (fun c_7 => ?_) (fun c_7 => ?_)
              · replace hf := if_t c_7 hf
                exact w_M_X6_isMarkSign_b60 X K _ ls _ _ O (lv_sub hl [] rfl) hf
              · replace hf := if_f c_7 hf
                refine lv_iload_n hx hb dX6_isMarkSign_42 rfl (lv_at hl 1 rfl) ?_
                refine lv_bipush (v := 60) hx hb dX6_isMarkSign_43 (by decide) ?_
                refine lv_icmp_eq (tgt := 60) hx hb dX6_isMarkSign_45 (by decide) (fun c_8 => ?_) (fun c_8 => ?_)
                · replace hf := if_t c_8 hf
                  exact w_M_X6_isMarkSign_b60 X K _ ls _ _ O (lv_sub hl [] rfl) hf
                · replace hf := if_f c_8 hf
                  refine lv_iload_n hx hb dX6_isMarkSign_48 rfl (lv_at hl 1 rfl) ?_
                  refine lv_bipush (v := 61) hx hb dX6_isMarkSign_49 (by decide) ?_
                  refine lv_icmp_eq (tgt := 60) hx hb dX6_isMarkSign_51 (by decide) (fun c_9 => ?_) (fun c_9 => ?_)
                  · replace hf := if_t c_9 hf
                    exact w_M_X6_isMarkSign_b60 X K _ ls _ _ O (lv_sub hl [] rfl) hf
                  · replace hf := if_f c_9 hf
                    refine lv_iload_n hx hb dX6_isMarkSign_54 rfl (lv_at hl 1 rfl) ?_
                    refine lv_bipush (v := 62) hx hb dX6_isMarkSign_55 (by decide) ?_
                    refine lv_icmp_ne (tgt := 64) hx hb dX6_isMarkSign_57 (by decide) (fun c_10 => ?_) (fun c_10 => ?_)
                    · replace hf := if_f c_10 hf
                      refine lv_iconst (v := 0) hx hb dX6_isMarkSign_64 (by decide) ?_
                      exact x_zret X O rfl rfl _ (Option.some.inj hf).symm rfl dX6_isMarkSign_65
                    · replace hf := if_t c_10 hf
                      exact w_M_X6_isMarkSign_b60 X K _ ls _ _ O (lv_sub hl [] rfl) hf
theorem hdV_X6_isDigit : yX6_isDigit.cls = RX6 ∧ (yX6_isDigit.cls ≠ "java/lang/invoke/MethodHandle" ∧ yX6_isDigit.cls ≠ "java/lang/invoke/VarHandle" ∧ (parseMethodDescriptor yX6_isDigit.desc).map (fun d => d.parameters.length) = some 1) := by decide +kernel
theorem hdV_X6_isLetter : yX6_isLetter.cls = RX6 ∧ (yX6_isLetter.cls ≠ "java/lang/invoke/MethodHandle" ∧ yX6_isLetter.cls ≠ "java/lang/invoke/VarHandle" ∧ (parseMethodDescriptor yX6_isLetter.desc).map (fun d => d.parameters.length) = some 1) := by decide +kernel
theorem hdV_X6_isMarkSign : yX6_isMarkSign.cls = RX6 ∧ (yX6_isMarkSign.cls ≠ "java/lang/invoke/MethodHandle" ∧ yX6_isMarkSign.cls ≠ "java/lang/invoke/VarHandle" ∧ (parseMethodDescriptor yX6_isMarkSign.desc).map (fun d => d.parameters.length) = some 1) := by decide +kernel
theorem hdV_X6_raw : yX6_raw.cls = RX6 ∧ (yX6_raw.cls ≠ "java/lang/invoke/MethodHandle" ∧ yX6_raw.cls ≠ "java/lang/invoke/VarHandle" ∧ (parseMethodDescriptor yX6_raw.desc).map (fun d => d.parameters.length) = some 1) := by decide +kernel
theorem hdV_X6_wordAt : yX6_wordAt.cls = RX6 ∧ (yX6_wordAt.cls ≠ "java/lang/invoke/MethodHandle" ∧ yX6_wordAt.cls ≠ "java/lang/invoke/VarHandle" ∧ (parseMethodDescriptor yX6_wordAt.desc).map (fun d => d.parameters.length) = some 2) := by decide +kernel
def M_X6_reads_b26 (kb0 : ST → Option (ST)) (σ : ST) : Option (ST) :=
  lt1 (sI σ 99 0 0 10 ((gI σ 99 0 0 10) + 1)) (fun σ_1 => kb0 σ_1)
theorem w_M_X6_reads_b26 (X : FX p m c meth s args RX6 cX6_reads 2 none) (K : XK D d A s) {z : ST} {kb0 : ST → Option (ST)} (hkb0 : ∀ (σ : ST) (ls : Array Slot) (H : Heap) (locs : List Loc), XH D A s.heap h (xct LM okM h d σ) H locs → lv_has ls 2 [(0, .ref (h 99 0 0))] → kb0 σ  = some z → W p l e (rmD 2 0 0) s m args below meth c H locs 0 0 (MQ below (Qv D (pu z) (cw h LM okM d) A) args s 0 0 A) (F0 m 0 ls [])) (σ : ST) (ls : Array Slot) (H : Heap) (locs : List Loc) (O : XH D A s.heap h (xct LM okM h d σ) H locs) (hl : lv_has ls 2 [(0, .ref (h 99 0 0))]) (hf : M_X6_reads_b26 kb0 σ = some z) : W p l e (rmD 2 0 0) s m args below meth c H locs 0 0 (MQ below (Qv D (pu z) (cw h LM okM d) A) args s 0 0 A) (F0 m 26 ls []) := by
  have hx := X.1.1; have hb := X.1.2.1
  rw [M_X6_reads_b26] at hf
  refine lv_aload_n hx hb dX6_reads_26 rfl (lv_at hl 0 rfl) ?_
  refine lv_aload_n hx hb dX6_reads_27 rfl (lv_at hl 0 rfl) ?_
  refine x_gI X K O 10 rfl LM_99 rfl rfl in_X6 (by decide) q1160 dX6_reads_28 ?_
  refine lv_iconst (v := 1) hx hb dX6_reads_31 (by decide) ?_
  refine lv_iadd hx hb dX6_reads_32 ?_
  obtain ⟨σ_1, eσ_1, hf⟩ := lt1_s hf
  refine x_pI X K O 10 rfl LM_99 rfl rfl in_X6 tyX6_ok nmX6 (by decide) q1160 rfl rfl rfl dX6_reads_33 (fun H locs O => ?_)
  rw [← eσ_1] at O
  refine lv_goto (tgt := 0) hx hb dX6_reads_36 (by decide) ?_
  exact hkb0 _ ls _ _ O (lv_sub hl [0] rfl) hf
def M_X6_reads_b239 (kb187 : ST → Option (ST)) (σ : ST) (s1 : Int32) : Option (ST) :=
  lt1 (sI σ 99 0 0 13 s1) (fun σ_1 => lt1 (sI σ_1 99 0 0 10 ((gI σ_1 99 0 0 10) + 1)) (fun σ_2 => kb187 σ_2))
theorem w_M_X6_reads_b239 (X : FX p m c meth s args RX6 cX6_reads 2 none) (K : XK D d A s) {z : ST} {kb187 : ST → Option (ST)} (hkb187 : ∀ (σ : ST) (ls : Array Slot) (H : Heap) (locs : List Loc), XH D A s.heap h (xct LM okM h d σ) H locs → lv_has ls 2 [(0, .ref (h 99 0 0))] → kb187 σ  = some z → W p l e (rmD 2 0 0) s m args below meth c H locs 0 0 (MQ below (Qv D (pu z) (cw h LM okM d) A) args s 0 0 A) (F0 m 187 ls [])) (σ : ST) (s1 : Int32) (ls : Array Slot) (H : Heap) (locs : List Loc) (O : XH D A s.heap h (xct LM okM h d σ) H locs) (hl : lv_has ls 2 [(0, .ref (h 99 0 0))]) (hf : M_X6_reads_b239 kb187 σ s1 = some z) : W p l e (rmD 2 0 0) s m args below meth c H locs 0 0 (MQ below (Qv D (pu z) (cw h LM okM d) A) args s 0 0 A) (F0 m 239 ls [.int s1, .ref (h 99 0 0)]) := by
  have hx := X.1.1; have hb := X.1.2.1
  rw [M_X6_reads_b239] at hf
  obtain ⟨σ_1, eσ_1, hf⟩ := lt1_s hf
  refine x_pI X K O 13 rfl LM_99 rfl rfl in_X6 tyX6_ok nmX6 (by decide) q1163 rfl rfl rfl dX6_reads_239 (fun H locs O => ?_)
  rw [← eσ_1] at O
  refine lv_aload_n hx hb dX6_reads_242 rfl (lv_at hl 0 rfl) ?_
  refine lv_aload_n hx hb dX6_reads_243 rfl (lv_at hl 0 rfl) ?_
  refine x_gI X K O 10 rfl LM_99 rfl rfl in_X6 (by decide) q1160 dX6_reads_244 ?_
  refine lv_iconst (v := 1) hx hb dX6_reads_247 (by decide) ?_
  refine lv_iadd hx hb dX6_reads_248 ?_
  obtain ⟨σ_2, eσ_2, hf⟩ := lt1_s hf
  refine x_pI X K O 10 rfl LM_99 rfl rfl in_X6 tyX6_ok nmX6 (by decide) q1160 rfl rfl rfl dX6_reads_249 (fun H locs O => ?_)
  rw [← eσ_2] at O
  refine lv_goto (tgt := 187) hx hb dX6_reads_252 (by decide) ?_
  exact hkb187 _ ls _ _ O (lv_sub hl [0] rfl) hf
def M_X6_reads_b187 : Nat → ST → Option (ST)
  | 0, _ => none
  | n + 1, σ =>
    bn2 (M_X6_raw σ (gI σ 99 0 0 10)) (fun σ_1 r_2 => bn2 (M_X6_isDigit σ_1 r_2) (fun σ_3 r_4 => (if r_4 = 0 then (if 5 ≤ ((gI σ_3 99 0 0 10) - (gI σ_3 99 0 0 11)) then some σ_3 else lt1 (sI σ_3 99 0 0 12 3) (fun σ_7 => some σ_7)) else (if 10000 ≤ (gI σ_3 99 0 0 13) then M_X6_reads_b239 (M_X6_reads_b187 n) σ_3 (gI σ_3 99 0 0 13) else bn2 (M_X6_raw σ_3 (gI σ_3 99 0 0 10)) (fun σ_9 r_10 => M_X6_reads_b239 (M_X6_reads_b187 n) σ_9 (((10 * (gI σ_3 99 0 0 13)) + r_10) - 48))))))
theorem w_M_X6_reads_b187 (X : FX p m c meth s args RX6 cX6_reads 2 none) (K : XK D d A s) {z : ST} : ∀ (n : Nat) (σ : ST) (ls : Array Slot) (H : Heap) (locs : List Loc), XH D A s.heap h (xct LM okM h d σ) H locs → lv_has ls 2 [(0, .ref (h 99 0 0))] → M_X6_reads_b187 n σ = some z → W p l e (rmD 2 0 0) s m args below meth c H locs 0 0 (MQ below (Qv D (pu z) (cw h LM okM d) A) args s 0 0 A) (F0 m 187 ls []) := by
  have hx := X.1.1; have hb := X.1.2.1
  intro n
  induction n with
  | zero =>
    intro σ ls H locs O hl hf
    exact absurd hf (fun q => by cases q)
  | succ n ih =>
    intro σ ls H locs O hl hf
    rw [M_X6_reads_b187] at hf
    refine lv_aload_n hx hb dX6_reads_187 rfl (lv_at hl 0 rfl) ?_
    refine lv_aload_n hx hb dX6_reads_188 rfl (lv_at hl 0 rfl) ?_
    refine lv_aload_n hx hb dX6_reads_189 rfl (lv_at hl 0 rfl) ?_
    refine x_gI X K O 10 rfl LM_99 rfl rfl in_X6 (by decide) q1160 dX6_reads_190 ?_
    obtain ⟨σ_1, r_2, hg, hf⟩ := bn2_s hf
    refine x_calli (x_runV (As := [.int (gI σ 99 0 0 10)]) (rest := [.ref (h 99 0 0)]) X K O (xct_obj rfl LM_99) rfl (m_M_X6_raw hg) EN_b EN_h (lw_V q1371 q1373 qs51 q124 q1374) 1 rfl hl.1 (Nat.le_of_ble_eq_true rfl) hdV_X6_raw ⟨by decide, by decide⟩ ⟨Nat.le_refl _, Nat.le_refl _⟩ dX6_reads_193) (fun r u H locs hp O _ => ?_)
    cases hp
    have O : XH D A s.heap h (xct LM okM h d σ_1) H locs := O
    obtain ⟨σ_3, r_4, hg, hf⟩ := bn2_s hf
    refine x_calli (x_runV (As := [.int r_2]) (rest := []) X K O (xct_obj rfl LM_99) rfl (m_M_X6_isDigit hg) EN_b EN_h (lw_V q1383 q1385 qs54 q124 q1386) 1 rfl hl.1 (Nat.le_of_ble_eq_true rfl) hdV_X6_isDigit ⟨by decide, by decide⟩ ⟨Nat.le_refl _, Nat.le_refl _⟩ dX6_reads_196) (fun r u H locs hp O _ => ?_)
    cases hp
    have O : XH D A s.heap h (xct LM okM h d σ_3) H locs := O
    refine lv_if_eq (tgt := 255) hx hb dX6_reads_199 (by decide) (fun c_5 => ?_) (fun c_5 => ?_)
    · replace hf := if_t c_5 hf
      refine lv_aload_n hx hb dX6_reads_255 rfl (lv_at hl 0 rfl) ?_
      refine x_gI X K O 10 rfl LM_99 rfl rfl in_X6 (by decide) q1160 dX6_reads_256 ?_
      refine lv_aload_n hx hb dX6_reads_259 rfl (lv_at hl 0 rfl) ?_
      refine x_gI X K O 11 rfl LM_99 rfl rfl in_X6 (by decide) q1161 dX6_reads_260 ?_
      refine lv_isub hx hb dX6_reads_263 ?_
      refine lv_iconst (v := 5) hx hb dX6_reads_264 (by decide) ?_
      refine lv_icmp_ge (tgt := 289) hx hb dX6_reads_265 (by decide) (fun c_6 => ?_) (fun c_6 => ?_)
      · replace hf := if_t c_6 hf
        exact x_vret X O rfl _ (Option.some.inj hf).symm rfl dX6_reads_289
      · replace hf := if_f c_6 hf
        refine lv_aload_n hx hb dX6_reads_268 rfl (lv_at hl 0 rfl) ?_
        refine lv_iconst (v := 3) hx hb dX6_reads_269 (by decide) ?_
        obtain ⟨σ_7, eσ_7, hf⟩ := lt1_s hf
        refine x_pI X K O 12 rfl LM_99 rfl rfl in_X6 tyX6_ok nmX6 (by decide) q1162 rfl rfl rfl dX6_reads_270 (fun H locs O => ?_)
        rw [← eσ_7] at O
        refine lv_goto (tgt := 289) hx hb dX6_reads_273 (by decide) ?_
        exact x_vret X O rfl _ (Option.some.inj hf).symm rfl dX6_reads_289
    · replace hf := if_f c_5 hf
      refine lv_aload_n hx hb dX6_reads_202 rfl (lv_at hl 0 rfl) ?_
      refine lv_aload_n hx hb dX6_reads_203 rfl (lv_at hl 0 rfl) ?_
      refine x_gI X K O 13 rfl LM_99 rfl rfl in_X6 (by decide) q1163 dX6_reads_204 ?_
      refine lv_sipush (v := 10000) hx hb dX6_reads_207 (by decide) ?_
      refine lv_icmp_ge (tgt := 235) hx hb dX6_reads_210 (by decide) (fun c_8 => ?_) (fun c_8 => ?_)
      · replace hf := if_t c_8 hf
        refine lv_aload_n hx hb dX6_reads_235 rfl (lv_at hl 0 rfl) ?_
        refine x_gI X K O 13 rfl LM_99 rfl rfl in_X6 (by decide) q1163 dX6_reads_236 ?_
        exact w_M_X6_reads_b239 X K ih _ _ ls _ _ O (lv_sub hl [0] rfl) hf
      · replace hf := if_f c_8 hf
        refine lv_bipush (v := 10) hx hb dX6_reads_213 (by decide) ?_
        refine lv_aload_n hx hb dX6_reads_215 rfl (lv_at hl 0 rfl) ?_
        refine x_gI X K O 13 rfl LM_99 rfl rfl in_X6 (by decide) q1163 dX6_reads_216 ?_
        refine lv_imul hx hb dX6_reads_219 ?_
        refine lv_aload_n hx hb dX6_reads_220 rfl (lv_at hl 0 rfl) ?_
        refine lv_aload_n hx hb dX6_reads_221 rfl (lv_at hl 0 rfl) ?_
        refine x_gI X K O 10 rfl LM_99 rfl rfl in_X6 (by decide) q1160 dX6_reads_222 ?_
        obtain ⟨σ_9, r_10, hg, hf⟩ := bn2_s hf
        refine x_calli (x_runV (As := [.int (gI σ_3 99 0 0 10)]) (rest := [.int (10 * (gI σ_3 99 0 0 13)), .ref (h 99 0 0)]) X K O (xct_obj rfl LM_99) rfl (m_M_X6_raw hg) EN_b EN_h (lw_V q1371 q1373 qs51 q124 q1374) 1 rfl hl.1 (Nat.le_of_ble_eq_true rfl) hdV_X6_raw ⟨by decide, by decide⟩ ⟨Nat.le_refl _, Nat.le_refl _⟩ dX6_reads_225) (fun r u H locs hp O _ => ?_)
        cases hp
        have O : XH D A s.heap h (xct LM okM h d σ_9) H locs := O
        refine lv_iadd hx hb dX6_reads_228 ?_
        refine lv_bipush (v := 48) hx hb dX6_reads_229 (by decide) ?_
        refine lv_isub hx hb dX6_reads_231 ?_
        refine lv_goto (tgt := 239) hx hb dX6_reads_232 (by decide) ?_
        exact w_M_X6_reads_b239 X K ih _ _ ls _ _ O (lv_sub hl [0] rfl) hf
def M_X6_reads_b163 (σ : ST) : Option (ST) :=
  lt1 (sI σ 99 0 0 12 2) (fun σ_1 => some σ_1)
theorem w_M_X6_reads_b163 (X : FX p m c meth s args RX6 cX6_reads 2 none) (K : XK D d A s) {z : ST} (σ : ST) (ls : Array Slot) (H : Heap) (locs : List Loc) (O : XH D A s.heap h (xct LM okM h d σ) H locs) (hl : lv_has ls 2 [(0, .ref (h 99 0 0))]) (hf : M_X6_reads_b163 σ = some z) : W p l e (rmD 2 0 0) s m args below meth c H locs 0 0 (MQ below (Qv D (pu z) (cw h LM okM d) A) args s 0 0 A) (F0 m 163 ls []) := by
  have hx := X.1.1; have hb := X.1.2.1
  rw [M_X6_reads_b163] at hf
  refine lv_aload_n hx hb dX6_reads_163 rfl (lv_at hl 0 rfl) ?_
  refine lv_iconst (v := 2) hx hb dX6_reads_164 (by decide) ?_
  obtain ⟨σ_1, eσ_1, hf⟩ := lt1_s hf
  refine x_pI X K O 12 rfl LM_99 rfl rfl in_X6 tyX6_ok nmX6 (by decide) q1162 rfl rfl rfl dX6_reads_165 (fun H locs O => ?_)
  rw [← eσ_1] at O
  refine lv_goto (tgt := 289) hx hb dX6_reads_168 (by decide) ?_
  exact x_vret X O rfl _ (Option.some.inj hf).symm rfl dX6_reads_289
def M_X6_reads_b95 : Nat → ST → Option (ST)
  | 0, _ => none
  | n + 1, σ =>
    bn2 (M_X6_raw σ (gI σ 99 0 0 10)) (fun σ_1 r_2 => bn2 (M_X6_isLetter σ_1 r_2) (fun σ_3 r_4 => (if r_4 = 0 then bn2 (M_X6_wordAt σ_3 (gI σ_3 99 0 0 11) (gI σ_3 99 0 0 10)) (fun σ_6 r_7 => lt1 (sI σ_6 99 0 0 13 r_7) (fun σ_8 => (if (gI σ_8 99 0 0 13) = (-1) then some σ_8 else (if (gI σ_8 99 0 0 21) = 0 then M_X6_reads_b163 σ_8 else (if 13 < (gI σ_8 99 0 0 13) then some σ_8 else M_X6_reads_b163 σ_8))))) else lt1 (sI σ_3 99 0 0 10 ((gI σ_3 99 0 0 10) + 1)) (fun σ_12 => (M_X6_reads_b95 n) σ_12))))
theorem w_M_X6_reads_b95 (X : FX p m c meth s args RX6 cX6_reads 2 none) (K : XK D d A s) {z : ST} : ∀ (n : Nat) (σ : ST) (ls : Array Slot) (H : Heap) (locs : List Loc), XH D A s.heap h (xct LM okM h d σ) H locs → lv_has ls 2 [(0, .ref (h 99 0 0))] → M_X6_reads_b95 n σ = some z → W p l e (rmD 2 0 0) s m args below meth c H locs 0 0 (MQ below (Qv D (pu z) (cw h LM okM d) A) args s 0 0 A) (F0 m 95 ls []) := by
  have hx := X.1.1; have hb := X.1.2.1
  intro n
  induction n with
  | zero =>
    intro σ ls H locs O hl hf
    exact absurd hf (fun q => by cases q)
  | succ n ih =>
    intro σ ls H locs O hl hf
    rw [M_X6_reads_b95] at hf
    refine lv_aload_n hx hb dX6_reads_95 rfl (lv_at hl 0 rfl) ?_
    refine lv_aload_n hx hb dX6_reads_96 rfl (lv_at hl 0 rfl) ?_
    refine lv_aload_n hx hb dX6_reads_97 rfl (lv_at hl 0 rfl) ?_
    refine x_gI X K O 10 rfl LM_99 rfl rfl in_X6 (by decide) q1160 dX6_reads_98 ?_
    obtain ⟨σ_1, r_2, hg, hf⟩ := bn2_s hf
    refine x_calli (x_runV (As := [.int (gI σ 99 0 0 10)]) (rest := [.ref (h 99 0 0)]) X K O (xct_obj rfl LM_99) rfl (m_M_X6_raw hg) EN_b EN_h (lw_V q1371 q1373 qs51 q124 q1374) 1 rfl hl.1 (Nat.le_of_ble_eq_true rfl) hdV_X6_raw ⟨by decide, by decide⟩ ⟨Nat.le_refl _, Nat.le_refl _⟩ dX6_reads_101) (fun r u H locs hp O _ => ?_)
    cases hp
    have O : XH D A s.heap h (xct LM okM h d σ_1) H locs := O
    obtain ⟨σ_3, r_4, hg, hf⟩ := bn2_s hf
    refine x_calli (x_runV (As := [.int r_2]) (rest := []) X K O (xct_obj rfl LM_99) rfl (m_M_X6_isLetter hg) EN_b EN_h (lw_V q1375 q1377 qs52 q124 q1378) 1 rfl hl.1 (Nat.le_of_ble_eq_true rfl) hdV_X6_isLetter ⟨by decide, by decide⟩ ⟨Nat.le_refl _, Nat.le_refl _⟩ dX6_reads_104) (fun r u H locs hp O _ => ?_)
    cases hp
    have O : XH D A s.heap h (xct LM okM h d σ_3) H locs := O
    refine lv_if_eq (tgt := 123) hx hb dX6_reads_107 (by decide) (fun c_5 => ?_) (fun c_5 => ?_)
    · replace hf := if_t c_5 hf
      refine lv_aload_n hx hb dX6_reads_123 rfl (lv_at hl 0 rfl) ?_
      refine lv_aload_n hx hb dX6_reads_124 rfl (lv_at hl 0 rfl) ?_
      refine lv_aload_n hx hb dX6_reads_125 rfl (lv_at hl 0 rfl) ?_
      refine x_gI X K O 11 rfl LM_99 rfl rfl in_X6 (by decide) q1161 dX6_reads_126 ?_
      refine lv_aload_n hx hb dX6_reads_129 rfl (lv_at hl 0 rfl) ?_
      refine x_gI X K O 10 rfl LM_99 rfl rfl in_X6 (by decide) q1160 dX6_reads_130 ?_
      obtain ⟨σ_6, r_7, hg, hf⟩ := bn2_s hf
      refine x_calli (x_runV (As := [.int (gI σ_3 99 0 0 11), .int (gI σ_3 99 0 0 10)]) (rest := [.ref (h 99 0 0)]) X K O (xct_obj rfl LM_99) rfl (m_M_X6_wordAt hg) EN_b EN_h (lw_V q1379 q1381 qs53 q124 q1382) 2 rfl hl.1 (Nat.le_of_ble_eq_true rfl) hdV_X6_wordAt ⟨by decide, by decide⟩ ⟨Nat.le_refl _, Nat.le_refl _⟩ dX6_reads_133) (fun r u H locs hp O _ => ?_)
      cases hp
      have O : XH D A s.heap h (xct LM okM h d σ_6) H locs := O
      obtain ⟨σ_8, eσ_8, hf⟩ := lt1_s hf
      refine x_pI X K O 13 rfl LM_99 rfl rfl in_X6 tyX6_ok nmX6 (by decide) q1163 rfl rfl rfl dX6_reads_136 (fun H locs O => ?_)
      rw [← eσ_8] at O
      refine lv_aload_n hx hb dX6_reads_139 rfl (lv_at hl 0 rfl) ?_
      refine x_gI X K O 13 rfl LM_99 rfl rfl in_X6 (by decide) q1163 dX6_reads_140 ?_
      refine lv_iconst (v := (-1)) hx hb dX6_reads_143 (by decide) ?_
      refine lv_icmp_eq (tgt := 289) hx hb dX6_reads_144 (by decide) (fun c_9 => ?_) (fun c_9 => ?_)
      · replace hf := if_t c_9 hf
        exact x_vret X O rfl _ (Option.some.inj hf).symm rfl dX6_reads_289
      · replace hf := if_f c_9 hf
        refine lv_aload_n hx hb dX6_reads_147 rfl (lv_at hl 0 rfl) ?_
        refine x_gI X K O 21 rfl LM_99 rfl rfl in_X6 (by decide) q1171 dX6_reads_148 ?_
        refine lv_if_eq (tgt := 163) hx hb dX6_reads_151 (by decide) (fun c_10 => ?_) (fun c_10 => ?_)
        · replace hf := if_t c_10 hf
          exact w_M_X6_reads_b163 X K _ ls _ _ O (lv_sub hl [0] rfl) hf
        · replace hf := if_f c_10 hf
          refine lv_aload_n hx hb dX6_reads_154 rfl (lv_at hl 0 rfl) ?_
          refine x_gI X K O 13 rfl LM_99 rfl rfl in_X6 (by decide) q1163 dX6_reads_155 ?_
          refine lv_bipush (v := 13) hx hb dX6_reads_158 (by decide) ?_
          refine lv_icmp_gt (tgt := 289) hx hb dX6_reads_160 (by decide) (fun c_11 => ?_) (fun c_11 => ?_)
          · replace hf := if_t c_11 hf
            exact x_vret X O rfl _ (Option.some.inj hf).symm rfl dX6_reads_289
          · replace hf := if_f c_11 hf
            exact w_M_X6_reads_b163 X K _ ls _ _ O (lv_sub hl [0] rfl) hf
    · replace hf := if_f c_5 hf
      refine lv_aload_n hx hb dX6_reads_110 rfl (lv_at hl 0 rfl) ?_
      refine lv_aload_n hx hb dX6_reads_111 rfl (lv_at hl 0 rfl) ?_
      refine x_gI X K O 10 rfl LM_99 rfl rfl in_X6 (by decide) q1160 dX6_reads_112 ?_
      refine lv_iconst (v := 1) hx hb dX6_reads_115 (by decide) ?_
      refine lv_iadd hx hb dX6_reads_116 ?_
      obtain ⟨σ_12, eσ_12, hf⟩ := lt1_s hf
      refine x_pI X K O 10 rfl LM_99 rfl rfl in_X6 tyX6_ok nmX6 (by decide) q1160 rfl rfl rfl dX6_reads_117 (fun H locs O => ?_)
      rw [← eσ_12] at O
      refine lv_goto (tgt := 95) hx hb dX6_reads_120 (by decide) ?_
      exact ih _ ls _ _ O (lv_sub hl [0] rfl) hf
def M_X6_reads_b0 : Nat → ST → Option (ST)
  | 0, _ => none
  | n + 1, σ =>
    bn2 (M_X6_raw σ (gI σ 99 0 0 10)) (fun σ_1 r_2 => (if r_2 = 32 then M_X6_reads_b26 (M_X6_reads_b0 n) σ_1 else bn2 (M_X6_raw σ_1 (gI σ_1 99 0 0 10)) (fun σ_4 r_5 => (if r_5 = 10 then M_X6_reads_b26 (M_X6_reads_b0 n) σ_4 else lt1 (sI σ_4 99 0 0 11 (gI σ_4 99 0 0 10)) (fun σ_7 => lt1 (sI σ_7 99 0 0 12 1) (fun σ_8 => bn2 (M_X6_raw σ_8 (gI σ_8 99 0 0 10)) (fun σ_9 r_10 => (if r_10 = (-1) then lt1 (sI σ_9 99 0 0 12 0) (fun σ_25 => some σ_25) else lt1 (sI σ_9 99 0 0 10 ((gI σ_9 99 0 0 10) + 1)) (fun σ_12 => lt1 (sI σ_12 99 0 0 13 r_10) (fun σ_13 => bn2 (M_X6_isLetter σ_13 r_10) (fun σ_14 r_15 => (if r_15 = 0 then bn2 (M_X6_isDigit σ_14 r_10) (fun σ_17 r_18 => (if r_18 = 0 then bn2 (M_X6_isMarkSign σ_17 r_10) (fun σ_20 r_21 => (if r_21 = 0 then some σ_20 else lt1 (sI σ_20 99 0 0 12 4) (fun σ_23 => some σ_23))) else lt1 (sI σ_17 99 0 0 13 (r_10 - 48)) (fun σ_24 => M_X6_reads_b187 FUEL σ_24))) else M_X6_reads_b95 FUEL σ_14))))))))))))
theorem w_M_X6_reads_b0 (X : FX p m c meth s args RX6 cX6_reads 2 none) (K : XK D d A s) {z : ST} : ∀ (n : Nat) (σ : ST) (ls : Array Slot) (H : Heap) (locs : List Loc), XH D A s.heap h (xct LM okM h d σ) H locs → lv_has ls 2 [(0, .ref (h 99 0 0))] → M_X6_reads_b0 n σ = some z → W p l e (rmD 2 0 0) s m args below meth c H locs 0 0 (MQ below (Qv D (pu z) (cw h LM okM d) A) args s 0 0 A) (F0 m 0 ls []) := by
  have hx := X.1.1; have hb := X.1.2.1
  intro n
  induction n with
  | zero =>
    intro σ ls H locs O hl hf
    exact absurd hf (fun q => by cases q)
  | succ n ih =>
    intro σ ls H locs O hl hf
    rw [M_X6_reads_b0] at hf
    refine lv_aload_n hx hb dX6_reads_0 rfl (lv_at hl 0 rfl) ?_
    refine lv_aload_n hx hb dX6_reads_1 rfl (lv_at hl 0 rfl) ?_
    refine x_gI X K O 10 rfl LM_99 rfl rfl in_X6 (by decide) q1160 dX6_reads_2 ?_
    obtain ⟨σ_1, r_2, hg, hf⟩ := bn2_s hf
    refine x_calli (x_runV (As := [.int (gI σ 99 0 0 10)]) (rest := []) X K O (xct_obj rfl LM_99) rfl (m_M_X6_raw hg) EN_b EN_h (lw_V q1371 q1373 qs51 q124 q1374) 1 rfl hl.1 (Nat.le_of_ble_eq_true rfl) hdV_X6_raw ⟨by decide, by decide⟩ ⟨Nat.le_refl _, Nat.le_refl _⟩ dX6_reads_5) (fun r u H locs hp O _ => ?_)
    cases hp
    have O : XH D A s.heap h (xct LM okM h d σ_1) H locs := O
    refine lv_bipush (v := 32) hx hb dX6_reads_8 (by decide) ?_
    refine lv_icmp_eq (tgt := 26) hx hb dX6_reads_10 (by decide) (fun c_3 => ?_) (fun c_3 => ?_)
    · replace hf := if_t c_3 hf
      exact w_M_X6_reads_b26 X K ih _ ls _ _ O (lv_sub hl [0] rfl) hf
    · replace hf := if_f c_3 hf
      refine lv_aload_n hx hb dX6_reads_13 rfl (lv_at hl 0 rfl) ?_
      refine lv_aload_n hx hb dX6_reads_14 rfl (lv_at hl 0 rfl) ?_
      refine x_gI X K O 10 rfl LM_99 rfl rfl in_X6 (by decide) q1160 dX6_reads_15 ?_
      obtain ⟨σ_4, r_5, hg, hf⟩ := bn2_s hf
      refine x_calli (x_runV (As := [.int (gI σ_1 99 0 0 10)]) (rest := []) X K O (xct_obj rfl LM_99) rfl (m_M_X6_raw hg) EN_b EN_h (lw_V q1371 q1373 qs51 q124 q1374) 1 rfl hl.1 (Nat.le_of_ble_eq_true rfl) hdV_X6_raw ⟨by decide, by decide⟩ ⟨Nat.le_refl _, Nat.le_refl _⟩ dX6_reads_18) (fun r u H locs hp O _ => ?_)
      cases hp
      have O : XH D A s.heap h (xct LM okM h d σ_4) H locs := O
      refine lv_bipush (v := 10) hx hb dX6_reads_21 (by decide) ?_
      refine lv_icmp_ne (tgt := 39) hx hb dX6_reads_23 (by decide) (fun c_6 => ?_) (fun c_6 => ?_)
      · replace hf := if_f c_6 hf
        refine lv_aload_n hx hb dX6_reads_39 rfl (lv_at hl 0 rfl) ?_
        refine lv_aload_n hx hb dX6_reads_40 rfl (lv_at hl 0 rfl) ?_
        refine x_gI X K O 10 rfl LM_99 rfl rfl in_X6 (by decide) q1160 dX6_reads_41 ?_
        obtain ⟨σ_7, eσ_7, hf⟩ := lt1_s hf
        refine x_pI X K O 11 rfl LM_99 rfl rfl in_X6 tyX6_ok nmX6 (by decide) q1161 rfl rfl rfl dX6_reads_44 (fun H locs O => ?_)
        rw [← eσ_7] at O
        refine lv_aload_n hx hb dX6_reads_47 rfl (lv_at hl 0 rfl) ?_
        refine lv_iconst (v := 1) hx hb dX6_reads_48 (by decide) ?_
        obtain ⟨σ_8, eσ_8, hf⟩ := lt1_s hf
        refine x_pI X K O 12 rfl LM_99 rfl rfl in_X6 tyX6_ok nmX6 (by decide) q1162 rfl rfl rfl dX6_reads_49 (fun H locs O => ?_)
        rw [← eσ_8] at O
        refine lv_aload_n hx hb dX6_reads_52 rfl (lv_at hl 0 rfl) ?_
        refine lv_aload_n hx hb dX6_reads_53 rfl (lv_at hl 0 rfl) ?_
        refine x_gI X K O 10 rfl LM_99 rfl rfl in_X6 (by decide) q1160 dX6_reads_54 ?_
        obtain ⟨σ_9, r_10, hg, hf⟩ := bn2_s hf
        refine x_calli (x_runV (As := [.int (gI σ_8 99 0 0 10)]) (rest := []) X K O (xct_obj rfl LM_99) rfl (m_M_X6_raw hg) EN_b EN_h (lw_V q1371 q1373 qs51 q124 q1374) 1 rfl hl.1 (Nat.le_of_ble_eq_true rfl) hdV_X6_raw ⟨by decide, by decide⟩ ⟨Nat.le_refl _, Nat.le_refl _⟩ dX6_reads_57) (fun r u H locs hp O _ => ?_)
        cases hp
        have O : XH D A s.heap h (xct LM okM h d σ_9) H locs := O
        refine lv_istore_n (lv' := [(1, .int r_10), (0, .ref (h 99 0 0))]) hx hb dX6_reads_60 rfl hl (by decide) rfl (fun ls hl => ?_)
        refine lv_iload_n hx hb dX6_reads_61 rfl (lv_at hl 0 rfl) ?_
        refine lv_iconst (v := (-1)) hx hb dX6_reads_62 (by decide) ?_
        refine lv_icmp_ne (tgt := 72) hx hb dX6_reads_63 (by decide) (fun c_11 => ?_) (fun c_11 => ?_)
        · replace hf := if_f c_11 hf
          refine lv_aload_n hx hb dX6_reads_72 rfl (lv_at hl 1 rfl) ?_
          refine lv_aload_n hx hb dX6_reads_73 rfl (lv_at hl 1 rfl) ?_
          refine x_gI X K O 10 rfl LM_99 rfl rfl in_X6 (by decide) q1160 dX6_reads_74 ?_
          refine lv_iconst (v := 1) hx hb dX6_reads_77 (by decide) ?_
          refine lv_iadd hx hb dX6_reads_78 ?_
          obtain ⟨σ_12, eσ_12, hf⟩ := lt1_s hf
          refine x_pI X K O 10 rfl LM_99 rfl rfl in_X6 tyX6_ok nmX6 (by decide) q1160 rfl rfl rfl dX6_reads_79 (fun H locs O => ?_)
          rw [← eσ_12] at O
          refine lv_aload_n hx hb dX6_reads_82 rfl (lv_at hl 1 rfl) ?_
          refine lv_iload_n hx hb dX6_reads_83 rfl (lv_at hl 0 rfl) ?_
          obtain ⟨σ_13, eσ_13, hf⟩ := lt1_s hf
          refine x_pI X K O 13 rfl LM_99 rfl rfl in_X6 tyX6_ok nmX6 (by decide) q1163 rfl rfl rfl dX6_reads_84 (fun H locs O => ?_)
          rw [← eσ_13] at O
          refine lv_aload_n hx hb dX6_reads_87 rfl (lv_at hl 1 rfl) ?_
          refine lv_iload_n hx hb dX6_reads_88 rfl (lv_at hl 0 rfl) ?_
          obtain ⟨σ_14, r_15, hg, hf⟩ := bn2_s hf
          refine x_calli (x_runV (As := [.int r_10]) (rest := []) X K O (xct_obj rfl LM_99) rfl (m_M_X6_isLetter hg) EN_b EN_h (lw_V q1375 q1377 qs52 q124 q1378) 1 rfl hl.1 (Nat.le_of_ble_eq_true rfl) hdV_X6_isLetter ⟨by decide, by decide⟩ ⟨Nat.le_refl _, Nat.le_refl _⟩ dX6_reads_89) (fun r u H locs hp O _ => ?_)
          cases hp
          have O : XH D A s.heap h (xct LM okM h d σ_14) H locs := O
          refine lv_if_eq (tgt := 171) hx hb dX6_reads_92 (by decide) (fun c_16 => ?_) (fun c_16 => ?_)
          · replace hf := if_t c_16 hf
            refine lv_aload_n hx hb dX6_reads_171 rfl (lv_at hl 1 rfl) ?_
            refine lv_iload_n hx hb dX6_reads_172 rfl (lv_at hl 0 rfl) ?_
            obtain ⟨σ_17, r_18, hg, hf⟩ := bn2_s hf
            refine x_calli (x_runV (As := [.int r_10]) (rest := []) X K O (xct_obj rfl LM_99) rfl (m_M_X6_isDigit hg) EN_b EN_h (lw_V q1383 q1385 qs54 q124 q1386) 1 rfl hl.1 (Nat.le_of_ble_eq_true rfl) hdV_X6_isDigit ⟨by decide, by decide⟩ ⟨Nat.le_refl _, Nat.le_refl _⟩ dX6_reads_173) (fun r u H locs hp O _ => ?_)
            cases hp
            have O : XH D A s.heap h (xct LM okM h d σ_17) H locs := O
            refine lv_if_eq (tgt := 276) hx hb dX6_reads_176 (by decide) (fun c_19 => ?_) (fun c_19 => ?_)
            · replace hf := if_t c_19 hf
              refine lv_aload_n hx hb dX6_reads_276 rfl (lv_at hl 1 rfl) ?_
              refine lv_iload_n hx hb dX6_reads_277 rfl (lv_at hl 0 rfl) ?_
              obtain ⟨σ_20, r_21, hg, hf⟩ := bn2_s hf
              refine x_calli (x_runV (As := [.int r_10]) (rest := []) X K O (xct_obj rfl LM_99) rfl (m_M_X6_isMarkSign hg) EN_b EN_h (lw_V q1387 q1389 qs55 q124 q1390) 1 rfl hl.1 (Nat.le_of_ble_eq_true rfl) hdV_X6_isMarkSign ⟨by decide, by decide⟩ ⟨Nat.le_refl _, Nat.le_refl _⟩ dX6_reads_278) (fun r u H locs hp O _ => ?_)
              cases hp
              have O : XH D A s.heap h (xct LM okM h d σ_20) H locs := O
              refine lv_if_eq (tgt := 289) hx hb dX6_reads_281 (by decide) (fun c_22 => ?_) (fun c_22 => ?_)
              · replace hf := if_t c_22 hf
                exact x_vret X O rfl _ (Option.some.inj hf).symm rfl dX6_reads_289
              · replace hf := if_f c_22 hf
                refine lv_aload_n hx hb dX6_reads_284 rfl (lv_at hl 1 rfl) ?_
                refine lv_iconst (v := 4) hx hb dX6_reads_285 (by decide) ?_
                obtain ⟨σ_23, eσ_23, hf⟩ := lt1_s hf
                refine x_pI X K O 12 rfl LM_99 rfl rfl in_X6 tyX6_ok nmX6 (by decide) q1162 rfl rfl rfl dX6_reads_286 (fun H locs O => ?_)
                rw [← eσ_23] at O
                exact x_vret X O rfl _ (Option.some.inj hf).symm rfl dX6_reads_289
            · replace hf := if_f c_19 hf
              refine lv_aload_n hx hb dX6_reads_179 rfl (lv_at hl 1 rfl) ?_
              refine lv_iload_n hx hb dX6_reads_180 rfl (lv_at hl 0 rfl) ?_
              refine lv_bipush (v := 48) hx hb dX6_reads_181 (by decide) ?_
              refine lv_isub hx hb dX6_reads_183 ?_
              obtain ⟨σ_24, eσ_24, hf⟩ := lt1_s hf
              refine x_pI X K O 13 rfl LM_99 rfl rfl in_X6 tyX6_ok nmX6 (by decide) q1163 rfl rfl rfl dX6_reads_184 (fun H locs O => ?_)
              rw [← eσ_24] at O
              exact w_M_X6_reads_b187 X K _ _ ls _ _ O (lv_sub hl [1] rfl) hf
          · replace hf := if_f c_16 hf
            exact w_M_X6_reads_b95 X K _ _ ls _ _ O (lv_sub hl [1] rfl) hf
        · replace hf := if_t c_11 hf
          refine lv_aload_n hx hb dX6_reads_66 rfl (lv_at hl 1 rfl) ?_
          refine lv_iconst (v := 0) hx hb dX6_reads_67 (by decide) ?_
          obtain ⟨σ_25, eσ_25, hf⟩ := lt1_s hf
          refine x_pI X K O 12 rfl LM_99 rfl rfl in_X6 tyX6_ok nmX6 (by decide) q1162 rfl rfl rfl dX6_reads_68 (fun H locs O => ?_)
          rw [← eσ_25] at O
          exact x_vret X O rfl _ (Option.some.inj hf).symm rfl dX6_reads_71
      · replace hf := if_t c_6 hf
        exact w_M_X6_reads_b26 X K ih _ ls _ _ O (lv_sub hl [0] rfl) hf
def M_X6_reads (σ : ST) : Option (ST) :=
  M_X6_reads_b0 FUEL σ
theorem m_M_X6_reads {l : Launch} {D : va_G} {d : Nat → ClassId} {h : IX} {σ : ST} {z : ST} (hf : M_X6_reads σ = some z) : XM l D d EN yX6_reads cX6_reads 2 none 2 0 0 [.ref (h 99 0 0)] h (xct LM okM h d σ) (Qv D (pu z) (cw h LM okM d)) := by
  refine XM.of (by decide +kernel) (Nat.le_of_ble_eq_true rfl) ?_
  intro p e s m below meth c A ls X _ K _ O hl
  have hl : lv_has ls 2 [(0, .ref (h 99 0 0))] := hl
  have hx := X.1.1; have hb := X.1.2.1
  rw [M_X6_reads] at hf
  exact w_M_X6_reads_b0 X K _ _ ls _ _ O (lv_sub hl [0] rfl) hf
def M_X6_isWord (σ : ST) (p1 : Int32) : Option (ST × Int32) :=
  (if (gI σ 99 0 0 12) = 2 then (if (gI σ 99 0 0 13) = p1 then some (σ, 1) else some (σ, 0)) else some (σ, 0))
theorem m_M_X6_isWord {l : Launch} {D : va_G} {d : Nat → ClassId} {h : IX} {p1 : Int32} {σ : ST} {z : ST × Int32} (hf : M_X6_isWord σ p1 = some z) : XM l D d EN yX6_isWord cX6_isWord 2 (some .boolean) 0 0 0 [.ref (h 99 0 0), .int p1] h (xct LM okM h d σ) (Qi D (pz z) (cw h LM okM d)) := by
  refine XM.of (by decide +kernel) (Nat.le_of_ble_eq_true rfl) ?_
  intro p e s m below meth c A ls X _ K _ O hl
  have hl : lv_has ls 2 [(0, .ref (h 99 0 0)), (1, .int p1)] := hl
  have hx := X.1.1; have hb := X.1.2.1
  rw [M_X6_isWord] at hf
  refine lv_aload_n hx hb dX6_isWord_0 rfl (lv_at hl 0 rfl) ?_
  refine x_gI X K O 12 rfl LM_99 rfl rfl in_X6 (by decide) q1162 dX6_isWord_1 ?_
  refine lv_iconst (v := 2) hx hb dX6_isWord_4 (by decide) ?_
  refine lv_icmp_ne (tgt := 20) hx hb dX6_isWord_5 (by decide) (fun c_1 => ?_) (fun c_1 => ?_)
  · replace hf := if_f c_1 hf
    refine lv_iconst (v := 0) hx hb dX6_isWord_20 (by decide) ?_
    exact x_zret X O rfl rfl _ (Option.some.inj hf).symm rfl dX6_isWord_21
  · replace hf := if_t c_1 hf
    refine lv_aload_n hx hb dX6_isWord_8 rfl (lv_at hl 0 rfl) ?_
    refine x_gI X K O 13 rfl LM_99 rfl rfl in_X6 (by decide) q1163 dX6_isWord_9 ?_
    refine lv_iload_n hx hb dX6_isWord_12 rfl (lv_at hl 1 rfl) ?_
    refine lv_icmp_ne (tgt := 20) hx hb dX6_isWord_13 (by decide) (fun c_2 => ?_) (fun c_2 => ?_)
    · replace hf := if_f c_2 hf
      refine lv_iconst (v := 0) hx hb dX6_isWord_20 (by decide) ?_
      exact x_zret X O rfl rfl _ (Option.some.inj hf).symm rfl dX6_isWord_21
    · replace hf := if_t c_2 hf
      refine lv_iconst (v := 1) hx hb dX6_isWord_16 (by decide) ?_
      refine lv_goto (tgt := 21) hx hb dX6_isWord_17 (by decide) ?_
      exact x_zret X O rfl rfl _ (Option.some.inj hf).symm rfl dX6_isWord_21
def M_X6_errs (σ : ST) (p1 : Int32) : Option (ST × Int32) :=
  lt1 (sI σ 99 0 0 26 p1) (fun σ_1 => lt1 (sI σ_1 99 0 0 27 (gI σ_1 99 0 0 11)) (fun σ_2 => some (σ_2, (-1))))
theorem m_M_X6_errs {l : Launch} {D : va_G} {d : Nat → ClassId} {h : IX} {p1 : Int32} {σ : ST} {z : ST × Int32} (hf : M_X6_errs σ p1 = some z) : XM l D d EN yX6_errs cX6_errs 2 (some .int) 0 0 0 [.ref (h 99 0 0), .int p1] h (xct LM okM h d σ) (Qi D (pz z) (cw h LM okM d)) := by
  refine XM.of (by decide +kernel) (Nat.le_of_ble_eq_true rfl) ?_
  intro p e s m below meth c A ls X _ K _ O hl
  have hl : lv_has ls 2 [(0, .ref (h 99 0 0)), (1, .int p1)] := hl
  have hx := X.1.1; have hb := X.1.2.1
  rw [M_X6_errs] at hf
  refine lv_aload_n hx hb dX6_errs_0 rfl (lv_at hl 0 rfl) ?_
  refine lv_iload_n hx hb dX6_errs_1 rfl (lv_at hl 1 rfl) ?_
  obtain ⟨σ_1, eσ_1, hf⟩ := lt1_s hf
  refine x_pI X K O 26 rfl LM_99 rfl rfl in_X6 tyX6_ok nmX6 (by decide) q1176 rfl rfl rfl dX6_errs_2 (fun H locs O => ?_)
  rw [← eσ_1] at O
  refine lv_aload_n hx hb dX6_errs_5 rfl (lv_at hl 0 rfl) ?_
  refine lv_aload_n hx hb dX6_errs_6 rfl (lv_at hl 0 rfl) ?_
  refine x_gI X K O 11 rfl LM_99 rfl rfl in_X6 (by decide) q1161 dX6_errs_7 ?_
  obtain ⟨σ_2, eσ_2, hf⟩ := lt1_s hf
  refine x_pI X K O 27 rfl LM_99 rfl rfl in_X6 tyX6_ok nmX6 (by decide) q1177 rfl rfl rfl dX6_errs_10 (fun H locs O => ?_)
  rw [← eσ_2] at O
  refine lv_iconst (v := (-1)) hx hb dX6_errs_13 (by decide) ?_
  exact x_iret X O rfl _ (Option.some.inj hf).symm rfl dX6_errs_14
def M_X6_isSign (σ : ST) (p1 : Int32) : Option (ST × Int32) :=
  (if (gI σ 99 0 0 12) = 4 then (if (gI σ 99 0 0 13) = p1 then some (σ, 1) else some (σ, 0)) else some (σ, 0))
theorem m_M_X6_isSign {l : Launch} {D : va_G} {d : Nat → ClassId} {h : IX} {p1 : Int32} {σ : ST} {z : ST × Int32} (hf : M_X6_isSign σ p1 = some z) : XM l D d EN yX6_isSign cX6_isSign 2 (some .boolean) 0 0 0 [.ref (h 99 0 0), .int p1] h (xct LM okM h d σ) (Qi D (pz z) (cw h LM okM d)) := by
  refine XM.of (by decide +kernel) (Nat.le_of_ble_eq_true rfl) ?_
  intro p e s m below meth c A ls X _ K _ O hl
  have hl : lv_has ls 2 [(0, .ref (h 99 0 0)), (1, .int p1)] := hl
  have hx := X.1.1; have hb := X.1.2.1
  rw [M_X6_isSign] at hf
  refine lv_aload_n hx hb dX6_isSign_0 rfl (lv_at hl 0 rfl) ?_
  refine x_gI X K O 12 rfl LM_99 rfl rfl in_X6 (by decide) q1162 dX6_isSign_1 ?_
  refine lv_iconst (v := 4) hx hb dX6_isSign_4 (by decide) ?_
  refine lv_icmp_ne (tgt := 20) hx hb dX6_isSign_5 (by decide) (fun c_1 => ?_) (fun c_1 => ?_)
  · replace hf := if_f c_1 hf
    refine lv_iconst (v := 0) hx hb dX6_isSign_20 (by decide) ?_
    exact x_zret X O rfl rfl _ (Option.some.inj hf).symm rfl dX6_isSign_21
  · replace hf := if_t c_1 hf
    refine lv_aload_n hx hb dX6_isSign_8 rfl (lv_at hl 0 rfl) ?_
    refine x_gI X K O 13 rfl LM_99 rfl rfl in_X6 (by decide) q1163 dX6_isSign_9 ?_
    refine lv_iload_n hx hb dX6_isSign_12 rfl (lv_at hl 1 rfl) ?_
    refine lv_icmp_ne (tgt := 20) hx hb dX6_isSign_13 (by decide) (fun c_2 => ?_) (fun c_2 => ?_)
    · replace hf := if_f c_2 hf
      refine lv_iconst (v := 0) hx hb dX6_isSign_20 (by decide) ?_
      exact x_zret X O rfl rfl _ (Option.some.inj hf).symm rfl dX6_isSign_21
    · replace hf := if_t c_2 hf
      refine lv_iconst (v := 1) hx hb dX6_isSign_16 (by decide) ?_
      refine lv_goto (tgt := 21) hx hb dX6_isSign_17 (by decide) ?_
      exact x_zret X O rfl rfl _ (Option.some.inj hf).symm rfl dX6_isSign_21
def M_X6_waits (σ : ST) (p1 : Int32) : Option (ST) :=
  ck (okI (gI σ 99 0 0 25) 40) (lt1 (sI σ 24 0 0 (Int32.toNatClampNeg (gI σ 99 0 0 25)) p1) (fun σ_2 => lt1 (sI σ_2 99 0 0 25 ((gI σ_2 99 0 0 25) + 1)) (fun σ_3 => some σ_3)))
theorem m_M_X6_waits {l : Launch} {D : va_G} {d : Nat → ClassId} {h : IX} {p1 : Int32} {σ : ST} {z : ST} (hf : M_X6_waits σ p1 = some z) : XM l D d EN yX6_waits cX6_waits 2 none 0 0 0 [.ref (h 99 0 0), .int p1] h (xct LM okM h d σ) (Qv D (pu z) (cw h LM okM d)) := by
  refine XM.of (by decide +kernel) (Nat.le_of_ble_eq_true rfl) ?_
  intro p e s m below meth c A ls X _ K _ O hl
  have hl : lv_has ls 2 [(0, .ref (h 99 0 0)), (1, .int p1)] := hl
  have hx := X.1.1; have hb := X.1.2.1
  rw [M_X6_waits] at hf
  refine lv_aload_n hx hb dX6_waits_0 rfl (lv_at hl 0 rfl) ?_
  refine x_gF X K O 24 rfl LM_99 rfl rfl in_X6 (by decide) q1174 dX6_waits_1 ?_
  refine lv_aload_n hx hb dX6_waits_4 rfl (lv_at hl 0 rfl) ?_
  refine x_gI X K O 25 rfl LM_99 rfl rfl in_X6 (by decide) q1175 dX6_waits_5 ?_
  refine lv_iload_n hx hb dX6_waits_8 rfl (lv_at hl 1 rfl) ?_
  obtain ⟨c_1, hf⟩ := ck_s hf
  obtain ⟨σ_2, eσ_2, hf⟩ := lt1_s hf
  refine x_ist X K O rfl LM_24 c_1 (j := (Int32.toNatClampNeg (gI σ 99 0 0 25))) rfl dX6_waits_9 (fun H locs O => ?_)
  rw [← eσ_2] at O
  refine lv_aload_n hx hb dX6_waits_10 rfl (lv_at hl 0 rfl) ?_
  refine lv_aload_n hx hb dX6_waits_11 rfl (lv_at hl 0 rfl) ?_
  refine x_gI X K O 25 rfl LM_99 rfl rfl in_X6 (by decide) q1175 dX6_waits_12 ?_
  refine lv_iconst (v := 1) hx hb dX6_waits_15 (by decide) ?_
  refine lv_iadd hx hb dX6_waits_16 ?_
  obtain ⟨σ_3, eσ_3, hf⟩ := lt1_s hf
  refine x_pI X K O 25 rfl LM_99 rfl rfl in_X6 tyX6_ok nmX6 (by decide) q1175 rfl rfl rfl dX6_waits_17 (fun H locs O => ?_)
  rw [← eσ_3] at O
  exact x_vret X O rfl _ (Option.some.inj hf).symm rfl dX6_waits_20
def M_X6_emits (σ : ST) (p1 : Int32) (p2 : Int32) : Option (ST) :=
  ck (okI (2400 + (gI σ 99 0 0 22)) 2800) (lt1 (sI σ 19 0 0 (Int32.toNatClampNeg (2400 + (gI σ 99 0 0 22))) p1) (fun σ_2 => ck (okI (2400 + (gI σ_2 99 0 0 22)) 2800) (lt1 (sI σ_2 20 0 0 (Int32.toNatClampNeg (2400 + (gI σ_2 99 0 0 22))) p2) (fun σ_4 => lt1 (sI σ_4 99 0 0 22 ((gI σ_4 99 0 0 22) + 1)) (fun σ_5 => some σ_5)))))
theorem m_M_X6_emits {l : Launch} {D : va_G} {d : Nat → ClassId} {h : IX} {p1 : Int32} {p2 : Int32} {σ : ST} {z : ST} (hf : M_X6_emits σ p1 p2 = some z) : XM l D d EN yX6_emits cX6_emits 3 none 0 0 0 [.ref (h 99 0 0), .int p1, .int p2] h (xct LM okM h d σ) (Qv D (pu z) (cw h LM okM d)) := by
  refine XM.of (by decide +kernel) (Nat.le_of_ble_eq_true rfl) ?_
  intro p e s m below meth c A ls X _ K _ O hl
  have hl : lv_has ls 3 [(0, .ref (h 99 0 0)), (1, .int p1), (2, .int p2)] := hl
  have hx := X.1.1; have hb := X.1.2.1
  rw [M_X6_emits] at hf
  refine lv_aload_n hx hb dX6_emits_0 rfl (lv_at hl 0 rfl) ?_
  refine x_gF X K O 19 rfl LM_99 rfl rfl in_X6 (by decide) q1169 dX6_emits_1 ?_
  refine lv_sipush (v := 2400) hx hb dX6_emits_4 (by decide) ?_
  refine lv_aload_n hx hb dX6_emits_7 rfl (lv_at hl 0 rfl) ?_
  refine x_gI X K O 22 rfl LM_99 rfl rfl in_X6 (by decide) q1172 dX6_emits_8 ?_
  refine lv_iadd hx hb dX6_emits_11 ?_
  refine lv_iload_n hx hb dX6_emits_12 rfl (lv_at hl 1 rfl) ?_
  obtain ⟨c_1, hf⟩ := ck_s hf
  obtain ⟨σ_2, eσ_2, hf⟩ := lt1_s hf
  refine x_ist X K O rfl LM_19 c_1 (j := (Int32.toNatClampNeg (2400 + (gI σ 99 0 0 22)))) rfl dX6_emits_13 (fun H locs O => ?_)
  rw [← eσ_2] at O
  refine lv_aload_n hx hb dX6_emits_14 rfl (lv_at hl 0 rfl) ?_
  refine x_gF X K O 20 rfl LM_99 rfl rfl in_X6 (by decide) q1170 dX6_emits_15 ?_
  refine lv_sipush (v := 2400) hx hb dX6_emits_18 (by decide) ?_
  refine lv_aload_n hx hb dX6_emits_21 rfl (lv_at hl 0 rfl) ?_
  refine x_gI X K O 22 rfl LM_99 rfl rfl in_X6 (by decide) q1172 dX6_emits_22 ?_
  refine lv_iadd hx hb dX6_emits_25 ?_
  refine lv_iload_n hx hb dX6_emits_26 rfl (lv_at hl 2 rfl) ?_
  obtain ⟨c_3, hf⟩ := ck_s hf
  obtain ⟨σ_4, eσ_4, hf⟩ := lt1_s hf
  refine x_ist X K O rfl LM_20 c_3 (j := (Int32.toNatClampNeg (2400 + (gI σ_2 99 0 0 22)))) rfl dX6_emits_27 (fun H locs O => ?_)
  rw [← eσ_4] at O
  refine lv_aload_n hx hb dX6_emits_28 rfl (lv_at hl 0 rfl) ?_
  refine lv_aload_n hx hb dX6_emits_29 rfl (lv_at hl 0 rfl) ?_
  refine x_gI X K O 22 rfl LM_99 rfl rfl in_X6 (by decide) q1172 dX6_emits_30 ?_
  refine lv_iconst (v := 1) hx hb dX6_emits_33 (by decide) ?_
  refine lv_iadd hx hb dX6_emits_34 ?_
  obtain ⟨σ_5, eσ_5, hf⟩ := lt1_s hf
  refine x_pI X K O 22 rfl LM_99 rfl rfl in_X6 tyX6_ok nmX6 (by decide) q1172 rfl rfl rfl dX6_emits_35 (fun H locs O => ?_)
  rw [← eσ_5] at O
  exact x_vret X O rfl _ (Option.some.inj hf).symm rfl dX6_emits_38
theorem hdV_X6_emits : yX6_emits.cls = RX6 ∧ (yX6_emits.cls ≠ "java/lang/invoke/MethodHandle" ∧ yX6_emits.cls ≠ "java/lang/invoke/VarHandle" ∧ (parseMethodDescriptor yX6_emits.desc).map (fun d => d.parameters.length) = some 2) := by decide +kernel
theorem hdV_X6_errs : yX6_errs.cls = RX6 ∧ (yX6_errs.cls ≠ "java/lang/invoke/MethodHandle" ∧ yX6_errs.cls ≠ "java/lang/invoke/VarHandle" ∧ (parseMethodDescriptor yX6_errs.desc).map (fun d => d.parameters.length) = some 1) := by decide +kernel
theorem hdV_X6_reads : yX6_reads.cls = RX6 ∧ (yX6_reads.cls ≠ "java/lang/invoke/MethodHandle" ∧ yX6_reads.cls ≠ "java/lang/invoke/VarHandle" ∧ (parseMethodDescriptor yX6_reads.desc).map (fun d => d.parameters.length) = some 0) := by decide +kernel
def M_X6_readUnit_b69 (σ : ST) (s1 : Int32) (s2 : Int32) : Option (ST × Int32) :=
  bn1 (M_X6_emits σ s1 s2) (fun σ_1 => bn1 (M_X6_reads σ_1) (fun σ_2 => some (σ_2, 0)))
theorem w_M_X6_readUnit_b69 (X : FX p m c meth s args RX6 cX6_readUnit 2 (some .int)) (K : XK D d A s) {z : ST × Int32} (σ : ST) (s1 : Int32) (s2 : Int32) (ls : Array Slot) (H : Heap) (locs : List Loc) (O : XH D A s.heap h (xct LM okM h d σ) H locs) (hl : lv_has ls 2 [(0, .ref (h 99 0 0))]) (hf : M_X6_readUnit_b69 σ s1 s2 = some z) : W p l e (rmD 3 0 0) s m args below meth c H locs 0 0 (MQ below (Qi D (pz z) (cw h LM okM d) A) args s 0 0 A) (F0 m 69 ls [.int s2, .int s1, .ref (h 99 0 0)]) := by
  have hx := X.1.1; have hb := X.1.2.1
  rw [M_X6_readUnit_b69] at hf
  obtain ⟨σ_1, hg, hf⟩ := bn1_s hf
  refine x_callv (x_runV (As := [.int s1, .int s2]) (rest := []) X K O (xct_obj rfl LM_99) rfl (m_M_X6_emits hg) EN_b EN_h (lw_V q1431 q1433 qs66 q124 q1434) 2 rfl hl.1 (Nat.le_of_ble_eq_true rfl) hdV_X6_emits ⟨by decide, by decide⟩ ⟨Nat.le_refl _, Nat.le_refl _⟩ dX6_readUnit_69) (fun u H locs hp O _ => ?_)
  cases hp
  have O : XH D A s.heap h (xct LM okM h d σ_1) H locs := O
  refine lv_aload_n hx hb dX6_readUnit_72 rfl (lv_at hl 0 rfl) ?_
  obtain ⟨σ_2, hg, hf⟩ := bn1_s hf
  refine x_callv (x_runV (As := []) (rest := []) X K O (xct_obj rfl LM_99) rfl (m_M_X6_reads hg) EN_b EN_h (lw_V q1367 q1369 qs50 q124 q1370) 0 rfl hl.1 (Nat.le_of_ble_eq_true rfl) hdV_X6_reads ⟨by decide, by decide⟩ ⟨Nat.le_refl _, Nat.le_refl _⟩ dX6_readUnit_73) (fun u H locs hp O _ => ?_)
  cases hp
  have O : XH D A s.heap h (xct LM okM h d σ_2) H locs := O
  refine lv_iconst (v := 0) hx hb dX6_readUnit_76 (by decide) ?_
  exact x_iret X O rfl _ (Option.some.inj hf).symm rfl dX6_readUnit_77
def M_X6_readUnit_b51 (σ : ST) (x1 : Int32) (s1 : Int32) : Option (ST × Int32) :=
  (if x1 = 0 then M_X6_readUnit_b69 σ s1 (gI σ 99 0 0 13) else M_X6_readUnit_b69 σ s1 ((gI σ 99 0 0 13) - 7))
theorem w_M_X6_readUnit_b51 (X : FX p m c meth s args RX6 cX6_readUnit 2 (some .int)) (K : XK D d A s) {z : ST × Int32} (σ : ST) (x1 : Int32) (s1 : Int32) (ls : Array Slot) (H : Heap) (locs : List Loc) (O : XH D A s.heap h (xct LM okM h d σ) H locs) (hl : lv_has ls 2 [(0, .ref (h 99 0 0)), (1, .int x1)]) (hf : M_X6_readUnit_b51 σ x1 s1 = some z) : W p l e (rmD 3 0 0) s m args below meth c H locs 0 0 (MQ below (Qi D (pz z) (cw h LM okM d) A) args s 0 0 A) (F0 m 51 ls [.int s1, .ref (h 99 0 0)]) := by
  have hx := X.1.1; have hb := X.1.2.1
  rw [M_X6_readUnit_b51] at hf
  refine lv_iload_n hx hb dX6_readUnit_51 rfl (lv_at hl 1 rfl) ?_
  refine lv_if_eq (tgt := 65) hx hb dX6_readUnit_52 (by decide) (fun c_1 => ?_) (fun c_1 => ?_)
  · replace hf := if_t c_1 hf
    refine lv_aload_n hx hb dX6_readUnit_65 rfl (lv_at hl 0 rfl) ?_
    refine x_gI X K O 13 rfl LM_99 rfl rfl in_X6 (by decide) q1163 dX6_readUnit_66 ?_
    exact w_M_X6_readUnit_b69 X K _ _ _ ls _ _ O (lv_sub hl [0] rfl) hf
  · replace hf := if_f c_1 hf
    refine lv_aload_n hx hb dX6_readUnit_55 rfl (lv_at hl 0 rfl) ?_
    refine x_gI X K O 13 rfl LM_99 rfl rfl in_X6 (by decide) q1163 dX6_readUnit_56 ?_
    refine lv_bipush (v := 7) hx hb dX6_readUnit_59 (by decide) ?_
    refine lv_isub hx hb dX6_readUnit_61 ?_
    refine lv_goto (tgt := 69) hx hb dX6_readUnit_62 (by decide) ?_
    exact w_M_X6_readUnit_b69 X K _ _ _ ls _ _ O (lv_sub hl [0] rfl) hf
def M_X6_readUnit_b41 (σ : ST) (x1 : Int32) : Option (ST × Int32) :=
  (if x1 = 0 then M_X6_readUnit_b51 σ x1 0 else M_X6_readUnit_b51 σ x1 1)
theorem w_M_X6_readUnit_b41 (X : FX p m c meth s args RX6 cX6_readUnit 2 (some .int)) (K : XK D d A s) {z : ST × Int32} (σ : ST) (x1 : Int32) (ls : Array Slot) (H : Heap) (locs : List Loc) (O : XH D A s.heap h (xct LM okM h d σ) H locs) (hl : lv_has ls 2 [(0, .ref (h 99 0 0)), (1, .int x1)]) (hf : M_X6_readUnit_b41 σ x1 = some z) : W p l e (rmD 3 0 0) s m args below meth c H locs 0 0 (MQ below (Qi D (pz z) (cw h LM okM d) A) args s 0 0 A) (F0 m 41 ls []) := by
  have hx := X.1.1; have hb := X.1.2.1
  rw [M_X6_readUnit_b41] at hf
  refine lv_aload_n hx hb dX6_readUnit_41 rfl (lv_at hl 0 rfl) ?_
  refine lv_iload_n hx hb dX6_readUnit_42 rfl (lv_at hl 1 rfl) ?_
  refine lv_if_eq (tgt := 50) hx hb dX6_readUnit_43 (by decide) (fun c_1 => ?_) (fun c_1 => ?_)
  · replace hf := if_t c_1 hf
    refine lv_iconst (v := 0) hx hb dX6_readUnit_50 (by decide) ?_
    exact w_M_X6_readUnit_b51 X K _ _ _ ls _ _ O (lv_sub hl [0, 1] rfl) hf
  · replace hf := if_f c_1 hf
    refine lv_iconst (v := 1) hx hb dX6_readUnit_46 (by decide) ?_
    refine lv_goto (tgt := 51) hx hb dX6_readUnit_47 (by decide) ?_
    exact w_M_X6_readUnit_b51 X K _ _ _ ls _ _ O (lv_sub hl [0, 1] rfl) hf
def M_X6_readUnit_b22 (σ : ST) (s0 : Int32) : Option (ST × Int32) :=
  (if s0 = 0 then (if (gI σ 99 0 0 12) = 3 then M_X6_readUnit_b41 σ s0 else bn2 (M_X6_errs σ 1) (fun σ_3 r_4 => some (σ_3, r_4))) else M_X6_readUnit_b41 σ s0)
theorem w_M_X6_readUnit_b22 (X : FX p m c meth s args RX6 cX6_readUnit 2 (some .int)) (K : XK D d A s) {z : ST × Int32} (σ : ST) (s0 : Int32) (ls : Array Slot) (H : Heap) (locs : List Loc) (O : XH D A s.heap h (xct LM okM h d σ) H locs) (hl : lv_has ls 2 [(0, .ref (h 99 0 0))]) (hf : M_X6_readUnit_b22 σ s0 = some z) : W p l e (rmD 3 0 0) s m args below meth c H locs 0 0 (MQ below (Qi D (pz z) (cw h LM okM d) A) args s 0 0 A) (F0 m 22 ls [.int s0]) := by
  have hx := X.1.1; have hb := X.1.2.1
  rw [M_X6_readUnit_b22] at hf
  refine lv_istore_n (lv' := [(1, .int s0), (0, .ref (h 99 0 0))]) hx hb dX6_readUnit_22 rfl hl (by decide) rfl (fun ls hl => ?_)
  refine lv_iload_n hx hb dX6_readUnit_23 rfl (lv_at hl 0 rfl) ?_
  refine lv_if_ne (tgt := 41) hx hb dX6_readUnit_24 (by decide) (fun c_1 => ?_) (fun c_1 => ?_)
  · replace hf := if_f c_1 hf
    exact w_M_X6_readUnit_b41 X K _ _ ls _ _ O (lv_sub hl [1, 0] rfl) hf
  · replace hf := if_t c_1 hf
    refine lv_aload_n hx hb dX6_readUnit_27 rfl (lv_at hl 1 rfl) ?_
    refine x_gI X K O 12 rfl LM_99 rfl rfl in_X6 (by decide) q1162 dX6_readUnit_28 ?_
    refine lv_iconst (v := 3) hx hb dX6_readUnit_31 (by decide) ?_
    refine lv_icmp_eq (tgt := 41) hx hb dX6_readUnit_32 (by decide) (fun c_2 => ?_) (fun c_2 => ?_)
    · replace hf := if_t c_2 hf
      exact w_M_X6_readUnit_b41 X K _ _ ls _ _ O (lv_sub hl [1, 0] rfl) hf
    · replace hf := if_f c_2 hf
      refine lv_aload_n hx hb dX6_readUnit_35 rfl (lv_at hl 1 rfl) ?_
      refine lv_iconst (v := 1) hx hb dX6_readUnit_36 (by decide) ?_
      obtain ⟨σ_3, r_4, hg, hf⟩ := bn2_s hf
      refine x_calli (x_runV (As := [.int 1]) (rest := []) X K O (xct_obj rfl LM_99) rfl (m_M_X6_errs hg) EN_b EN_h (lw_V q1399 q1401 qs58 q124 q1402) 1 rfl hl.1 (Nat.le_of_ble_eq_true rfl) hdV_X6_errs ⟨by decide, by decide⟩ ⟨Nat.le_refl _, Nat.le_refl _⟩ dX6_readUnit_37) (fun r u H locs hp O _ => ?_)
      cases hp
      have O : XH D A s.heap h (xct LM okM h d σ_3) H locs := O
      exact x_iret X O rfl _ (Option.some.inj hf).symm rfl dX6_readUnit_40
def M_X6_readUnit_b21 (σ : ST) : Option (ST × Int32) :=
  M_X6_readUnit_b22 σ 0
theorem w_M_X6_readUnit_b21 (X : FX p m c meth s args RX6 cX6_readUnit 2 (some .int)) (K : XK D d A s) {z : ST × Int32} (σ : ST) (ls : Array Slot) (H : Heap) (locs : List Loc) (O : XH D A s.heap h (xct LM okM h d σ) H locs) (hl : lv_has ls 2 [(0, .ref (h 99 0 0))]) (hf : M_X6_readUnit_b21 σ = some z) : W p l e (rmD 3 0 0) s m args below meth c H locs 0 0 (MQ below (Qi D (pz z) (cw h LM okM d) A) args s 0 0 A) (F0 m 21 ls []) := by
  have hx := X.1.1; have hb := X.1.2.1
  rw [M_X6_readUnit_b21] at hf
  refine lv_iconst (v := 0) hx hb dX6_readUnit_21 (by decide) ?_
  exact w_M_X6_readUnit_b22 X K _ _ ls _ _ O (lv_sub hl [0] rfl) hf
def M_X6_readUnit (σ : ST) : Option (ST × Int32) :=
  (if (gI σ 99 0 0 12) = 2 then (if (gI σ 99 0 0 13) < 7 then M_X6_readUnit_b21 σ else M_X6_readUnit_b22 σ 1) else M_X6_readUnit_b21 σ)
theorem m_M_X6_readUnit {l : Launch} {D : va_G} {d : Nat → ClassId} {h : IX} {σ : ST} {z : ST × Int32} (hf : M_X6_readUnit σ = some z) : XM l D d EN yX6_readUnit cX6_readUnit 2 (some .int) 3 0 0 [.ref (h 99 0 0)] h (xct LM okM h d σ) (Qi D (pz z) (cw h LM okM d)) := by
  refine XM.of (by decide +kernel) (Nat.le_of_ble_eq_true rfl) ?_
  intro p e s m below meth c A ls X _ K _ O hl
  have hl : lv_has ls 2 [(0, .ref (h 99 0 0))] := hl
  have hx := X.1.1; have hb := X.1.2.1
  rw [M_X6_readUnit] at hf
  refine lv_aload_n hx hb dX6_readUnit_0 rfl (lv_at hl 0 rfl) ?_
  refine x_gI X K O 12 rfl LM_99 rfl rfl in_X6 (by decide) q1162 dX6_readUnit_1 ?_
  refine lv_iconst (v := 2) hx hb dX6_readUnit_4 (by decide) ?_
  refine lv_icmp_ne (tgt := 21) hx hb dX6_readUnit_5 (by decide) (fun c_1 => ?_) (fun c_1 => ?_)
  · replace hf := if_f c_1 hf
    exact w_M_X6_readUnit_b21 X K _ ls _ _ O (lv_sub hl [0] rfl) hf
  · replace hf := if_t c_1 hf
    refine lv_aload_n hx hb dX6_readUnit_8 rfl (lv_at hl 0 rfl) ?_
    refine x_gI X K O 13 rfl LM_99 rfl rfl in_X6 (by decide) q1163 dX6_readUnit_9 ?_
    refine lv_bipush (v := 7) hx hb dX6_readUnit_12 (by decide) ?_
    refine lv_icmp_lt (tgt := 21) hx hb dX6_readUnit_14 (by decide) (fun c_2 => ?_) (fun c_2 => ?_)
    · replace hf := if_t c_2 hf
      exact w_M_X6_readUnit_b21 X K _ ls _ _ O (lv_sub hl [0] rfl) hf
    · replace hf := if_f c_2 hf
      refine lv_iconst (v := 1) hx hb dX6_readUnit_17 (by decide) ?_
      refine lv_goto (tgt := 22) hx hb dX6_readUnit_18 (by decide) ?_
      exact w_M_X6_readUnit_b22 X K _ _ ls _ _ O (lv_sub hl [0] rfl) hf
theorem hdV_X6_isSign : yX6_isSign.cls = RX6 ∧ (yX6_isSign.cls ≠ "java/lang/invoke/MethodHandle" ∧ yX6_isSign.cls ≠ "java/lang/invoke/VarHandle" ∧ (parseMethodDescriptor yX6_isSign.desc).map (fun d => d.parameters.length) = some 1) := by decide +kernel
theorem hdV_X6_readUnit : yX6_readUnit.cls = RX6 ∧ (yX6_readUnit.cls ≠ "java/lang/invoke/MethodHandle" ∧ yX6_readUnit.cls ≠ "java/lang/invoke/VarHandle" ∧ (parseMethodDescriptor yX6_readUnit.desc).map (fun d => d.parameters.length) = some 0) := by decide +kernel
def M_X6_readProduct_b94 (kb10 : ST → Option (ST × Int32)) (σ : ST) (s1 : Int32) : Option (ST × Int32) :=
  bn1 (M_X6_emits σ s1 0) (fun σ_1 => kb10 σ_1)
theorem w_M_X6_readProduct_b94 (X : FX p m c meth s args RX6 cX6_readProduct 2 (some .int)) (K : XK D d A s) {z : ST × Int32} {kb10 : ST → Option (ST × Int32)} (hkb10 : ∀ (σ : ST) (ls : Array Slot) (H : Heap) (locs : List Loc), XH D A s.heap h (xct LM okM h d σ) H locs → lv_has ls 2 [(0, .ref (h 99 0 0))] → kb10 σ  = some z → W p l e (rmD 4 0 0) s m args below meth c H locs 0 0 (MQ below (Qi D (pz z) (cw h LM okM d) A) args s 0 0 A) (F0 m 10 ls [])) (σ : ST) (s1 : Int32) (ls : Array Slot) (H : Heap) (locs : List Loc) (O : XH D A s.heap h (xct LM okM h d σ) H locs) (hl : lv_has ls 2 [(0, .ref (h 99 0 0))]) (hf : M_X6_readProduct_b94 kb10 σ s1 = some z) : W p l e (rmD 4 0 0) s m args below meth c H locs 0 0 (MQ below (Qi D (pz z) (cw h LM okM d) A) args s 0 0 A) (F0 m 94 ls [.int s1, .ref (h 99 0 0)]) := by
  have hx := X.1.1; have hb := X.1.2.1
  rw [M_X6_readProduct_b94] at hf
  refine lv_iconst (v := 0) hx hb dX6_readProduct_94 (by decide) ?_
  obtain ⟨σ_1, hg, hf⟩ := bn1_s hf
  refine x_callv (x_runV (As := [.int s1, .int 0]) (rest := []) X K O (xct_obj rfl LM_99) rfl (m_M_X6_emits hg) EN_b EN_h (lw_V q1431 q1433 qs66 q124 q1434) 2 rfl hl.1 (Nat.le_of_ble_eq_true rfl) hdV_X6_emits ⟨by decide, by decide⟩ ⟨Nat.le_refl _, Nat.le_refl _⟩ dX6_readProduct_95) (fun u H locs hp O _ => ?_)
  cases hp
  have O : XH D A s.heap h (xct LM okM h d σ_1) H locs := O
  refine lv_goto (tgt := 10) hx hb dX6_readProduct_98 (by decide) ?_
  exact hkb10 _ ls _ _ O (lv_sub hl [0] rfl) hf
def M_X6_readProduct_b74 (kb10 : ST → Option (ST × Int32)) (σ : ST) (x1 : Int32) : Option (ST × Int32) :=
  bn2 (M_X6_readUnit σ) (fun σ_1 r_2 => (if r_2 = (-1) then some (σ_1, (-1)) else (if x1 = 0 then M_X6_readProduct_b94 kb10 σ_1 5 else M_X6_readProduct_b94 kb10 σ_1 4)))
theorem w_M_X6_readProduct_b74 (X : FX p m c meth s args RX6 cX6_readProduct 2 (some .int)) (K : XK D d A s) {z : ST × Int32} {kb10 : ST → Option (ST × Int32)} (hkb10 : ∀ (σ : ST) (ls : Array Slot) (H : Heap) (locs : List Loc), XH D A s.heap h (xct LM okM h d σ) H locs → lv_has ls 2 [(0, .ref (h 99 0 0))] → kb10 σ  = some z → W p l e (rmD 4 0 0) s m args below meth c H locs 0 0 (MQ below (Qi D (pz z) (cw h LM okM d) A) args s 0 0 A) (F0 m 10 ls [])) (σ : ST) (x1 : Int32) (ls : Array Slot) (H : Heap) (locs : List Loc) (O : XH D A s.heap h (xct LM okM h d σ) H locs) (hl : lv_has ls 2 [(0, .ref (h 99 0 0)), (1, .int x1)]) (hf : M_X6_readProduct_b74 kb10 σ x1 = some z) : W p l e (rmD 4 0 0) s m args below meth c H locs 0 0 (MQ below (Qi D (pz z) (cw h LM okM d) A) args s 0 0 A) (F0 m 74 ls []) := by
  have hx := X.1.1; have hb := X.1.2.1
  rw [M_X6_readProduct_b74] at hf
  refine lv_aload_n hx hb dX6_readProduct_74 rfl (lv_at hl 0 rfl) ?_
  obtain ⟨σ_1, r_2, hg, hf⟩ := bn2_s hf
  refine x_calli (x_runV (As := []) (rest := []) X K O (xct_obj rfl LM_99) rfl (m_M_X6_readUnit hg) EN_b EN_h (lw_V q1427 q1429 qs65 q124 q1430) 0 rfl hl.1 (Nat.le_of_ble_eq_true rfl) hdV_X6_readUnit ⟨by decide, by decide⟩ ⟨Nat.le_refl _, Nat.le_refl _⟩ dX6_readProduct_75) (fun r u H locs hp O _ => ?_)
  cases hp
  have O : XH D A s.heap h (xct LM okM h d σ_1) H locs := O
  refine lv_iconst (v := (-1)) hx hb dX6_readProduct_78 (by decide) ?_
  refine lv_icmp_ne (tgt := 84) hx hb dX6_readProduct_79 (by decide) (fun c_3 => ?_) (fun c_3 => ?_)
  · replace hf := if_f c_3 hf
    refine lv_aload_n hx hb dX6_readProduct_84 rfl (lv_at hl 0 rfl) ?_
    refine lv_iload_n hx hb dX6_readProduct_85 rfl (lv_at hl 1 rfl) ?_
    refine lv_if_eq (tgt := 93) hx hb dX6_readProduct_86 (by decide) (fun c_4 => ?_) (fun c_4 => ?_)
    · replace hf := if_t c_4 hf
      refine lv_iconst (v := 5) hx hb dX6_readProduct_93 (by decide) ?_
      exact w_M_X6_readProduct_b94 X K hkb10 _ _ ls _ _ O (lv_sub hl [0] rfl) hf
    · replace hf := if_f c_4 hf
      refine lv_iconst (v := 4) hx hb dX6_readProduct_89 (by decide) ?_
      refine lv_goto (tgt := 94) hx hb dX6_readProduct_90 (by decide) ?_
      exact w_M_X6_readProduct_b94 X K hkb10 _ _ ls _ _ O (lv_sub hl [0] rfl) hf
  · replace hf := if_t c_3 hf
    refine lv_iconst (v := (-1)) hx hb dX6_readProduct_82 (by decide) ?_
    exact x_iret X O rfl _ (Option.some.inj hf).symm rfl dX6_readProduct_83
def M_X6_readProduct_b57 (kb10 : ST → Option (ST × Int32)) (σ : ST) (x1 : Int32) : Option (ST × Int32) :=
  (if x1 = 0 then (if (gI σ 99 0 0 13) = 0 then bn2 (M_X6_errs σ 2) (fun σ_3 r_4 => some (σ_3, r_4)) else M_X6_readProduct_b74 kb10 σ x1) else M_X6_readProduct_b74 kb10 σ x1)
theorem w_M_X6_readProduct_b57 (X : FX p m c meth s args RX6 cX6_readProduct 2 (some .int)) (K : XK D d A s) {z : ST × Int32} {kb10 : ST → Option (ST × Int32)} (hkb10 : ∀ (σ : ST) (ls : Array Slot) (H : Heap) (locs : List Loc), XH D A s.heap h (xct LM okM h d σ) H locs → lv_has ls 2 [(0, .ref (h 99 0 0))] → kb10 σ  = some z → W p l e (rmD 4 0 0) s m args below meth c H locs 0 0 (MQ below (Qi D (pz z) (cw h LM okM d) A) args s 0 0 A) (F0 m 10 ls [])) (σ : ST) (x1 : Int32) (ls : Array Slot) (H : Heap) (locs : List Loc) (O : XH D A s.heap h (xct LM okM h d σ) H locs) (hl : lv_has ls 2 [(0, .ref (h 99 0 0)), (1, .int x1)]) (hf : M_X6_readProduct_b57 kb10 σ x1 = some z) : W p l e (rmD 4 0 0) s m args below meth c H locs 0 0 (MQ below (Qi D (pz z) (cw h LM okM d) A) args s 0 0 A) (F0 m 57 ls []) := by
  have hx := X.1.1; have hb := X.1.2.1
  rw [M_X6_readProduct_b57] at hf
  refine lv_iload_n hx hb dX6_readProduct_57 rfl (lv_at hl 1 rfl) ?_
  refine lv_if_ne (tgt := 74) hx hb dX6_readProduct_58 (by decide) (fun c_1 => ?_) (fun c_1 => ?_)
  · replace hf := if_f c_1 hf
    exact w_M_X6_readProduct_b74 X K hkb10 _ _ ls _ _ O (lv_sub hl [0, 1] rfl) hf
  · replace hf := if_t c_1 hf
    refine lv_aload_n hx hb dX6_readProduct_61 rfl (lv_at hl 0 rfl) ?_
    refine x_gI X K O 13 rfl LM_99 rfl rfl in_X6 (by decide) q1163 dX6_readProduct_62 ?_
    refine lv_if_ne (tgt := 74) hx hb dX6_readProduct_65 (by decide) (fun c_2 => ?_) (fun c_2 => ?_)
    · replace hf := if_f c_2 hf
      exact w_M_X6_readProduct_b74 X K hkb10 _ _ ls _ _ O (lv_sub hl [0, 1] rfl) hf
    · replace hf := if_t c_2 hf
      refine lv_aload_n hx hb dX6_readProduct_68 rfl (lv_at hl 0 rfl) ?_
      refine lv_iconst (v := 2) hx hb dX6_readProduct_69 (by decide) ?_
      obtain ⟨σ_3, r_4, hg, hf⟩ := bn2_s hf
      refine x_calli (x_runV (As := [.int 2]) (rest := []) X K O (xct_obj rfl LM_99) rfl (m_M_X6_errs hg) EN_b EN_h (lw_V q1399 q1401 qs58 q124 q1402) 1 rfl hl.1 (Nat.le_of_ble_eq_true rfl) hdV_X6_errs ⟨by decide, by decide⟩ ⟨Nat.le_refl _, Nat.le_refl _⟩ dX6_readProduct_70) (fun r u H locs hp O _ => ?_)
      cases hp
      have O : XH D A s.heap h (xct LM okM h d σ_3) H locs := O
      exact x_iret X O rfl _ (Option.some.inj hf).symm rfl dX6_readProduct_73
def M_X6_readProduct_b28 (kb10 : ST → Option (ST × Int32)) (σ : ST) : Option (ST × Int32) :=
  bn2 (M_X6_isSign σ 42) (fun σ_1 r_2 => bn1 (M_X6_reads σ_1) (fun σ_3 => (if r_2 = 0 then (if (gI σ_3 99 0 0 12) = 3 then M_X6_readProduct_b57 kb10 σ_3 r_2 else bn2 (M_X6_errs σ_3 1) (fun σ_6 r_7 => some (σ_6, r_7))) else M_X6_readProduct_b57 kb10 σ_3 r_2)))
theorem w_M_X6_readProduct_b28 (X : FX p m c meth s args RX6 cX6_readProduct 2 (some .int)) (K : XK D d A s) {z : ST × Int32} {kb10 : ST → Option (ST × Int32)} (hkb10 : ∀ (σ : ST) (ls : Array Slot) (H : Heap) (locs : List Loc), XH D A s.heap h (xct LM okM h d σ) H locs → lv_has ls 2 [(0, .ref (h 99 0 0))] → kb10 σ  = some z → W p l e (rmD 4 0 0) s m args below meth c H locs 0 0 (MQ below (Qi D (pz z) (cw h LM okM d) A) args s 0 0 A) (F0 m 10 ls [])) (σ : ST) (ls : Array Slot) (H : Heap) (locs : List Loc) (O : XH D A s.heap h (xct LM okM h d σ) H locs) (hl : lv_has ls 2 [(0, .ref (h 99 0 0))]) (hf : M_X6_readProduct_b28 kb10 σ = some z) : W p l e (rmD 4 0 0) s m args below meth c H locs 0 0 (MQ below (Qi D (pz z) (cw h LM okM d) A) args s 0 0 A) (F0 m 28 ls []) := by
  have hx := X.1.1; have hb := X.1.2.1
  rw [M_X6_readProduct_b28] at hf
  refine lv_aload_n hx hb dX6_readProduct_28 rfl (lv_at hl 0 rfl) ?_
  refine lv_bipush (v := 42) hx hb dX6_readProduct_29 (by decide) ?_
  obtain ⟨σ_1, r_2, hg, hf⟩ := bn2_s hf
  refine x_calli (x_runV (As := [.int 42]) (rest := []) X K O (xct_obj rfl LM_99) rfl (m_M_X6_isSign hg) EN_b EN_h (lw_V q1407 q1409 qs60 q124 q1410) 1 rfl hl.1 (Nat.le_of_ble_eq_true rfl) hdV_X6_isSign ⟨by decide, by decide⟩ ⟨Nat.le_refl _, Nat.le_refl _⟩ dX6_readProduct_31) (fun r u H locs hp O _ => ?_)
  cases hp
  have O : XH D A s.heap h (xct LM okM h d σ_1) H locs := O
  refine lv_istore_n (lv' := [(1, .int r_2), (0, .ref (h 99 0 0))]) hx hb dX6_readProduct_34 rfl hl (by decide) rfl (fun ls hl => ?_)
  refine lv_aload_n hx hb dX6_readProduct_35 rfl (lv_at hl 1 rfl) ?_
  obtain ⟨σ_3, hg, hf⟩ := bn1_s hf
  refine x_callv (x_runV (As := []) (rest := []) X K O (xct_obj rfl LM_99) rfl (m_M_X6_reads hg) EN_b EN_h (lw_V q1367 q1369 qs50 q124 q1370) 0 rfl hl.1 (Nat.le_of_ble_eq_true rfl) hdV_X6_reads ⟨by decide, by decide⟩ ⟨Nat.le_refl _, Nat.le_refl _⟩ dX6_readProduct_36) (fun u H locs hp O _ => ?_)
  cases hp
  have O : XH D A s.heap h (xct LM okM h d σ_3) H locs := O
  refine lv_iload_n hx hb dX6_readProduct_39 rfl (lv_at hl 0 rfl) ?_
  refine lv_if_ne (tgt := 57) hx hb dX6_readProduct_40 (by decide) (fun c_4 => ?_) (fun c_4 => ?_)
  · replace hf := if_f c_4 hf
    exact w_M_X6_readProduct_b57 X K hkb10 _ _ ls _ _ O (lv_sub hl [1, 0] rfl) hf
  · replace hf := if_t c_4 hf
    refine lv_aload_n hx hb dX6_readProduct_43 rfl (lv_at hl 1 rfl) ?_
    refine x_gI X K O 12 rfl LM_99 rfl rfl in_X6 (by decide) q1162 dX6_readProduct_44 ?_
    refine lv_iconst (v := 3) hx hb dX6_readProduct_47 (by decide) ?_
    refine lv_icmp_eq (tgt := 57) hx hb dX6_readProduct_48 (by decide) (fun c_5 => ?_) (fun c_5 => ?_)
    · replace hf := if_t c_5 hf
      exact w_M_X6_readProduct_b57 X K hkb10 _ _ ls _ _ O (lv_sub hl [1, 0] rfl) hf
    · replace hf := if_f c_5 hf
      refine lv_aload_n hx hb dX6_readProduct_51 rfl (lv_at hl 1 rfl) ?_
      refine lv_iconst (v := 1) hx hb dX6_readProduct_52 (by decide) ?_
      obtain ⟨σ_6, r_7, hg, hf⟩ := bn2_s hf
      refine x_calli (x_runV (As := [.int 1]) (rest := []) X K O (xct_obj rfl LM_99) rfl (m_M_X6_errs hg) EN_b EN_h (lw_V q1399 q1401 qs58 q124 q1402) 1 rfl hl.1 (Nat.le_of_ble_eq_true rfl) hdV_X6_errs ⟨by decide, by decide⟩ ⟨Nat.le_refl _, Nat.le_refl _⟩ dX6_readProduct_53) (fun r u H locs hp O _ => ?_)
      cases hp
      have O : XH D A s.heap h (xct LM okM h d σ_6) H locs := O
      exact x_iret X O rfl _ (Option.some.inj hf).symm rfl dX6_readProduct_56
def M_X6_readProduct_b10 : Nat → ST → Option (ST × Int32)
  | 0, _ => none
  | n + 1, σ =>
    bn2 (M_X6_isSign σ 42) (fun σ_1 r_2 => (if r_2 = 0 then bn2 (M_X6_isSign σ_1 47) (fun σ_4 r_5 => (if r_5 = 0 then some (σ_4, 0) else M_X6_readProduct_b28 (M_X6_readProduct_b10 n) σ_4)) else M_X6_readProduct_b28 (M_X6_readProduct_b10 n) σ_1))
theorem w_M_X6_readProduct_b10 (X : FX p m c meth s args RX6 cX6_readProduct 2 (some .int)) (K : XK D d A s) {z : ST × Int32} : ∀ (n : Nat) (σ : ST) (ls : Array Slot) (H : Heap) (locs : List Loc), XH D A s.heap h (xct LM okM h d σ) H locs → lv_has ls 2 [(0, .ref (h 99 0 0))] → M_X6_readProduct_b10 n σ = some z → W p l e (rmD 4 0 0) s m args below meth c H locs 0 0 (MQ below (Qi D (pz z) (cw h LM okM d) A) args s 0 0 A) (F0 m 10 ls []) := by
  have hx := X.1.1; have hb := X.1.2.1
  intro n
  induction n with
  | zero =>
    intro σ ls H locs O hl hf
    exact absurd hf (fun q => by cases q)
  | succ n ih =>
    intro σ ls H locs O hl hf
    rw [M_X6_readProduct_b10] at hf
    refine lv_aload_n hx hb dX6_readProduct_10 rfl (lv_at hl 0 rfl) ?_
    refine lv_bipush (v := 42) hx hb dX6_readProduct_11 (by decide) ?_
    obtain ⟨σ_1, r_2, hg, hf⟩ := bn2_s hf
    refine x_calli (x_runV (As := [.int 42]) (rest := []) X K O (xct_obj rfl LM_99) rfl (m_M_X6_isSign hg) EN_b EN_h (lw_V q1407 q1409 qs60 q124 q1410) 1 rfl hl.1 (Nat.le_of_ble_eq_true rfl) hdV_X6_isSign ⟨by decide, by decide⟩ ⟨Nat.le_refl _, Nat.le_refl _⟩ dX6_readProduct_13) (fun r u H locs hp O _ => ?_)
    cases hp
    have O : XH D A s.heap h (xct LM okM h d σ_1) H locs := O
    refine lv_if_ne (tgt := 28) hx hb dX6_readProduct_16 (by decide) (fun c_3 => ?_) (fun c_3 => ?_)
    · replace hf := if_f c_3 hf
      exact w_M_X6_readProduct_b28 X K ih _ ls _ _ O (lv_sub hl [0] rfl) hf
    · replace hf := if_t c_3 hf
      refine lv_aload_n hx hb dX6_readProduct_19 rfl (lv_at hl 0 rfl) ?_
      refine lv_bipush (v := 47) hx hb dX6_readProduct_20 (by decide) ?_
      obtain ⟨σ_4, r_5, hg, hf⟩ := bn2_s hf
      refine x_calli (x_runV (As := [.int 47]) (rest := []) X K O (xct_obj rfl LM_99) rfl (m_M_X6_isSign hg) EN_b EN_h (lw_V q1407 q1409 qs60 q124 q1410) 1 rfl hl.1 (Nat.le_of_ble_eq_true rfl) hdV_X6_isSign ⟨by decide, by decide⟩ ⟨Nat.le_refl _, Nat.le_refl _⟩ dX6_readProduct_22) (fun r u H locs hp O _ => ?_)
      cases hp
      have O : XH D A s.heap h (xct LM okM h d σ_4) H locs := O
      refine lv_if_eq (tgt := 101) hx hb dX6_readProduct_25 (by decide) (fun c_6 => ?_) (fun c_6 => ?_)
      · replace hf := if_t c_6 hf
        refine lv_iconst (v := 0) hx hb dX6_readProduct_101 (by decide) ?_
        exact x_iret X O rfl _ (Option.some.inj hf).symm rfl dX6_readProduct_102
      · replace hf := if_f c_6 hf
        exact w_M_X6_readProduct_b28 X K ih _ ls _ _ O (lv_sub hl [0] rfl) hf
def M_X6_readProduct (σ : ST) : Option (ST × Int32) :=
  bn2 (M_X6_readUnit σ) (fun σ_1 r_2 => (if r_2 = (-1) then some (σ_1, (-1)) else M_X6_readProduct_b10 FUEL σ_1))
theorem m_M_X6_readProduct {l : Launch} {D : va_G} {d : Nat → ClassId} {h : IX} {σ : ST} {z : ST × Int32} (hf : M_X6_readProduct σ = some z) : XM l D d EN yX6_readProduct cX6_readProduct 2 (some .int) 4 0 0 [.ref (h 99 0 0)] h (xct LM okM h d σ) (Qi D (pz z) (cw h LM okM d)) := by
  refine XM.of (by decide +kernel) (Nat.le_of_ble_eq_true rfl) ?_
  intro p e s m below meth c A ls X _ K _ O hl
  have hl : lv_has ls 2 [(0, .ref (h 99 0 0))] := hl
  have hx := X.1.1; have hb := X.1.2.1
  rw [M_X6_readProduct] at hf
  refine lv_aload_n hx hb dX6_readProduct_0 rfl (lv_at hl 0 rfl) ?_
  obtain ⟨σ_1, r_2, hg, hf⟩ := bn2_s hf
  refine x_calli (x_runV (As := []) (rest := []) X K O (xct_obj rfl LM_99) rfl (m_M_X6_readUnit hg) EN_b EN_h (lw_V q1427 q1429 qs65 q124 q1430) 0 rfl hl.1 (Nat.le_of_ble_eq_true rfl) hdV_X6_readUnit ⟨by decide, by decide⟩ ⟨Nat.le_refl _, Nat.le_refl _⟩ dX6_readProduct_1) (fun r u H locs hp O _ => ?_)
  cases hp
  have O : XH D A s.heap h (xct LM okM h d σ_1) H locs := O
  refine lv_iconst (v := (-1)) hx hb dX6_readProduct_4 (by decide) ?_
  refine lv_icmp_ne (tgt := 10) hx hb dX6_readProduct_5 (by decide) (fun c_3 => ?_) (fun c_3 => ?_)
  · replace hf := if_f c_3 hf
    exact w_M_X6_readProduct_b10 X K _ _ ls _ _ O (lv_sub hl [0] rfl) hf
  · replace hf := if_t c_3 hf
    refine lv_iconst (v := (-1)) hx hb dX6_readProduct_8 (by decide) ?_
    exact x_iret X O rfl _ (Option.some.inj hf).symm rfl dX6_readProduct_9
theorem hdV_X6_readProduct : yX6_readProduct.cls = RX6 ∧ (yX6_readProduct.cls ≠ "java/lang/invoke/MethodHandle" ∧ yX6_readProduct.cls ≠ "java/lang/invoke/VarHandle" ∧ (parseMethodDescriptor yX6_readProduct.desc).map (fun d => d.parameters.length) = some 0) := by decide +kernel
def M_X6_readSum_b42 (kb10 : ST → Option (ST × Int32)) (σ : ST) (s0 : Int32) : Option (ST × Int32) :=
  bn1 (M_X6_reads σ) (fun σ_1 => bn2 (M_X6_readProduct σ_1) (fun σ_2 r_3 => (if r_3 = (-1) then some (σ_2, (-1)) else bn1 (M_X6_emits σ_2 s0 0) (fun σ_5 => kb10 σ_5))))
theorem w_M_X6_readSum_b42 (X : FX p m c meth s args RX6 cX6_readSum 2 (some .int)) (K : XK D d A s) {z : ST × Int32} {kb10 : ST → Option (ST × Int32)} (hkb10 : ∀ (σ : ST) (ls : Array Slot) (H : Heap) (locs : List Loc), XH D A s.heap h (xct LM okM h d σ) H locs → lv_has ls 2 [(0, .ref (h 99 0 0))] → kb10 σ  = some z → W p l e (rmD 5 0 0) s m args below meth c H locs 0 0 (MQ below (Qi D (pz z) (cw h LM okM d) A) args s 0 0 A) (F0 m 10 ls [])) (σ : ST) (s0 : Int32) (ls : Array Slot) (H : Heap) (locs : List Loc) (O : XH D A s.heap h (xct LM okM h d σ) H locs) (hl : lv_has ls 2 [(0, .ref (h 99 0 0))]) (hf : M_X6_readSum_b42 kb10 σ s0 = some z) : W p l e (rmD 5 0 0) s m args below meth c H locs 0 0 (MQ below (Qi D (pz z) (cw h LM okM d) A) args s 0 0 A) (F0 m 42 ls [.int s0]) := by
  have hx := X.1.1; have hb := X.1.2.1
  rw [M_X6_readSum_b42] at hf
  refine lv_istore_n (lv' := [(1, .int s0), (0, .ref (h 99 0 0))]) hx hb dX6_readSum_42 rfl hl (by decide) rfl (fun ls hl => ?_)
  refine lv_aload_n hx hb dX6_readSum_43 rfl (lv_at hl 1 rfl) ?_
  obtain ⟨σ_1, hg, hf⟩ := bn1_s hf
  refine x_callv (x_runV (As := []) (rest := []) X K O (xct_obj rfl LM_99) rfl (m_M_X6_reads hg) EN_b EN_h (lw_V q1367 q1369 qs50 q124 q1370) 0 rfl hl.1 (Nat.le_of_ble_eq_true rfl) hdV_X6_reads ⟨by decide, by decide⟩ ⟨Nat.le_refl _, Nat.le_refl _⟩ dX6_readSum_44) (fun u H locs hp O _ => ?_)
  cases hp
  have O : XH D A s.heap h (xct LM okM h d σ_1) H locs := O
  refine lv_aload_n hx hb dX6_readSum_47 rfl (lv_at hl 1 rfl) ?_
  obtain ⟨σ_2, r_3, hg, hf⟩ := bn2_s hf
  refine x_calli (x_runV (As := []) (rest := []) X K O (xct_obj rfl LM_99) rfl (m_M_X6_readProduct hg) EN_b EN_h (lw_V q1423 q1425 qs64 q124 q1426) 0 rfl hl.1 (Nat.le_of_ble_eq_true rfl) hdV_X6_readProduct ⟨by decide, by decide⟩ ⟨Nat.le_refl _, Nat.le_refl _⟩ dX6_readSum_48) (fun r u H locs hp O _ => ?_)
  cases hp
  have O : XH D A s.heap h (xct LM okM h d σ_2) H locs := O
  refine lv_iconst (v := (-1)) hx hb dX6_readSum_51 (by decide) ?_
  refine lv_icmp_ne (tgt := 57) hx hb dX6_readSum_52 (by decide) (fun c_4 => ?_) (fun c_4 => ?_)
  · replace hf := if_f c_4 hf
    refine lv_aload_n hx hb dX6_readSum_57 rfl (lv_at hl 1 rfl) ?_
    refine lv_iload_n hx hb dX6_readSum_58 rfl (lv_at hl 0 rfl) ?_
    refine lv_iconst (v := 0) hx hb dX6_readSum_59 (by decide) ?_
    obtain ⟨σ_5, hg, hf⟩ := bn1_s hf
    refine x_callv (x_runV (As := [.int s0, .int 0]) (rest := []) X K O (xct_obj rfl LM_99) rfl (m_M_X6_emits hg) EN_b EN_h (lw_V q1431 q1433 qs66 q124 q1434) 2 rfl hl.1 (Nat.le_of_ble_eq_true rfl) hdV_X6_emits ⟨by decide, by decide⟩ ⟨Nat.le_refl _, Nat.le_refl _⟩ dX6_readSum_60) (fun u H locs hp O _ => ?_)
    cases hp
    have O : XH D A s.heap h (xct LM okM h d σ_5) H locs := O
    refine lv_goto (tgt := 10) hx hb dX6_readSum_63 (by decide) ?_
    exact hkb10 _ ls _ _ O (lv_sub hl [1] rfl) hf
  · replace hf := if_t c_4 hf
    refine lv_iconst (v := (-1)) hx hb dX6_readSum_55 (by decide) ?_
    exact x_iret X O rfl _ (Option.some.inj hf).symm rfl dX6_readSum_56
def M_X6_readSum_b28 (kb10 : ST → Option (ST × Int32)) (σ : ST) : Option (ST × Int32) :=
  (if (gI σ 99 0 0 13) = 43 then M_X6_readSum_b42 kb10 σ 2 else M_X6_readSum_b42 kb10 σ 3)
theorem w_M_X6_readSum_b28 (X : FX p m c meth s args RX6 cX6_readSum 2 (some .int)) (K : XK D d A s) {z : ST × Int32} {kb10 : ST → Option (ST × Int32)} (hkb10 : ∀ (σ : ST) (ls : Array Slot) (H : Heap) (locs : List Loc), XH D A s.heap h (xct LM okM h d σ) H locs → lv_has ls 2 [(0, .ref (h 99 0 0))] → kb10 σ  = some z → W p l e (rmD 5 0 0) s m args below meth c H locs 0 0 (MQ below (Qi D (pz z) (cw h LM okM d) A) args s 0 0 A) (F0 m 10 ls [])) (σ : ST) (ls : Array Slot) (H : Heap) (locs : List Loc) (O : XH D A s.heap h (xct LM okM h d σ) H locs) (hl : lv_has ls 2 [(0, .ref (h 99 0 0))]) (hf : M_X6_readSum_b28 kb10 σ = some z) : W p l e (rmD 5 0 0) s m args below meth c H locs 0 0 (MQ below (Qi D (pz z) (cw h LM okM d) A) args s 0 0 A) (F0 m 28 ls []) := by
  have hx := X.1.1; have hb := X.1.2.1
  rw [M_X6_readSum_b28] at hf
  refine lv_aload_n hx hb dX6_readSum_28 rfl (lv_at hl 0 rfl) ?_
  refine x_gI X K O 13 rfl LM_99 rfl rfl in_X6 (by decide) q1163 dX6_readSum_29 ?_
  refine lv_bipush (v := 43) hx hb dX6_readSum_32 (by decide) ?_
  refine lv_icmp_ne (tgt := 41) hx hb dX6_readSum_34 (by decide) (fun c_1 => ?_) (fun c_1 => ?_)
  · replace hf := if_f c_1 hf
    refine lv_iconst (v := 3) hx hb dX6_readSum_41 (by decide) ?_
    exact w_M_X6_readSum_b42 X K hkb10 _ _ ls _ _ O (lv_sub hl [0] rfl) hf
  · replace hf := if_t c_1 hf
    refine lv_iconst (v := 2) hx hb dX6_readSum_37 (by decide) ?_
    refine lv_goto (tgt := 42) hx hb dX6_readSum_38 (by decide) ?_
    exact w_M_X6_readSum_b42 X K hkb10 _ _ ls _ _ O (lv_sub hl [0] rfl) hf
def M_X6_readSum_b10 : Nat → ST → Option (ST × Int32)
  | 0, _ => none
  | n + 1, σ =>
    bn2 (M_X6_isSign σ 43) (fun σ_1 r_2 => (if r_2 = 0 then bn2 (M_X6_isSign σ_1 45) (fun σ_4 r_5 => (if r_5 = 0 then some (σ_4, 0) else M_X6_readSum_b28 (M_X6_readSum_b10 n) σ_4)) else M_X6_readSum_b28 (M_X6_readSum_b10 n) σ_1))
theorem w_M_X6_readSum_b10 (X : FX p m c meth s args RX6 cX6_readSum 2 (some .int)) (K : XK D d A s) {z : ST × Int32} : ∀ (n : Nat) (σ : ST) (ls : Array Slot) (H : Heap) (locs : List Loc), XH D A s.heap h (xct LM okM h d σ) H locs → lv_has ls 2 [(0, .ref (h 99 0 0))] → M_X6_readSum_b10 n σ = some z → W p l e (rmD 5 0 0) s m args below meth c H locs 0 0 (MQ below (Qi D (pz z) (cw h LM okM d) A) args s 0 0 A) (F0 m 10 ls []) := by
  have hx := X.1.1; have hb := X.1.2.1
  intro n
  induction n with
  | zero =>
    intro σ ls H locs O hl hf
    exact absurd hf (fun q => by cases q)
  | succ n ih =>
    intro σ ls H locs O hl hf
    rw [M_X6_readSum_b10] at hf
    refine lv_aload_n hx hb dX6_readSum_10 rfl (lv_at hl 0 rfl) ?_
    refine lv_bipush (v := 43) hx hb dX6_readSum_11 (by decide) ?_
    obtain ⟨σ_1, r_2, hg, hf⟩ := bn2_s hf
    refine x_calli (x_runV (As := [.int 43]) (rest := []) X K O (xct_obj rfl LM_99) rfl (m_M_X6_isSign hg) EN_b EN_h (lw_V q1407 q1409 qs60 q124 q1410) 1 rfl hl.1 (Nat.le_of_ble_eq_true rfl) hdV_X6_isSign ⟨by decide, by decide⟩ ⟨Nat.le_refl _, Nat.le_refl _⟩ dX6_readSum_13) (fun r u H locs hp O _ => ?_)
    cases hp
    have O : XH D A s.heap h (xct LM okM h d σ_1) H locs := O
    refine lv_if_ne (tgt := 28) hx hb dX6_readSum_16 (by decide) (fun c_3 => ?_) (fun c_3 => ?_)
    · replace hf := if_f c_3 hf
      exact w_M_X6_readSum_b28 X K ih _ ls _ _ O (lv_sub hl [0] rfl) hf
    · replace hf := if_t c_3 hf
      refine lv_aload_n hx hb dX6_readSum_19 rfl (lv_at hl 0 rfl) ?_
      refine lv_bipush (v := 45) hx hb dX6_readSum_20 (by decide) ?_
      obtain ⟨σ_4, r_5, hg, hf⟩ := bn2_s hf
      refine x_calli (x_runV (As := [.int 45]) (rest := []) X K O (xct_obj rfl LM_99) rfl (m_M_X6_isSign hg) EN_b EN_h (lw_V q1407 q1409 qs60 q124 q1410) 1 rfl hl.1 (Nat.le_of_ble_eq_true rfl) hdV_X6_isSign ⟨by decide, by decide⟩ ⟨Nat.le_refl _, Nat.le_refl _⟩ dX6_readSum_22) (fun r u H locs hp O _ => ?_)
      cases hp
      have O : XH D A s.heap h (xct LM okM h d σ_4) H locs := O
      refine lv_if_eq (tgt := 66) hx hb dX6_readSum_25 (by decide) (fun c_6 => ?_) (fun c_6 => ?_)
      · replace hf := if_t c_6 hf
        refine lv_iconst (v := 0) hx hb dX6_readSum_66 (by decide) ?_
        exact x_iret X O rfl _ (Option.some.inj hf).symm rfl dX6_readSum_67
      · replace hf := if_f c_6 hf
        exact w_M_X6_readSum_b28 X K ih _ ls _ _ O (lv_sub hl [0] rfl) hf
def M_X6_readSum (σ : ST) : Option (ST × Int32) :=
  bn2 (M_X6_readProduct σ) (fun σ_1 r_2 => (if r_2 = (-1) then some (σ_1, (-1)) else M_X6_readSum_b10 FUEL σ_1))
theorem m_M_X6_readSum {l : Launch} {D : va_G} {d : Nat → ClassId} {h : IX} {σ : ST} {z : ST × Int32} (hf : M_X6_readSum σ = some z) : XM l D d EN yX6_readSum cX6_readSum 2 (some .int) 5 0 0 [.ref (h 99 0 0)] h (xct LM okM h d σ) (Qi D (pz z) (cw h LM okM d)) := by
  refine XM.of (by decide +kernel) (Nat.le_of_ble_eq_true rfl) ?_
  intro p e s m below meth c A ls X _ K _ O hl
  have hl : lv_has ls 2 [(0, .ref (h 99 0 0))] := hl
  have hx := X.1.1; have hb := X.1.2.1
  rw [M_X6_readSum] at hf
  refine lv_aload_n hx hb dX6_readSum_0 rfl (lv_at hl 0 rfl) ?_
  obtain ⟨σ_1, r_2, hg, hf⟩ := bn2_s hf
  refine x_calli (x_runV (As := []) (rest := []) X K O (xct_obj rfl LM_99) rfl (m_M_X6_readProduct hg) EN_b EN_h (lw_V q1423 q1425 qs64 q124 q1426) 0 rfl hl.1 (Nat.le_of_ble_eq_true rfl) hdV_X6_readProduct ⟨by decide, by decide⟩ ⟨Nat.le_refl _, Nat.le_refl _⟩ dX6_readSum_1) (fun r u H locs hp O _ => ?_)
  cases hp
  have O : XH D A s.heap h (xct LM okM h d σ_1) H locs := O
  refine lv_iconst (v := (-1)) hx hb dX6_readSum_4 (by decide) ?_
  refine lv_icmp_ne (tgt := 10) hx hb dX6_readSum_5 (by decide) (fun c_3 => ?_) (fun c_3 => ?_)
  · replace hf := if_f c_3 hf
    exact w_M_X6_readSum_b10 X K _ _ ls _ _ O (lv_sub hl [0] rfl) hf
  · replace hf := if_t c_3 hf
    refine lv_iconst (v := (-1)) hx hb dX6_readSum_8 (by decide) ?_
    exact x_iret X O rfl _ (Option.some.inj hf).symm rfl dX6_readSum_9
theorem hdV_X6_readSum : yX6_readSum.cls = RX6 ∧ (yX6_readSum.cls ≠ "java/lang/invoke/MethodHandle" ∧ yX6_readSum.cls ≠ "java/lang/invoke/VarHandle" ∧ (parseMethodDescriptor yX6_readSum.desc).map (fun d => d.parameters.length) = some 0) := by decide +kernel
def M_X6_readCompared_b73 (σ : ST) (s0 : Int32) : Option (ST × Int32) :=
  bn1 (M_X6_reads σ) (fun σ_1 => bn2 (M_X6_readSum σ_1) (fun σ_2 r_3 => (if r_3 = (-1) then some (σ_2, (-1)) else bn1 (M_X6_emits σ_2 s0 0) (fun σ_5 => some (σ_5, 0)))))
theorem w_M_X6_readCompared_b73 (X : FX p m c meth s args RX6 cX6_readCompared 2 (some .int)) (K : XK D d A s) {z : ST × Int32} (σ : ST) (s0 : Int32) (ls : Array Slot) (H : Heap) (locs : List Loc) (O : XH D A s.heap h (xct LM okM h d σ) H locs) (hl : lv_has ls 2 [(0, .ref (h 99 0 0))]) (hf : M_X6_readCompared_b73 σ s0 = some z) : W p l e (rmD 6 0 0) s m args below meth c H locs 0 0 (MQ below (Qi D (pz z) (cw h LM okM d) A) args s 0 0 A) (F0 m 73 ls [.int s0]) := by
  have hx := X.1.1; have hb := X.1.2.1
  rw [M_X6_readCompared_b73] at hf
  refine lv_istore_n (lv' := [(1, .int s0), (0, .ref (h 99 0 0))]) hx hb dX6_readCompared_73 rfl hl (by decide) rfl (fun ls hl => ?_)
  refine lv_aload_n hx hb dX6_readCompared_74 rfl (lv_at hl 1 rfl) ?_
  obtain ⟨σ_1, hg, hf⟩ := bn1_s hf
  refine x_callv (x_runV (As := []) (rest := []) X K O (xct_obj rfl LM_99) rfl (m_M_X6_reads hg) EN_b EN_h (lw_V q1367 q1369 qs50 q124 q1370) 0 rfl hl.1 (Nat.le_of_ble_eq_true rfl) hdV_X6_reads ⟨by decide, by decide⟩ ⟨Nat.le_refl _, Nat.le_refl _⟩ dX6_readCompared_75) (fun u H locs hp O _ => ?_)
  cases hp
  have O : XH D A s.heap h (xct LM okM h d σ_1) H locs := O
  refine lv_aload_n hx hb dX6_readCompared_78 rfl (lv_at hl 1 rfl) ?_
  obtain ⟨σ_2, r_3, hg, hf⟩ := bn2_s hf
  refine x_calli (x_runV (As := []) (rest := []) X K O (xct_obj rfl LM_99) rfl (m_M_X6_readSum hg) EN_b EN_h (lw_V q1419 q1421 qs63 q124 q1422) 0 rfl hl.1 (Nat.le_of_ble_eq_true rfl) hdV_X6_readSum ⟨by decide, by decide⟩ ⟨Nat.le_refl _, Nat.le_refl _⟩ dX6_readCompared_79) (fun r u H locs hp O _ => ?_)
  cases hp
  have O : XH D A s.heap h (xct LM okM h d σ_2) H locs := O
  refine lv_iconst (v := (-1)) hx hb dX6_readCompared_82 (by decide) ?_
  refine lv_icmp_ne (tgt := 88) hx hb dX6_readCompared_83 (by decide) (fun c_4 => ?_) (fun c_4 => ?_)
  · replace hf := if_f c_4 hf
    refine lv_aload_n hx hb dX6_readCompared_88 rfl (lv_at hl 1 rfl) ?_
    refine lv_iload_n hx hb dX6_readCompared_89 rfl (lv_at hl 0 rfl) ?_
    refine lv_iconst (v := 0) hx hb dX6_readCompared_90 (by decide) ?_
    obtain ⟨σ_5, hg, hf⟩ := bn1_s hf
    refine x_callv (x_runV (As := [.int s0, .int 0]) (rest := []) X K O (xct_obj rfl LM_99) rfl (m_M_X6_emits hg) EN_b EN_h (lw_V q1431 q1433 qs66 q124 q1434) 2 rfl hl.1 (Nat.le_of_ble_eq_true rfl) hdV_X6_emits ⟨by decide, by decide⟩ ⟨Nat.le_refl _, Nat.le_refl _⟩ dX6_readCompared_91) (fun u H locs hp O _ => ?_)
    cases hp
    have O : XH D A s.heap h (xct LM okM h d σ_5) H locs := O
    refine lv_iconst (v := 0) hx hb dX6_readCompared_94 (by decide) ?_
    exact x_iret X O rfl _ (Option.some.inj hf).symm rfl dX6_readCompared_95
  · replace hf := if_t c_4 hf
    refine lv_iconst (v := (-1)) hx hb dX6_readCompared_86 (by decide) ?_
    exact x_iret X O rfl _ (Option.some.inj hf).symm rfl dX6_readCompared_87
def M_X6_readCompared_b43 (σ : ST) : Option (ST × Int32) :=
  (if (gI σ 99 0 0 13) = 60 then M_X6_readCompared_b73 σ 6 else (if (gI σ 99 0 0 13) = 61 then M_X6_readCompared_b73 σ 7 else M_X6_readCompared_b73 σ 8))
theorem w_M_X6_readCompared_b43 (X : FX p m c meth s args RX6 cX6_readCompared 2 (some .int)) (K : XK D d A s) {z : ST × Int32} (σ : ST) (ls : Array Slot) (H : Heap) (locs : List Loc) (O : XH D A s.heap h (xct LM okM h d σ) H locs) (hl : lv_has ls 2 [(0, .ref (h 99 0 0))]) (hf : M_X6_readCompared_b43 σ = some z) : W p l e (rmD 6 0 0) s m args below meth c H locs 0 0 (MQ below (Qi D (pz z) (cw h LM okM d) A) args s 0 0 A) (F0 m 43 ls []) := by
  have hx := X.1.1; have hb := X.1.2.1
  rw [M_X6_readCompared_b43] at hf
  refine lv_aload_n hx hb dX6_readCompared_43 rfl (lv_at hl 0 rfl) ?_
  refine x_gI X K O 13 rfl LM_99 rfl rfl in_X6 (by decide) q1163 dX6_readCompared_44 ?_
  refine lv_bipush (v := 60) hx hb dX6_readCompared_47 (by decide) ?_
  refine lv_icmp_ne (tgt := 57) hx hb dX6_readCompared_49 (by decide) (fun c_1 => ?_) (fun c_1 => ?_)
  · replace hf := if_f c_1 hf
    refine lv_aload_n hx hb dX6_readCompared_57 rfl (lv_at hl 0 rfl) ?_
    refine x_gI X K O 13 rfl LM_99 rfl rfl in_X6 (by decide) q1163 dX6_readCompared_58 ?_
    refine lv_bipush (v := 61) hx hb dX6_readCompared_61 (by decide) ?_
    refine lv_icmp_ne (tgt := 71) hx hb dX6_readCompared_63 (by decide) (fun c_2 => ?_) (fun c_2 => ?_)
    · replace hf := if_f c_2 hf
      refine lv_bipush (v := 8) hx hb dX6_readCompared_71 (by decide) ?_
      exact w_M_X6_readCompared_b73 X K _ _ ls _ _ O (lv_sub hl [0] rfl) hf
    · replace hf := if_t c_2 hf
      refine lv_bipush (v := 7) hx hb dX6_readCompared_66 (by decide) ?_
      refine lv_goto (tgt := 73) hx hb dX6_readCompared_68 (by decide) ?_
      exact w_M_X6_readCompared_b73 X K _ _ ls _ _ O (lv_sub hl [0] rfl) hf
  · replace hf := if_t c_1 hf
    refine lv_bipush (v := 6) hx hb dX6_readCompared_52 (by decide) ?_
    refine lv_goto (tgt := 73) hx hb dX6_readCompared_54 (by decide) ?_
    exact w_M_X6_readCompared_b73 X K _ _ ls _ _ O (lv_sub hl [0] rfl) hf
def M_X6_readCompared (σ : ST) : Option (ST × Int32) :=
  bn2 (M_X6_readSum σ) (fun σ_1 r_2 => (if r_2 = (-1) then some (σ_1, (-1)) else bn2 (M_X6_isSign σ_1 60) (fun σ_4 r_5 => (if r_5 = 0 then bn2 (M_X6_isSign σ_4 61) (fun σ_7 r_8 => (if r_8 = 0 then bn2 (M_X6_isSign σ_7 62) (fun σ_10 r_11 => (if r_11 = 0 then bn2 (M_X6_errs σ_10 1) (fun σ_13 r_14 => some (σ_13, r_14)) else M_X6_readCompared_b43 σ_10)) else M_X6_readCompared_b43 σ_7)) else M_X6_readCompared_b43 σ_4))))
theorem m_M_X6_readCompared {l : Launch} {D : va_G} {d : Nat → ClassId} {h : IX} {σ : ST} {z : ST × Int32} (hf : M_X6_readCompared σ = some z) : XM l D d EN yX6_readCompared cX6_readCompared 2 (some .int) 6 0 0 [.ref (h 99 0 0)] h (xct LM okM h d σ) (Qi D (pz z) (cw h LM okM d)) := by
  refine XM.of (by decide +kernel) (Nat.le_of_ble_eq_true rfl) ?_
  intro p e s m below meth c A ls X _ K _ O hl
  have hl : lv_has ls 2 [(0, .ref (h 99 0 0))] := hl
  have hx := X.1.1; have hb := X.1.2.1
  rw [M_X6_readCompared] at hf
  refine lv_aload_n hx hb dX6_readCompared_0 rfl (lv_at hl 0 rfl) ?_
  obtain ⟨σ_1, r_2, hg, hf⟩ := bn2_s hf
  refine x_calli (x_runV (As := []) (rest := []) X K O (xct_obj rfl LM_99) rfl (m_M_X6_readSum hg) EN_b EN_h (lw_V q1419 q1421 qs63 q124 q1422) 0 rfl hl.1 (Nat.le_of_ble_eq_true rfl) hdV_X6_readSum ⟨by decide, by decide⟩ ⟨Nat.le_refl _, Nat.le_refl _⟩ dX6_readCompared_1) (fun r u H locs hp O _ => ?_)
  cases hp
  have O : XH D A s.heap h (xct LM okM h d σ_1) H locs := O
  refine lv_iconst (v := (-1)) hx hb dX6_readCompared_4 (by decide) ?_
  refine lv_icmp_ne (tgt := 10) hx hb dX6_readCompared_5 (by decide) (fun c_3 => ?_) (fun c_3 => ?_)
  · replace hf := if_f c_3 hf
    refine lv_aload_n hx hb dX6_readCompared_10 rfl (lv_at hl 0 rfl) ?_
    refine lv_bipush (v := 60) hx hb dX6_readCompared_11 (by decide) ?_
    obtain ⟨σ_4, r_5, hg, hf⟩ := bn2_s hf
    refine x_calli (x_runV (As := [.int 60]) (rest := []) X K O (xct_obj rfl LM_99) rfl (m_M_X6_isSign hg) EN_b EN_h (lw_V q1407 q1409 qs60 q124 q1410) 1 rfl hl.1 (Nat.le_of_ble_eq_true rfl) hdV_X6_isSign ⟨by decide, by decide⟩ ⟨Nat.le_refl _, Nat.le_refl _⟩ dX6_readCompared_13) (fun r u H locs hp O _ => ?_)
    cases hp
    have O : XH D A s.heap h (xct LM okM h d σ_4) H locs := O
    refine lv_if_ne (tgt := 43) hx hb dX6_readCompared_16 (by decide) (fun c_6 => ?_) (fun c_6 => ?_)
    · replace hf := if_f c_6 hf
      exact w_M_X6_readCompared_b43 X K _ ls _ _ O (lv_sub hl [0] rfl) hf
    · replace hf := if_t c_6 hf
      refine lv_aload_n hx hb dX6_readCompared_19 rfl (lv_at hl 0 rfl) ?_
      refine lv_bipush (v := 61) hx hb dX6_readCompared_20 (by decide) ?_
      obtain ⟨σ_7, r_8, hg, hf⟩ := bn2_s hf
      refine x_calli (x_runV (As := [.int 61]) (rest := []) X K O (xct_obj rfl LM_99) rfl (m_M_X6_isSign hg) EN_b EN_h (lw_V q1407 q1409 qs60 q124 q1410) 1 rfl hl.1 (Nat.le_of_ble_eq_true rfl) hdV_X6_isSign ⟨by decide, by decide⟩ ⟨Nat.le_refl _, Nat.le_refl _⟩ dX6_readCompared_22) (fun r u H locs hp O _ => ?_)
      cases hp
      have O : XH D A s.heap h (xct LM okM h d σ_7) H locs := O
      refine lv_if_ne (tgt := 43) hx hb dX6_readCompared_25 (by decide) (fun c_9 => ?_) (fun c_9 => ?_)
      · replace hf := if_f c_9 hf
        exact w_M_X6_readCompared_b43 X K _ ls _ _ O (lv_sub hl [0] rfl) hf
      · replace hf := if_t c_9 hf
        refine lv_aload_n hx hb dX6_readCompared_28 rfl (lv_at hl 0 rfl) ?_
        refine lv_bipush (v := 62) hx hb dX6_readCompared_29 (by decide) ?_
        obtain ⟨σ_10, r_11, hg, hf⟩ := bn2_s hf
        refine x_calli (x_runV (As := [.int 62]) (rest := []) X K O (xct_obj rfl LM_99) rfl (m_M_X6_isSign hg) EN_b EN_h (lw_V q1407 q1409 qs60 q124 q1410) 1 rfl hl.1 (Nat.le_of_ble_eq_true rfl) hdV_X6_isSign ⟨by decide, by decide⟩ ⟨Nat.le_refl _, Nat.le_refl _⟩ dX6_readCompared_31) (fun r u H locs hp O _ => ?_)
        cases hp
        have O : XH D A s.heap h (xct LM okM h d σ_10) H locs := O
        refine lv_if_ne (tgt := 43) hx hb dX6_readCompared_34 (by decide) (fun c_12 => ?_) (fun c_12 => ?_)
        · replace hf := if_f c_12 hf
          exact w_M_X6_readCompared_b43 X K _ ls _ _ O (lv_sub hl [0] rfl) hf
        · replace hf := if_t c_12 hf
          refine lv_aload_n hx hb dX6_readCompared_37 rfl (lv_at hl 0 rfl) ?_
          refine lv_iconst (v := 1) hx hb dX6_readCompared_38 (by decide) ?_
          obtain ⟨σ_13, r_14, hg, hf⟩ := bn2_s hf
          refine x_calli (x_runV (As := [.int 1]) (rest := []) X K O (xct_obj rfl LM_99) rfl (m_M_X6_errs hg) EN_b EN_h (lw_V q1399 q1401 qs58 q124 q1402) 1 rfl hl.1 (Nat.le_of_ble_eq_true rfl) hdV_X6_errs ⟨by decide, by decide⟩ ⟨Nat.le_refl _, Nat.le_refl _⟩ dX6_readCompared_39) (fun r u H locs hp O _ => ?_)
          cases hp
          have O : XH D A s.heap h (xct LM okM h d σ_13) H locs := O
          exact x_iret X O rfl _ (Option.some.inj hf).symm rfl dX6_readCompared_42
  · replace hf := if_t c_3 hf
    refine lv_iconst (v := (-1)) hx hb dX6_readCompared_8 (by decide) ?_
    exact x_iret X O rfl _ (Option.some.inj hf).symm rfl dX6_readCompared_9
def M_X6_settles_b0 : Nat → ST → Int32 → Option (ST)
  | 0, _, _ => none
  | n + 1, σ, x1 =>
    (if (gI σ 99 0 0 25) ≤ 0 then some σ else ck (okI ((gI σ 99 0 0 25) - 1) 40) ((if (gI σ 24 0 0 (Int32.toNatClampNeg ((gI σ 99 0 0 25) - 1))) = x1 then lt1 (sI σ 99 0 0 25 ((gI σ 99 0 0 25) - 1)) (fun σ_4 => bn1 (M_X6_emits σ_4 x1 0) (fun σ_5 => (if x1 = 9 then lt1 (sI σ_5 99 0 0 23 ((gI σ_5 99 0 0 23) - 1)) (fun σ_7 => (M_X6_settles_b0 n) σ_7 x1) else (M_X6_settles_b0 n) σ_5 x1))) else some σ)))
theorem w_M_X6_settles_b0 (X : FX p m c meth s args RX6 cX6_settles 2 none) (K : XK D d A s) {z : ST} : ∀ (n : Nat) (σ : ST) (x1 : Int32) (ls : Array Slot) (H : Heap) (locs : List Loc), XH D A s.heap h (xct LM okM h d σ) H locs → lv_has ls 2 [(0, .ref (h 99 0 0)), (1, .int x1)] → M_X6_settles_b0 n σ x1 = some z → W p l e (rmD 1 0 0) s m args below meth c H locs 0 0 (MQ below (Qv D (pu z) (cw h LM okM d) A) args s 0 0 A) (F0 m 0 ls []) := by
  have hx := X.1.1; have hb := X.1.2.1
  intro n
  induction n with
  | zero =>
    intro σ x1 ls H locs O hl hf
    exact absurd hf (fun q => by cases q)
  | succ n ih =>
    intro σ x1 ls H locs O hl hf
    rw [M_X6_settles_b0] at hf
    refine lv_aload_n hx hb dX6_settles_0 rfl (lv_at hl 0 rfl) ?_
    refine x_gI X K O 25 rfl LM_99 rfl rfl in_X6 (by decide) q1175 dX6_settles_1 ?_
    refine lv_if_le (tgt := 57) hx hb dX6_settles_4 (by decide) (fun c_1 => ?_) (fun c_1 => ?_)
    · replace hf := if_t c_1 hf
      exact x_vret X O rfl _ (Option.some.inj hf).symm rfl dX6_settles_57
    · replace hf := if_f c_1 hf
      refine lv_aload_n hx hb dX6_settles_7 rfl (lv_at hl 0 rfl) ?_
      refine x_gF X K O 24 rfl LM_99 rfl rfl in_X6 (by decide) q1174 dX6_settles_8 ?_
      refine lv_aload_n hx hb dX6_settles_11 rfl (lv_at hl 0 rfl) ?_
      refine x_gI X K O 25 rfl LM_99 rfl rfl in_X6 (by decide) q1175 dX6_settles_12 ?_
      refine lv_iconst (v := 1) hx hb dX6_settles_15 (by decide) ?_
      refine lv_isub hx hb dX6_settles_16 ?_
      obtain ⟨c_2, hf⟩ := ck_s hf
      refine x_ild X K O rfl LM_24 c_2 (j := (Int32.toNatClampNeg ((gI σ 99 0 0 25) - 1))) rfl dX6_settles_17 ?_
      refine lv_iload_n hx hb dX6_settles_18 rfl (lv_at hl 1 rfl) ?_
      refine lv_icmp_ne (tgt := 57) hx hb dX6_settles_19 (by decide) (fun c_3 => ?_) (fun c_3 => ?_)
      · replace hf := if_f c_3 hf
        exact x_vret X O rfl _ (Option.some.inj hf).symm rfl dX6_settles_57
      · replace hf := if_t c_3 hf
        refine lv_aload_n hx hb dX6_settles_22 rfl (lv_at hl 0 rfl) ?_
        refine lv_aload_n hx hb dX6_settles_23 rfl (lv_at hl 0 rfl) ?_
        refine x_gI X K O 25 rfl LM_99 rfl rfl in_X6 (by decide) q1175 dX6_settles_24 ?_
        refine lv_iconst (v := 1) hx hb dX6_settles_27 (by decide) ?_
        refine lv_isub hx hb dX6_settles_28 ?_
        obtain ⟨σ_4, eσ_4, hf⟩ := lt1_s hf
        refine x_pI X K O 25 rfl LM_99 rfl rfl in_X6 tyX6_ok nmX6 (by decide) q1175 rfl rfl rfl dX6_settles_29 (fun H locs O => ?_)
        rw [← eσ_4] at O
        refine lv_aload_n hx hb dX6_settles_32 rfl (lv_at hl 0 rfl) ?_
        refine lv_iload_n hx hb dX6_settles_33 rfl (lv_at hl 1 rfl) ?_
        refine lv_iconst (v := 0) hx hb dX6_settles_34 (by decide) ?_
        obtain ⟨σ_5, hg, hf⟩ := bn1_s hf
        refine x_callv (x_runV (As := [.int x1, .int 0]) (rest := []) X K O (xct_obj rfl LM_99) rfl (m_M_X6_emits hg) EN_b EN_h (lw_V q1431 q1433 qs66 q124 q1434) 2 rfl hl.1 (Nat.le_of_ble_eq_true rfl) hdV_X6_emits ⟨by decide, by decide⟩ ⟨Nat.le_refl _, Nat.le_refl _⟩ dX6_settles_35) (fun u H locs hp O _ => ?_)
        cases hp
        have O : XH D A s.heap h (xct LM okM h d σ_5) H locs := O
        refine lv_iload_n hx hb dX6_settles_38 rfl (lv_at hl 1 rfl) ?_
        refine lv_bipush (v := 9) hx hb dX6_settles_39 (by decide) ?_
        refine lv_icmp_ne (tgt := 0) hx hb dX6_settles_41 (by decide) (fun c_6 => ?_) (fun c_6 => ?_)
        · replace hf := if_f c_6 hf
          exact ih _ _ ls _ _ O (lv_sub hl [0, 1] rfl) hf
        · replace hf := if_t c_6 hf
          refine lv_aload_n hx hb dX6_settles_44 rfl (lv_at hl 0 rfl) ?_
          refine lv_aload_n hx hb dX6_settles_45 rfl (lv_at hl 0 rfl) ?_
          refine x_gI X K O 23 rfl LM_99 rfl rfl in_X6 (by decide) q1173 dX6_settles_46 ?_
          refine lv_iconst (v := 1) hx hb dX6_settles_49 (by decide) ?_
          refine lv_isub hx hb dX6_settles_50 ?_
          obtain ⟨σ_7, eσ_7, hf⟩ := lt1_s hf
          refine x_pI X K O 23 rfl LM_99 rfl rfl in_X6 tyX6_ok nmX6 (by decide) q1173 rfl rfl rfl dX6_settles_51 (fun H locs O => ?_)
          rw [← eσ_7] at O
          refine lv_goto (tgt := 0) hx hb dX6_settles_54 (by decide) ?_
          exact ih _ _ ls _ _ O (lv_sub hl [0, 1] rfl) hf
def M_X6_settles (σ : ST) (p1 : Int32) : Option (ST) :=
  M_X6_settles_b0 FUEL σ p1
theorem m_M_X6_settles {l : Launch} {D : va_G} {d : Nat → ClassId} {h : IX} {p1 : Int32} {σ : ST} {z : ST} (hf : M_X6_settles σ p1 = some z) : XM l D d EN yX6_settles cX6_settles 2 none 1 0 0 [.ref (h 99 0 0), .int p1] h (xct LM okM h d σ) (Qv D (pu z) (cw h LM okM d)) := by
  refine XM.of (by decide +kernel) (Nat.le_of_ble_eq_true rfl) ?_
  intro p e s m below meth c A ls X _ K _ O hl
  have hl : lv_has ls 2 [(0, .ref (h 99 0 0)), (1, .int p1)] := hl
  have hx := X.1.1; have hb := X.1.2.1
  rw [M_X6_settles] at hf
  exact w_M_X6_settles_b0 X K _ _ _ ls _ _ O (lv_sub hl [0, 1] rfl) hf
theorem hdV_X6_isWord : yX6_isWord.cls = RX6 ∧ (yX6_isWord.cls ≠ "java/lang/invoke/MethodHandle" ∧ yX6_isWord.cls ≠ "java/lang/invoke/VarHandle" ∧ (parseMethodDescriptor yX6_isWord.desc).map (fun d => d.parameters.length) = some 1) := by decide +kernel
theorem hdV_X6_readCompared : yX6_readCompared.cls = RX6 ∧ (yX6_readCompared.cls ≠ "java/lang/invoke/MethodHandle" ∧ yX6_readCompared.cls ≠ "java/lang/invoke/VarHandle" ∧ (parseMethodDescriptor yX6_readCompared.desc).map (fun d => d.parameters.length) = some 0) := by decide +kernel
theorem hdV_X6_settles : yX6_settles.cls = RX6 ∧ (yX6_settles.cls ≠ "java/lang/invoke/MethodHandle" ∧ yX6_settles.cls ≠ "java/lang/invoke/VarHandle" ∧ (parseMethodDescriptor yX6_settles.desc).map (fun d => d.parameters.length) = some 1) := by decide +kernel
theorem hdV_X6_waits : yX6_waits.cls = RX6 ∧ (yX6_waits.cls ≠ "java/lang/invoke/MethodHandle" ∧ yX6_waits.cls ≠ "java/lang/invoke/VarHandle" ∧ (parseMethodDescriptor yX6_waits.desc).map (fun d => d.parameters.length) = some 1) := by decide +kernel
def M_X6_readAny_b78 (kb9 : ST → Int32 → Int32 → Option (ST × Int32)) (σ : ST) (x1 : Int32) (x2 : Int32) (s1 : Int32) : Option (ST × Int32) :=
  bn1 (M_X6_waits σ s1) (fun σ_1 => bn1 (M_X6_reads σ_1) (fun σ_2 => kb9 σ_2 x1 x2))
theorem w_M_X6_readAny_b78 (X : FX p m c meth s args RX6 cX6_readAny 4 (some .int)) (K : XK D d A s) {z : ST × Int32} {kb9 : ST → Int32 → Int32 → Option (ST × Int32)} (hkb9 : ∀ (σ : ST) (x1 : Int32) (x2 : Int32) (ls : Array Slot) (H : Heap) (locs : List Loc), XH D A s.heap h (xct LM okM h d σ) H locs → lv_has ls 4 [(0, .ref (h 99 0 0)), (1, .int x1), (2, .int x2)] → kb9 σ x1 x2 = some z → W p l e (rmD 7 0 0) s m args below meth c H locs 0 0 (MQ below (Qi D (pz z) (cw h LM okM d) A) args s 0 0 A) (F0 m 9 ls [])) (σ : ST) (x1 : Int32) (x2 : Int32) (s1 : Int32) (ls : Array Slot) (H : Heap) (locs : List Loc) (O : XH D A s.heap h (xct LM okM h d σ) H locs) (hl : lv_has ls 4 [(0, .ref (h 99 0 0)), (1, .int x1), (2, .int x2)]) (hf : M_X6_readAny_b78 kb9 σ x1 x2 s1 = some z) : W p l e (rmD 7 0 0) s m args below meth c H locs 0 0 (MQ below (Qi D (pz z) (cw h LM okM d) A) args s 0 0 A) (F0 m 78 ls [.int s1, .ref (h 99 0 0)]) := by
  have hx := X.1.1; have hb := X.1.2.1
  rw [M_X6_readAny_b78] at hf
  obtain ⟨σ_1, hg, hf⟩ := bn1_s hf
  refine x_callv (x_runV (As := [.int s1]) (rest := []) X K O (xct_obj rfl LM_99) rfl (m_M_X6_waits hg) EN_b EN_h (lw_V q1411 q1413 qs61 q124 q1414) 1 rfl hl.1 (Nat.le_of_ble_eq_true rfl) hdV_X6_waits ⟨by decide, by decide⟩ ⟨Nat.le_refl _, Nat.le_refl _⟩ dX6_readAny_78) (fun u H locs hp O _ => ?_)
  cases hp
  have O : XH D A s.heap h (xct LM okM h d σ_1) H locs := O
  refine lv_aload_n hx hb dX6_readAny_81 rfl (lv_at hl 0 rfl) ?_
  obtain ⟨σ_2, hg, hf⟩ := bn1_s hf
  refine x_callv (x_runV (As := []) (rest := []) X K O (xct_obj rfl LM_99) rfl (m_M_X6_reads hg) EN_b EN_h (lw_V q1367 q1369 qs50 q124 q1370) 0 rfl hl.1 (Nat.le_of_ble_eq_true rfl) hdV_X6_reads ⟨by decide, by decide⟩ ⟨Nat.le_refl _, Nat.le_refl _⟩ dX6_readAny_82) (fun u H locs hp O _ => ?_)
  cases hp
  have O : XH D A s.heap h (xct LM okM h d σ_2) H locs := O
  refine lv_goto (tgt := 9) hx hb dX6_readAny_85 (by decide) ?_
  exact hkb9 _ _ _ ls _ _ O (lv_sub hl [0, 1, 2] rfl) hf
def M_X6_readAny_b66 (kb9 : ST → Int32 → Int32 → Option (ST × Int32)) (σ : ST) (x1 : Int32) (x2 : Int32) (x3 : Int32) : Option (ST × Int32) :=
  (if x3 = 0 then M_X6_readAny_b78 kb9 σ x1 x2 12 else M_X6_readAny_b78 kb9 σ x1 x2 9)
theorem w_M_X6_readAny_b66 (X : FX p m c meth s args RX6 cX6_readAny 4 (some .int)) (K : XK D d A s) {z : ST × Int32} {kb9 : ST → Int32 → Int32 → Option (ST × Int32)} (hkb9 : ∀ (σ : ST) (x1 : Int32) (x2 : Int32) (ls : Array Slot) (H : Heap) (locs : List Loc), XH D A s.heap h (xct LM okM h d σ) H locs → lv_has ls 4 [(0, .ref (h 99 0 0)), (1, .int x1), (2, .int x2)] → kb9 σ x1 x2 = some z → W p l e (rmD 7 0 0) s m args below meth c H locs 0 0 (MQ below (Qi D (pz z) (cw h LM okM d) A) args s 0 0 A) (F0 m 9 ls [])) (σ : ST) (x1 : Int32) (x2 : Int32) (x3 : Int32) (ls : Array Slot) (H : Heap) (locs : List Loc) (O : XH D A s.heap h (xct LM okM h d σ) H locs) (hl : lv_has ls 4 [(0, .ref (h 99 0 0)), (1, .int x1), (2, .int x2), (3, .int x3)]) (hf : M_X6_readAny_b66 kb9 σ x1 x2 x3 = some z) : W p l e (rmD 7 0 0) s m args below meth c H locs 0 0 (MQ below (Qi D (pz z) (cw h LM okM d) A) args s 0 0 A) (F0 m 66 ls []) := by
  have hx := X.1.1; have hb := X.1.2.1
  rw [M_X6_readAny_b66] at hf
  refine lv_aload_n hx hb dX6_readAny_66 rfl (lv_at hl 0 rfl) ?_
  refine lv_iload_n hx hb dX6_readAny_67 rfl (lv_at hl 3 rfl) ?_
  refine lv_if_eq (tgt := 76) hx hb dX6_readAny_68 (by decide) (fun c_1 => ?_) (fun c_1 => ?_)
  · replace hf := if_t c_1 hf
    refine lv_bipush (v := 12) hx hb dX6_readAny_76 (by decide) ?_
    exact w_M_X6_readAny_b78 X K hkb9 _ _ _ _ ls _ _ O (lv_sub hl [0, 1, 2] rfl) hf
  · replace hf := if_f c_1 hf
    refine lv_bipush (v := 9) hx hb dX6_readAny_71 (by decide) ?_
    refine lv_goto (tgt := 78) hx hb dX6_readAny_73 (by decide) ?_
    exact w_M_X6_readAny_b78 X K hkb9 _ _ _ _ ls _ _ O (lv_sub hl [0, 1, 2] rfl) hf
def M_X6_readAny_b33 (kb9 : ST → Int32 → Int32 → Option (ST × Int32)) (σ : ST) (x1 : Int32) (x2 : Int32) (x3 : Int32) : Option (ST × Int32) :=
  (if (gI σ 99 0 0 23) = 8 then bn2 (M_X6_errs σ 3) (fun σ_5 r_6 => some (σ_5, r_6)) else lt1 (sI σ 99 0 0 23 ((gI σ 99 0 0 23) + 1)) (fun σ_2 => (if x3 = 0 then lt1 (x1 + 1) (fun x1_4 => M_X6_readAny_b66 kb9 σ_2 x1_4 x2 x3) else M_X6_readAny_b66 kb9 σ_2 x1 x2 x3)))
theorem w_M_X6_readAny_b33 (X : FX p m c meth s args RX6 cX6_readAny 4 (some .int)) (K : XK D d A s) {z : ST × Int32} {kb9 : ST → Int32 → Int32 → Option (ST × Int32)} (hkb9 : ∀ (σ : ST) (x1 : Int32) (x2 : Int32) (ls : Array Slot) (H : Heap) (locs : List Loc), XH D A s.heap h (xct LM okM h d σ) H locs → lv_has ls 4 [(0, .ref (h 99 0 0)), (1, .int x1), (2, .int x2)] → kb9 σ x1 x2 = some z → W p l e (rmD 7 0 0) s m args below meth c H locs 0 0 (MQ below (Qi D (pz z) (cw h LM okM d) A) args s 0 0 A) (F0 m 9 ls [])) (σ : ST) (x1 : Int32) (x2 : Int32) (x3 : Int32) (ls : Array Slot) (H : Heap) (locs : List Loc) (O : XH D A s.heap h (xct LM okM h d σ) H locs) (hl : lv_has ls 4 [(0, .ref (h 99 0 0)), (1, .int x1), (2, .int x2), (3, .int x3)]) (hf : M_X6_readAny_b33 kb9 σ x1 x2 x3 = some z) : W p l e (rmD 7 0 0) s m args below meth c H locs 0 0 (MQ below (Qi D (pz z) (cw h LM okM d) A) args s 0 0 A) (F0 m 33 ls []) := by
  have hx := X.1.1; have hb := X.1.2.1
  rw [M_X6_readAny_b33] at hf
  refine lv_aload_n hx hb dX6_readAny_33 rfl (lv_at hl 0 rfl) ?_
  refine x_gI X K O 23 rfl LM_99 rfl rfl in_X6 (by decide) q1173 dX6_readAny_34 ?_
  refine lv_bipush (v := 8) hx hb dX6_readAny_37 (by decide) ?_
  refine lv_icmp_ne (tgt := 48) hx hb dX6_readAny_39 (by decide) (fun c_1 => ?_) (fun c_1 => ?_)
  · replace hf := if_f c_1 hf
    refine lv_aload_n hx hb dX6_readAny_48 rfl (lv_at hl 0 rfl) ?_
    refine lv_aload_n hx hb dX6_readAny_49 rfl (lv_at hl 0 rfl) ?_
    refine x_gI X K O 23 rfl LM_99 rfl rfl in_X6 (by decide) q1173 dX6_readAny_50 ?_
    refine lv_iconst (v := 1) hx hb dX6_readAny_53 (by decide) ?_
    refine lv_iadd hx hb dX6_readAny_54 ?_
    obtain ⟨σ_2, eσ_2, hf⟩ := lt1_s hf
    refine x_pI X K O 23 rfl LM_99 rfl rfl in_X6 tyX6_ok nmX6 (by decide) q1173 rfl rfl rfl dX6_readAny_55 (fun H locs O => ?_)
    rw [← eσ_2] at O
    refine lv_iload_n hx hb dX6_readAny_58 rfl (lv_at hl 3 rfl) ?_
    refine lv_if_ne (tgt := 66) hx hb dX6_readAny_59 (by decide) (fun c_3 => ?_) (fun c_3 => ?_)
    · replace hf := if_f c_3 hf
      exact w_M_X6_readAny_b66 X K hkb9 _ _ _ _ ls _ _ O (lv_sub hl [0, 1, 2, 3] rfl) hf
    · replace hf := if_t c_3 hf
      refine lv_iload_n hx hb dX6_readAny_62 rfl (lv_at hl 1 rfl) ?_
      refine lv_iconst (v := 1) hx hb dX6_readAny_63 (by decide) ?_
      refine lv_iadd hx hb dX6_readAny_64 ?_
      obtain ⟨x1_4, ex1_4, hf⟩ := lt1_s hf
      refine x_top (w := .int x1_4) (by rw [ex1_4]) ?_
      refine lv_istore_n (lv' := [(1, .int x1_4), (0, .ref (h 99 0 0)), (2, .int x2), (3, .int x3)]) hx hb dX6_readAny_65 rfl hl (by decide) rfl (fun ls hl => ?_)
      exact w_M_X6_readAny_b66 X K hkb9 _ _ _ _ ls _ _ O (lv_sub hl [1, 0, 2, 3] rfl) hf
  · replace hf := if_t c_1 hf
    refine lv_aload_n hx hb dX6_readAny_42 rfl (lv_at hl 0 rfl) ?_
    refine lv_iconst (v := 3) hx hb dX6_readAny_43 (by decide) ?_
    obtain ⟨σ_5, r_6, hg, hf⟩ := bn2_s hf
    refine x_calli (x_runV (As := [.int 3]) (rest := []) X K O (xct_obj rfl LM_99) rfl (m_M_X6_errs hg) EN_b EN_h (lw_V q1399 q1401 qs58 q124 q1402) 1 rfl hl.1 (Nat.le_of_ble_eq_true rfl) hdV_X6_errs ⟨by decide, by decide⟩ ⟨Nat.le_refl _, Nat.le_refl _⟩ dX6_readAny_44) (fun r u H locs hp O _ => ?_)
    cases hp
    have O : XH D A s.heap h (xct LM okM h d σ_5) H locs := O
    exact x_iret X O rfl _ (Option.some.inj hf).symm rfl dX6_readAny_47
def M_X6_readAny_b9 : Nat → ST → Int32 → Int32 → Option (ST × Int32)
  | 0, _, _, _ => none
  | n + 1, σ, x1, x2 =>
    (if x2 = 0 then bn2 (M_X6_isWord σ 5) (fun σ_2 r_3 => (if r_3 = 0 then bn2 (M_X6_isWord σ_2 4) (fun σ_5 r_6 => (if r_6 = 0 then bn1 (M_X6_settles σ_5 10) (fun σ_8 => bn1 (M_X6_settles σ_8 11) (fun σ_9 => (if x1 = 0 then some (σ_9, 0) else bn2 (M_X6_isSign σ_9 41) (fun σ_11 r_12 => (if r_12 = 0 then bn2 (M_X6_errs σ_11 1) (fun σ_19 r_20 => some (σ_19, r_20)) else lt1 (sI σ_11 99 0 0 25 ((gI σ_11 99 0 0 25) - 1)) (fun σ_14 => lt1 (x1 - 1) (fun x1_15 => lt1 (sI σ_14 99 0 0 23 ((gI σ_14 99 0 0 23) - 1)) (fun σ_16 => bn1 (M_X6_settles σ_16 9) (fun σ_17 => bn1 (M_X6_reads σ_17) (fun σ_18 => (M_X6_readAny_b9 n) σ_18 x1_15 x2)))))))))) else bn1 (M_X6_settles σ_5 10) (fun σ_21 => bn1 (M_X6_settles σ_21 11) (fun σ_22 => bn1 (M_X6_waits σ_22 11) (fun σ_23 => bn1 (M_X6_reads σ_23) (fun σ_24 => (M_X6_readAny_b9 n) σ_24 x1 1)))))) else bn1 (M_X6_settles σ_2 10) (fun σ_25 => bn1 (M_X6_waits σ_25 10) (fun σ_26 => bn1 (M_X6_reads σ_26) (fun σ_27 => (M_X6_readAny_b9 n) σ_27 x1 1))))) else bn2 (M_X6_isWord σ 6) (fun σ_28 r_29 => (if r_29 = 0 then bn2 (M_X6_isSign σ_28 40) (fun σ_31 r_32 => (if r_32 = 0 then bn2 (M_X6_readCompared σ_31) (fun σ_34 r_35 => (if r_35 = (-1) then some (σ_34, (-1)) else bn1 (M_X6_settles σ_34 9) (fun σ_37 => (M_X6_readAny_b9 n) σ_37 x1 0))) else M_X6_readAny_b33 (M_X6_readAny_b9 n) σ_31 x1 x2 r_29)) else M_X6_readAny_b33 (M_X6_readAny_b9 n) σ_28 x1 x2 r_29)))
theorem w_M_X6_readAny_b9 (X : FX p m c meth s args RX6 cX6_readAny 4 (some .int)) (K : XK D d A s) {z : ST × Int32} : ∀ (n : Nat) (σ : ST) (x1 : Int32) (x2 : Int32) (ls : Array Slot) (H : Heap) (locs : List Loc), XH D A s.heap h (xct LM okM h d σ) H locs → lv_has ls 4 [(0, .ref (h 99 0 0)), (1, .int x1), (2, .int x2)] → M_X6_readAny_b9 n σ x1 x2 = some z → W p l e (rmD 7 0 0) s m args below meth c H locs 0 0 (MQ below (Qi D (pz z) (cw h LM okM d) A) args s 0 0 A) (F0 m 9 ls []) := by
  have hx := X.1.1; have hb := X.1.2.1
  intro n
  induction n with
  | zero =>
    intro σ x1 x2 ls H locs O hl hf
    exact absurd hf (fun q => by cases q)
  | succ n ih =>
    intro σ x1 x2 ls H locs O hl hf
    rw [M_X6_readAny_b9] at hf
    refine lv_iload_n hx hb dX6_readAny_9 rfl (lv_at hl 2 rfl) ?_
    refine lv_if_eq (tgt := 109) hx hb dX6_readAny_10 (by decide) (fun c_1 => ?_) (fun c_1 => ?_)
    · replace hf := if_t c_1 hf
      refine lv_aload_n hx hb dX6_readAny_109 rfl (lv_at hl 0 rfl) ?_
      refine lv_iconst (v := 5) hx hb dX6_readAny_110 (by decide) ?_
      obtain ⟨σ_2, r_3, hg, hf⟩ := bn2_s hf
      refine x_calli (x_runV (As := [.int 5]) (rest := []) X K O (xct_obj rfl LM_99) rfl (m_M_X6_isWord hg) EN_b EN_h (lw_V q1395 q1397 qs57 q124 q1398) 1 rfl hl.1 (Nat.le_of_ble_eq_true rfl) hdV_X6_isWord ⟨by decide, by decide⟩ ⟨Nat.le_refl _, Nat.le_refl _⟩ dX6_readAny_111) (fun r u H locs hp O _ => ?_)
      cases hp
      have O : XH D A s.heap h (xct LM okM h d σ_2) H locs := O
      refine lv_if_eq (tgt := 138) hx hb dX6_readAny_114 (by decide) (fun c_4 => ?_) (fun c_4 => ?_)
      · replace hf := if_t c_4 hf
        refine lv_aload_n hx hb dX6_readAny_138 rfl (lv_at hl 0 rfl) ?_
        refine lv_iconst (v := 4) hx hb dX6_readAny_139 (by decide) ?_
        obtain ⟨σ_5, r_6, hg, hf⟩ := bn2_s hf
        refine x_calli (x_runV (As := [.int 4]) (rest := []) X K O (xct_obj rfl LM_99) rfl (m_M_X6_isWord hg) EN_b EN_h (lw_V q1395 q1397 qs57 q124 q1398) 1 rfl hl.1 (Nat.le_of_ble_eq_true rfl) hdV_X6_isWord ⟨by decide, by decide⟩ ⟨Nat.le_refl _, Nat.le_refl _⟩ dX6_readAny_140) (fun r u H locs hp O _ => ?_)
        cases hp
        have O : XH D A s.heap h (xct LM okM h d σ_5) H locs := O
        refine lv_if_eq (tgt := 173) hx hb dX6_readAny_143 (by decide) (fun c_7 => ?_) (fun c_7 => ?_)
        · replace hf := if_t c_7 hf
          refine lv_aload_n hx hb dX6_readAny_173 rfl (lv_at hl 0 rfl) ?_
          refine lv_bipush (v := 10) hx hb dX6_readAny_174 (by decide) ?_
          obtain ⟨σ_8, hg, hf⟩ := bn1_s hf
          refine x_callv (x_runV (As := [.int 10]) (rest := []) X K O (xct_obj rfl LM_99) rfl (m_M_X6_settles hg) EN_b EN_h (lw_V q1435 q1437 qs67 q124 q1438) 1 rfl hl.1 (Nat.le_of_ble_eq_true rfl) hdV_X6_settles ⟨by decide, by decide⟩ ⟨Nat.le_refl _, Nat.le_refl _⟩ dX6_readAny_176) (fun u H locs hp O _ => ?_)
          cases hp
          have O : XH D A s.heap h (xct LM okM h d σ_8) H locs := O
          refine lv_aload_n hx hb dX6_readAny_179 rfl (lv_at hl 0 rfl) ?_
          refine lv_bipush (v := 11) hx hb dX6_readAny_180 (by decide) ?_
          obtain ⟨σ_9, hg, hf⟩ := bn1_s hf
          refine x_callv (x_runV (As := [.int 11]) (rest := []) X K O (xct_obj rfl LM_99) rfl (m_M_X6_settles hg) EN_b EN_h (lw_V q1435 q1437 qs67 q124 q1438) 1 rfl hl.1 (Nat.le_of_ble_eq_true rfl) hdV_X6_settles ⟨by decide, by decide⟩ ⟨Nat.le_refl _, Nat.le_refl _⟩ dX6_readAny_182) (fun u H locs hp O _ => ?_)
          cases hp
          have O : XH D A s.heap h (xct LM okM h d σ_9) H locs := O
          refine lv_iload_n hx hb dX6_readAny_185 rfl (lv_at hl 1 rfl) ?_
          refine lv_if_ne (tgt := 191) hx hb dX6_readAny_186 (by decide) (fun c_10 => ?_) (fun c_10 => ?_)
          · replace hf := if_f c_10 hf
            refine lv_aload_n hx hb dX6_readAny_191 rfl (lv_at hl 0 rfl) ?_
            refine lv_bipush (v := 41) hx hb dX6_readAny_192 (by decide) ?_
            obtain ⟨σ_11, r_12, hg, hf⟩ := bn2_s hf
            refine x_calli (x_runV (As := [.int 41]) (rest := []) X K O (xct_obj rfl LM_99) rfl (m_M_X6_isSign hg) EN_b EN_h (lw_V q1407 q1409 qs60 q124 q1410) 1 rfl hl.1 (Nat.le_of_ble_eq_true rfl) hdV_X6_isSign ⟨by decide, by decide⟩ ⟨Nat.le_refl _, Nat.le_refl _⟩ dX6_readAny_194) (fun r u H locs hp O _ => ?_)
            cases hp
            have O : XH D A s.heap h (xct LM okM h d σ_11) H locs := O
            refine lv_if_ne (tgt := 206) hx hb dX6_readAny_197 (by decide) (fun c_13 => ?_) (fun c_13 => ?_)
            · replace hf := if_f c_13 hf
              refine lv_aload_n hx hb dX6_readAny_206 rfl (lv_at hl 0 rfl) ?_
              refine lv_aload_n hx hb dX6_readAny_207 rfl (lv_at hl 0 rfl) ?_
              refine x_gI X K O 25 rfl LM_99 rfl rfl in_X6 (by decide) q1175 dX6_readAny_208 ?_
              refine lv_iconst (v := 1) hx hb dX6_readAny_211 (by decide) ?_
              refine lv_isub hx hb dX6_readAny_212 ?_
              obtain ⟨σ_14, eσ_14, hf⟩ := lt1_s hf
              refine x_pI X K O 25 rfl LM_99 rfl rfl in_X6 tyX6_ok nmX6 (by decide) q1175 rfl rfl rfl dX6_readAny_213 (fun H locs O => ?_)
              rw [← eσ_14] at O
              refine lv_iload_n hx hb dX6_readAny_216 rfl (lv_at hl 1 rfl) ?_
              refine lv_iconst (v := 1) hx hb dX6_readAny_217 (by decide) ?_
              refine lv_isub hx hb dX6_readAny_218 ?_
              obtain ⟨x1_15, ex1_15, hf⟩ := lt1_s hf
              refine x_top (w := .int x1_15) (by rw [ex1_15]) ?_
              refine lv_istore_n (lv' := [(1, .int x1_15), (0, .ref (h 99 0 0)), (2, .int x2)]) hx hb dX6_readAny_219 rfl hl (by decide) rfl (fun ls hl => ?_)
              refine lv_aload_n hx hb dX6_readAny_220 rfl (lv_at hl 1 rfl) ?_
              refine lv_aload_n hx hb dX6_readAny_221 rfl (lv_at hl 1 rfl) ?_
              refine x_gI X K O 23 rfl LM_99 rfl rfl in_X6 (by decide) q1173 dX6_readAny_222 ?_
              refine lv_iconst (v := 1) hx hb dX6_readAny_225 (by decide) ?_
              refine lv_isub hx hb dX6_readAny_226 ?_
              obtain ⟨σ_16, eσ_16, hf⟩ := lt1_s hf
              refine x_pI X K O 23 rfl LM_99 rfl rfl in_X6 tyX6_ok nmX6 (by decide) q1173 rfl rfl rfl dX6_readAny_227 (fun H locs O => ?_)
              rw [← eσ_16] at O
              refine lv_aload_n hx hb dX6_readAny_230 rfl (lv_at hl 1 rfl) ?_
              refine lv_bipush (v := 9) hx hb dX6_readAny_231 (by decide) ?_
              obtain ⟨σ_17, hg, hf⟩ := bn1_s hf
              refine x_callv (x_runV (As := [.int 9]) (rest := []) X K O (xct_obj rfl LM_99) rfl (m_M_X6_settles hg) EN_b EN_h (lw_V q1435 q1437 qs67 q124 q1438) 1 rfl hl.1 (Nat.le_of_ble_eq_true rfl) hdV_X6_settles ⟨by decide, by decide⟩ ⟨Nat.le_refl _, Nat.le_refl _⟩ dX6_readAny_233) (fun u H locs hp O _ => ?_)
              cases hp
              have O : XH D A s.heap h (xct LM okM h d σ_17) H locs := O
              refine lv_aload_n hx hb dX6_readAny_236 rfl (lv_at hl 1 rfl) ?_
              obtain ⟨σ_18, hg, hf⟩ := bn1_s hf
              refine x_callv (x_runV (As := []) (rest := []) X K O (xct_obj rfl LM_99) rfl (m_M_X6_reads hg) EN_b EN_h (lw_V q1367 q1369 qs50 q124 q1370) 0 rfl hl.1 (Nat.le_of_ble_eq_true rfl) hdV_X6_reads ⟨by decide, by decide⟩ ⟨Nat.le_refl _, Nat.le_refl _⟩ dX6_readAny_237) (fun u H locs hp O _ => ?_)
              cases hp
              have O : XH D A s.heap h (xct LM okM h d σ_18) H locs := O
              refine lv_goto (tgt := 9) hx hb dX6_readAny_240 (by decide) ?_
              exact ih _ _ _ ls _ _ O (lv_sub hl [1, 0, 2] rfl) hf
            · replace hf := if_t c_13 hf
              refine lv_aload_n hx hb dX6_readAny_200 rfl (lv_at hl 0 rfl) ?_
              refine lv_iconst (v := 1) hx hb dX6_readAny_201 (by decide) ?_
              obtain ⟨σ_19, r_20, hg, hf⟩ := bn2_s hf
              refine x_calli (x_runV (As := [.int 1]) (rest := []) X K O (xct_obj rfl LM_99) rfl (m_M_X6_errs hg) EN_b EN_h (lw_V q1399 q1401 qs58 q124 q1402) 1 rfl hl.1 (Nat.le_of_ble_eq_true rfl) hdV_X6_errs ⟨by decide, by decide⟩ ⟨Nat.le_refl _, Nat.le_refl _⟩ dX6_readAny_202) (fun r u H locs hp O _ => ?_)
              cases hp
              have O : XH D A s.heap h (xct LM okM h d σ_19) H locs := O
              exact x_iret X O rfl _ (Option.some.inj hf).symm rfl dX6_readAny_205
          · replace hf := if_t c_10 hf
            refine lv_iconst (v := 0) hx hb dX6_readAny_189 (by decide) ?_
            exact x_iret X O rfl _ (Option.some.inj hf).symm rfl dX6_readAny_190
        · replace hf := if_f c_7 hf
          refine lv_aload_n hx hb dX6_readAny_146 rfl (lv_at hl 0 rfl) ?_
          refine lv_bipush (v := 10) hx hb dX6_readAny_147 (by decide) ?_
          obtain ⟨σ_21, hg, hf⟩ := bn1_s hf
          refine x_callv (x_runV (As := [.int 10]) (rest := []) X K O (xct_obj rfl LM_99) rfl (m_M_X6_settles hg) EN_b EN_h (lw_V q1435 q1437 qs67 q124 q1438) 1 rfl hl.1 (Nat.le_of_ble_eq_true rfl) hdV_X6_settles ⟨by decide, by decide⟩ ⟨Nat.le_refl _, Nat.le_refl _⟩ dX6_readAny_149) (fun u H locs hp O _ => ?_)
          cases hp
          have O : XH D A s.heap h (xct LM okM h d σ_21) H locs := O
          refine lv_aload_n hx hb dX6_readAny_152 rfl (lv_at hl 0 rfl) ?_
          refine lv_bipush (v := 11) hx hb dX6_readAny_153 (by decide) ?_
          obtain ⟨σ_22, hg, hf⟩ := bn1_s hf
          refine x_callv (x_runV (As := [.int 11]) (rest := []) X K O (xct_obj rfl LM_99) rfl (m_M_X6_settles hg) EN_b EN_h (lw_V q1435 q1437 qs67 q124 q1438) 1 rfl hl.1 (Nat.le_of_ble_eq_true rfl) hdV_X6_settles ⟨by decide, by decide⟩ ⟨Nat.le_refl _, Nat.le_refl _⟩ dX6_readAny_155) (fun u H locs hp O _ => ?_)
          cases hp
          have O : XH D A s.heap h (xct LM okM h d σ_22) H locs := O
          refine lv_aload_n hx hb dX6_readAny_158 rfl (lv_at hl 0 rfl) ?_
          refine lv_bipush (v := 11) hx hb dX6_readAny_159 (by decide) ?_
          obtain ⟨σ_23, hg, hf⟩ := bn1_s hf
          refine x_callv (x_runV (As := [.int 11]) (rest := []) X K O (xct_obj rfl LM_99) rfl (m_M_X6_waits hg) EN_b EN_h (lw_V q1411 q1413 qs61 q124 q1414) 1 rfl hl.1 (Nat.le_of_ble_eq_true rfl) hdV_X6_waits ⟨by decide, by decide⟩ ⟨Nat.le_refl _, Nat.le_refl _⟩ dX6_readAny_161) (fun u H locs hp O _ => ?_)
          cases hp
          have O : XH D A s.heap h (xct LM okM h d σ_23) H locs := O
          refine lv_aload_n hx hb dX6_readAny_164 rfl (lv_at hl 0 rfl) ?_
          obtain ⟨σ_24, hg, hf⟩ := bn1_s hf
          refine x_callv (x_runV (As := []) (rest := []) X K O (xct_obj rfl LM_99) rfl (m_M_X6_reads hg) EN_b EN_h (lw_V q1367 q1369 qs50 q124 q1370) 0 rfl hl.1 (Nat.le_of_ble_eq_true rfl) hdV_X6_reads ⟨by decide, by decide⟩ ⟨Nat.le_refl _, Nat.le_refl _⟩ dX6_readAny_165) (fun u H locs hp O _ => ?_)
          cases hp
          have O : XH D A s.heap h (xct LM okM h d σ_24) H locs := O
          refine lv_iconst (v := 1) hx hb dX6_readAny_168 (by decide) ?_
          refine lv_istore_n (lv' := [(2, .int 1), (0, .ref (h 99 0 0)), (1, .int x1)]) hx hb dX6_readAny_169 rfl hl (by decide) rfl (fun ls hl => ?_)
          refine lv_goto (tgt := 9) hx hb dX6_readAny_170 (by decide) ?_
          exact ih _ _ _ ls _ _ O (lv_sub hl [1, 2, 0] rfl) hf
      · replace hf := if_f c_4 hf
        refine lv_aload_n hx hb dX6_readAny_117 rfl (lv_at hl 0 rfl) ?_
        refine lv_bipush (v := 10) hx hb dX6_readAny_118 (by decide) ?_
        obtain ⟨σ_25, hg, hf⟩ := bn1_s hf
        refine x_callv (x_runV (As := [.int 10]) (rest := []) X K O (xct_obj rfl LM_99) rfl (m_M_X6_settles hg) EN_b EN_h (lw_V q1435 q1437 qs67 q124 q1438) 1 rfl hl.1 (Nat.le_of_ble_eq_true rfl) hdV_X6_settles ⟨by decide, by decide⟩ ⟨Nat.le_refl _, Nat.le_refl _⟩ dX6_readAny_120) (fun u H locs hp O _ => ?_)
        cases hp
        have O : XH D A s.heap h (xct LM okM h d σ_25) H locs := O
        refine lv_aload_n hx hb dX6_readAny_123 rfl (lv_at hl 0 rfl) ?_
        refine lv_bipush (v := 10) hx hb dX6_readAny_124 (by decide) ?_
        obtain ⟨σ_26, hg, hf⟩ := bn1_s hf
        refine x_callv (x_runV (As := [.int 10]) (rest := []) X K O (xct_obj rfl LM_99) rfl (m_M_X6_waits hg) EN_b EN_h (lw_V q1411 q1413 qs61 q124 q1414) 1 rfl hl.1 (Nat.le_of_ble_eq_true rfl) hdV_X6_waits ⟨by decide, by decide⟩ ⟨Nat.le_refl _, Nat.le_refl _⟩ dX6_readAny_126) (fun u H locs hp O _ => ?_)
        cases hp
        have O : XH D A s.heap h (xct LM okM h d σ_26) H locs := O
        refine lv_aload_n hx hb dX6_readAny_129 rfl (lv_at hl 0 rfl) ?_
        obtain ⟨σ_27, hg, hf⟩ := bn1_s hf
        refine x_callv (x_runV (As := []) (rest := []) X K O (xct_obj rfl LM_99) rfl (m_M_X6_reads hg) EN_b EN_h (lw_V q1367 q1369 qs50 q124 q1370) 0 rfl hl.1 (Nat.le_of_ble_eq_true rfl) hdV_X6_reads ⟨by decide, by decide⟩ ⟨Nat.le_refl _, Nat.le_refl _⟩ dX6_readAny_130) (fun u H locs hp O _ => ?_)
        cases hp
        have O : XH D A s.heap h (xct LM okM h d σ_27) H locs := O
        refine lv_iconst (v := 1) hx hb dX6_readAny_133 (by decide) ?_
        refine lv_istore_n (lv' := [(2, .int 1), (0, .ref (h 99 0 0)), (1, .int x1)]) hx hb dX6_readAny_134 rfl hl (by decide) rfl (fun ls hl => ?_)
        refine lv_goto (tgt := 9) hx hb dX6_readAny_135 (by decide) ?_
        exact ih _ _ _ ls _ _ O (lv_sub hl [1, 2, 0] rfl) hf
    · replace hf := if_f c_1 hf
      refine lv_aload_n hx hb dX6_readAny_13 rfl (lv_at hl 0 rfl) ?_
      refine lv_bipush (v := 6) hx hb dX6_readAny_14 (by decide) ?_
      obtain ⟨σ_28, r_29, hg, hf⟩ := bn2_s hf
      refine x_calli (x_runV (As := [.int 6]) (rest := []) X K O (xct_obj rfl LM_99) rfl (m_M_X6_isWord hg) EN_b EN_h (lw_V q1395 q1397 qs57 q124 q1398) 1 rfl hl.1 (Nat.le_of_ble_eq_true rfl) hdV_X6_isWord ⟨by decide, by decide⟩ ⟨Nat.le_refl _, Nat.le_refl _⟩ dX6_readAny_16) (fun r u H locs hp O _ => ?_)
      cases hp
      have O : XH D A s.heap h (xct LM okM h d σ_28) H locs := O
      refine lv_istore_n (lv' := [(3, .int r_29), (0, .ref (h 99 0 0)), (1, .int x1), (2, .int x2)]) hx hb dX6_readAny_19 rfl hl (by decide) rfl (fun ls hl => ?_)
      refine lv_iload_n hx hb dX6_readAny_20 rfl (lv_at hl 0 rfl) ?_
      refine lv_if_ne (tgt := 33) hx hb dX6_readAny_21 (by decide) (fun c_30 => ?_) (fun c_30 => ?_)
      · replace hf := if_f c_30 hf
        exact w_M_X6_readAny_b33 X K ih _ _ _ _ ls _ _ O (lv_sub hl [1, 2, 3, 0] rfl) hf
      · replace hf := if_t c_30 hf
        refine lv_aload_n hx hb dX6_readAny_24 rfl (lv_at hl 1 rfl) ?_
        refine lv_bipush (v := 40) hx hb dX6_readAny_25 (by decide) ?_
        obtain ⟨σ_31, r_32, hg, hf⟩ := bn2_s hf
        refine x_calli (x_runV (As := [.int 40]) (rest := []) X K O (xct_obj rfl LM_99) rfl (m_M_X6_isSign hg) EN_b EN_h (lw_V q1407 q1409 qs60 q124 q1410) 1 rfl hl.1 (Nat.le_of_ble_eq_true rfl) hdV_X6_isSign ⟨by decide, by decide⟩ ⟨Nat.le_refl _, Nat.le_refl _⟩ dX6_readAny_27) (fun r u H locs hp O _ => ?_)
        cases hp
        have O : XH D A s.heap h (xct LM okM h d σ_31) H locs := O
        refine lv_if_eq (tgt := 88) hx hb dX6_readAny_30 (by decide) (fun c_33 => ?_) (fun c_33 => ?_)
        · replace hf := if_t c_33 hf
          refine lv_aload_n hx hb dX6_readAny_88 rfl (lv_at hl 1 rfl) ?_
          obtain ⟨σ_34, r_35, hg, hf⟩ := bn2_s hf
          refine x_calli (x_runV (As := []) (rest := []) X K O (xct_obj rfl LM_99) rfl (m_M_X6_readCompared hg) EN_b EN_h (lw_V q1415 q1417 qs62 q124 q1418) 0 rfl hl.1 (Nat.le_of_ble_eq_true rfl) hdV_X6_readCompared ⟨by decide, by decide⟩ ⟨Nat.le_refl _, Nat.le_refl _⟩ dX6_readAny_89) (fun r u H locs hp O _ => ?_)
          cases hp
          have O : XH D A s.heap h (xct LM okM h d σ_34) H locs := O
          refine lv_iconst (v := (-1)) hx hb dX6_readAny_92 (by decide) ?_
          refine lv_icmp_ne (tgt := 98) hx hb dX6_readAny_93 (by decide) (fun c_36 => ?_) (fun c_36 => ?_)
          · replace hf := if_f c_36 hf
            refine lv_aload_n hx hb dX6_readAny_98 rfl (lv_at hl 1 rfl) ?_
            refine lv_bipush (v := 9) hx hb dX6_readAny_99 (by decide) ?_
            obtain ⟨σ_37, hg, hf⟩ := bn1_s hf
            refine x_callv (x_runV (As := [.int 9]) (rest := []) X K O (xct_obj rfl LM_99) rfl (m_M_X6_settles hg) EN_b EN_h (lw_V q1435 q1437 qs67 q124 q1438) 1 rfl hl.1 (Nat.le_of_ble_eq_true rfl) hdV_X6_settles ⟨by decide, by decide⟩ ⟨Nat.le_refl _, Nat.le_refl _⟩ dX6_readAny_101) (fun u H locs hp O _ => ?_)
            cases hp
            have O : XH D A s.heap h (xct LM okM h d σ_37) H locs := O
            refine lv_iconst (v := 0) hx hb dX6_readAny_104 (by decide) ?_
            refine lv_istore_n (lv' := [(2, .int 0), (3, .int r_29), (0, .ref (h 99 0 0)), (1, .int x1)]) hx hb dX6_readAny_105 rfl hl (by decide) rfl (fun ls hl => ?_)
            refine lv_goto (tgt := 9) hx hb dX6_readAny_106 (by decide) ?_
            exact ih _ _ _ ls _ _ O (lv_sub hl [2, 3, 0] rfl) hf
          · replace hf := if_t c_36 hf
            refine lv_iconst (v := (-1)) hx hb dX6_readAny_96 (by decide) ?_
            exact x_iret X O rfl _ (Option.some.inj hf).symm rfl dX6_readAny_97
        · replace hf := if_f c_33 hf
          exact w_M_X6_readAny_b33 X K ih _ _ _ _ ls _ _ O (lv_sub hl [1, 2, 3, 0] rfl) hf
def M_X6_readAny (σ : ST) : Option (ST × Int32) :=
  lt1 (sI σ 99 0 0 25 0) (fun σ_1 => M_X6_readAny_b9 FUEL σ_1 0 1)
theorem m_M_X6_readAny {l : Launch} {D : va_G} {d : Nat → ClassId} {h : IX} {σ : ST} {z : ST × Int32} (hf : M_X6_readAny σ = some z) : XM l D d EN yX6_readAny cX6_readAny 4 (some .int) 7 0 0 [.ref (h 99 0 0)] h (xct LM okM h d σ) (Qi D (pz z) (cw h LM okM d)) := by
  refine XM.of (by decide +kernel) (Nat.le_of_ble_eq_true rfl) ?_
  intro p e s m below meth c A ls X _ K _ O hl
  have hl : lv_has ls 4 [(0, .ref (h 99 0 0))] := hl
  have hx := X.1.1; have hb := X.1.2.1
  rw [M_X6_readAny] at hf
  refine lv_iconst (v := 0) hx hb dX6_readAny_0 (by decide) ?_
  refine lv_istore_n (lv' := [(1, .int 0), (0, .ref (h 99 0 0))]) hx hb dX6_readAny_1 rfl hl (by decide) rfl (fun ls hl => ?_)
  refine lv_aload_n hx hb dX6_readAny_2 rfl (lv_at hl 1 rfl) ?_
  refine lv_iconst (v := 0) hx hb dX6_readAny_3 (by decide) ?_
  obtain ⟨σ_1, eσ_1, hf⟩ := lt1_s hf
  refine x_pI X K O 25 rfl LM_99 rfl rfl in_X6 tyX6_ok nmX6 (by decide) q1175 rfl rfl rfl dX6_readAny_4 (fun H locs O => ?_)
  rw [← eσ_1] at O
  refine lv_iconst (v := 1) hx hb dX6_readAny_7 (by decide) ?_
  refine lv_istore_n (lv' := [(2, .int 1), (1, .int 0), (0, .ref (h 99 0 0))]) hx hb dX6_readAny_8 rfl hl (by decide) rfl (fun ls hl => ?_)
  exact w_M_X6_readAny_b9 X K _ _ _ _ ls _ _ O (lv_sub hl [2, 1, 0] rfl) hf
theorem hdV_X6_readAny : yX6_readAny.cls = RX6 ∧ (yX6_readAny.cls ≠ "java/lang/invoke/MethodHandle" ∧ yX6_readAny.cls ≠ "java/lang/invoke/VarHandle" ∧ (parseMethodDescriptor yX6_readAny.desc).map (fun d => d.parameters.length) = some 0) := by decide +kernel
def M_X6_readText_b36 (kb2 : ST → Int32 → Option (ST × Int32)) (σ : ST) (x1 : Int32) : Option (ST × Int32) :=
  (if x1 = 16 then bn2 (M_X6_errs σ 3) (fun σ_26 r_27 => some (σ_26, r_27)) else lt1 (96 + x1) (fun x2_2 => ck (okI x2_2 112) (lt1 (sI σ 16 0 0 (Int32.toNatClampNeg x2_2) (gI σ 99 0 0 13)) (fun σ_4 => bn1 (M_X6_reads σ_4) (fun σ_5 => bn2 (M_X6_isWord σ_5 3) (fun σ_6 r_7 => (if r_7 = 0 then bn2 (M_X6_errs σ_6 1) (fun σ_24 r_25 => some (σ_24, r_25)) else bn1 (M_X6_reads σ_6) (fun σ_9 => ck (okI x2_2 112) (lt1 (sI σ_9 17 0 0 (Int32.toNatClampNeg x2_2) (gI σ_9 99 0 0 22)) (fun σ_11 => bn2 (M_X6_readAny σ_11) (fun σ_12 r_13 => (if r_13 = (-1) then some (σ_12, (-1)) else ck (okI x2_2 112) (lt1 (sI σ_12 18 0 0 (Int32.toNatClampNeg x2_2) (gI σ_12 99 0 0 22)) (fun σ_16 => bn2 (M_X6_isSign σ_16 59) (fun σ_17 r_18 => (if r_18 = 0 then bn2 (M_X6_errs σ_17 1) (fun σ_22 r_23 => some (σ_22, r_23)) else bn1 (M_X6_reads σ_17) (fun σ_20 => lt1 (x1 + 1) (fun x1_21 => kb2 σ_20 x1_21))))))))))))))))))
theorem w_M_X6_readText_b36 (X : FX p m c meth s args RX6 cX6_readText 3 (some .int)) (K : XK D d A s) {z : ST × Int32} {kb2 : ST → Int32 → Option (ST × Int32)} (hkb2 : ∀ (σ : ST) (x1 : Int32) (ls : Array Slot) (H : Heap) (locs : List Loc), XH D A s.heap h (xct LM okM h d σ) H locs → lv_has ls 3 [(0, .ref (h 99 0 0)), (1, .int x1)] → kb2 σ x1 = some z → W p l e (rmD 8 0 0) s m args below meth c H locs 0 0 (MQ below (Qi D (pz z) (cw h LM okM d) A) args s 0 0 A) (F0 m 2 ls [])) (σ : ST) (x1 : Int32) (ls : Array Slot) (H : Heap) (locs : List Loc) (O : XH D A s.heap h (xct LM okM h d σ) H locs) (hl : lv_has ls 3 [(0, .ref (h 99 0 0)), (1, .int x1)]) (hf : M_X6_readText_b36 kb2 σ x1 = some z) : W p l e (rmD 8 0 0) s m args below meth c H locs 0 0 (MQ below (Qi D (pz z) (cw h LM okM d) A) args s 0 0 A) (F0 m 36 ls []) := by
  have hx := X.1.1; have hb := X.1.2.1
  rw [M_X6_readText_b36] at hf
  refine lv_iload_n hx hb dX6_readText_36 rfl (lv_at hl 1 rfl) ?_
  refine lv_bipush (v := 16) hx hb dX6_readText_37 (by decide) ?_
  refine lv_icmp_ne (tgt := 48) hx hb dX6_readText_39 (by decide) (fun c_1 => ?_) (fun c_1 => ?_)
  · replace hf := if_f c_1 hf
    refine lv_bipush (v := 96) hx hb dX6_readText_48 (by decide) ?_
    refine lv_iload_n hx hb dX6_readText_50 rfl (lv_at hl 1 rfl) ?_
    refine lv_iadd hx hb dX6_readText_51 ?_
    obtain ⟨x2_2, ex2_2, hf⟩ := lt1_s hf
    refine x_top (w := .int x2_2) (by rw [ex2_2]) ?_
    refine lv_istore_n (lv' := [(2, .int x2_2), (0, .ref (h 99 0 0)), (1, .int x1)]) hx hb dX6_readText_52 rfl hl (by decide) rfl (fun ls hl => ?_)
    refine lv_aload_n hx hb dX6_readText_53 rfl (lv_at hl 1 rfl) ?_
    refine x_gF X K O 16 rfl LM_99 rfl rfl in_X6 (by decide) q1166 dX6_readText_54 ?_
    refine lv_iload_n hx hb dX6_readText_57 rfl (lv_at hl 0 rfl) ?_
    refine lv_aload_n hx hb dX6_readText_58 rfl (lv_at hl 1 rfl) ?_
    refine x_gI X K O 13 rfl LM_99 rfl rfl in_X6 (by decide) q1163 dX6_readText_59 ?_
    obtain ⟨c_3, hf⟩ := ck_s hf
    obtain ⟨σ_4, eσ_4, hf⟩ := lt1_s hf
    refine x_ist X K O rfl LM_16 c_3 (j := (Int32.toNatClampNeg x2_2)) rfl dX6_readText_62 (fun H locs O => ?_)
    rw [← eσ_4] at O
    refine lv_aload_n hx hb dX6_readText_63 rfl (lv_at hl 1 rfl) ?_
    obtain ⟨σ_5, hg, hf⟩ := bn1_s hf
    refine x_callv (x_runV (As := []) (rest := []) X K O (xct_obj rfl LM_99) rfl (m_M_X6_reads hg) EN_b EN_h (lw_V q1367 q1369 qs50 q124 q1370) 0 rfl hl.1 (Nat.le_of_ble_eq_true rfl) hdV_X6_reads ⟨by decide, by decide⟩ ⟨Nat.le_refl _, Nat.le_refl _⟩ dX6_readText_64) (fun u H locs hp O _ => ?_)
    cases hp
    have O : XH D A s.heap h (xct LM okM h d σ_5) H locs := O
    refine lv_aload_n hx hb dX6_readText_67 rfl (lv_at hl 1 rfl) ?_
    refine lv_iconst (v := 3) hx hb dX6_readText_68 (by decide) ?_
    obtain ⟨σ_6, r_7, hg, hf⟩ := bn2_s hf
    refine x_calli (x_runV (As := [.int 3]) (rest := []) X K O (xct_obj rfl LM_99) rfl (m_M_X6_isWord hg) EN_b EN_h (lw_V q1395 q1397 qs57 q124 q1398) 1 rfl hl.1 (Nat.le_of_ble_eq_true rfl) hdV_X6_isWord ⟨by decide, by decide⟩ ⟨Nat.le_refl _, Nat.le_refl _⟩ dX6_readText_69) (fun r u H locs hp O _ => ?_)
    cases hp
    have O : XH D A s.heap h (xct LM okM h d σ_6) H locs := O
    refine lv_if_ne (tgt := 81) hx hb dX6_readText_72 (by decide) (fun c_8 => ?_) (fun c_8 => ?_)
    · replace hf := if_f c_8 hf
      refine lv_aload_n hx hb dX6_readText_81 rfl (lv_at hl 1 rfl) ?_
      obtain ⟨σ_9, hg, hf⟩ := bn1_s hf
      refine x_callv (x_runV (As := []) (rest := []) X K O (xct_obj rfl LM_99) rfl (m_M_X6_reads hg) EN_b EN_h (lw_V q1367 q1369 qs50 q124 q1370) 0 rfl hl.1 (Nat.le_of_ble_eq_true rfl) hdV_X6_reads ⟨by decide, by decide⟩ ⟨Nat.le_refl _, Nat.le_refl _⟩ dX6_readText_82) (fun u H locs hp O _ => ?_)
      cases hp
      have O : XH D A s.heap h (xct LM okM h d σ_9) H locs := O
      refine lv_aload_n hx hb dX6_readText_85 rfl (lv_at hl 1 rfl) ?_
      refine x_gF X K O 17 rfl LM_99 rfl rfl in_X6 (by decide) q1167 dX6_readText_86 ?_
      refine lv_iload_n hx hb dX6_readText_89 rfl (lv_at hl 0 rfl) ?_
      refine lv_aload_n hx hb dX6_readText_90 rfl (lv_at hl 1 rfl) ?_
      refine x_gI X K O 22 rfl LM_99 rfl rfl in_X6 (by decide) q1172 dX6_readText_91 ?_
      obtain ⟨c_10, hf⟩ := ck_s hf
      obtain ⟨σ_11, eσ_11, hf⟩ := lt1_s hf
      refine x_ist X K O rfl LM_17 c_10 (j := (Int32.toNatClampNeg x2_2)) rfl dX6_readText_94 (fun H locs O => ?_)
      rw [← eσ_11] at O
      refine lv_aload_n hx hb dX6_readText_95 rfl (lv_at hl 1 rfl) ?_
      obtain ⟨σ_12, r_13, hg, hf⟩ := bn2_s hf
      refine x_calli (x_runV (As := []) (rest := []) X K O (xct_obj rfl LM_99) rfl (m_M_X6_readAny hg) EN_b EN_h (lw_V q1403 q1405 qs59 q124 q1406) 0 rfl hl.1 (Nat.le_of_ble_eq_true rfl) hdV_X6_readAny ⟨by decide, by decide⟩ ⟨Nat.le_refl _, Nat.le_refl _⟩ dX6_readText_96) (fun r u H locs hp O _ => ?_)
      cases hp
      have O : XH D A s.heap h (xct LM okM h d σ_12) H locs := O
      refine lv_iconst (v := (-1)) hx hb dX6_readText_99 (by decide) ?_
      refine lv_icmp_ne (tgt := 105) hx hb dX6_readText_100 (by decide) (fun c_14 => ?_) (fun c_14 => ?_)
      · replace hf := if_f c_14 hf
        refine lv_aload_n hx hb dX6_readText_105 rfl (lv_at hl 1 rfl) ?_
        refine x_gF X K O 18 rfl LM_99 rfl rfl in_X6 (by decide) q1168 dX6_readText_106 ?_
        refine lv_iload_n hx hb dX6_readText_109 rfl (lv_at hl 0 rfl) ?_
        refine lv_aload_n hx hb dX6_readText_110 rfl (lv_at hl 1 rfl) ?_
        refine x_gI X K O 22 rfl LM_99 rfl rfl in_X6 (by decide) q1172 dX6_readText_111 ?_
        obtain ⟨c_15, hf⟩ := ck_s hf
        obtain ⟨σ_16, eσ_16, hf⟩ := lt1_s hf
        refine x_ist X K O rfl LM_18 c_15 (j := (Int32.toNatClampNeg x2_2)) rfl dX6_readText_114 (fun H locs O => ?_)
        rw [← eσ_16] at O
        refine lv_aload_n hx hb dX6_readText_115 rfl (lv_at hl 1 rfl) ?_
        refine lv_bipush (v := 59) hx hb dX6_readText_116 (by decide) ?_
        obtain ⟨σ_17, r_18, hg, hf⟩ := bn2_s hf
        refine x_calli (x_runV (As := [.int 59]) (rest := []) X K O (xct_obj rfl LM_99) rfl (m_M_X6_isSign hg) EN_b EN_h (lw_V q1407 q1409 qs60 q124 q1410) 1 rfl hl.1 (Nat.le_of_ble_eq_true rfl) hdV_X6_isSign ⟨by decide, by decide⟩ ⟨Nat.le_refl _, Nat.le_refl _⟩ dX6_readText_118) (fun r u H locs hp O _ => ?_)
        cases hp
        have O : XH D A s.heap h (xct LM okM h d σ_17) H locs := O
        refine lv_if_ne (tgt := 130) hx hb dX6_readText_121 (by decide) (fun c_19 => ?_) (fun c_19 => ?_)
        · replace hf := if_f c_19 hf
          refine lv_aload_n hx hb dX6_readText_130 rfl (lv_at hl 1 rfl) ?_
          obtain ⟨σ_20, hg, hf⟩ := bn1_s hf
          refine x_callv (x_runV (As := []) (rest := []) X K O (xct_obj rfl LM_99) rfl (m_M_X6_reads hg) EN_b EN_h (lw_V q1367 q1369 qs50 q124 q1370) 0 rfl hl.1 (Nat.le_of_ble_eq_true rfl) hdV_X6_reads ⟨by decide, by decide⟩ ⟨Nat.le_refl _, Nat.le_refl _⟩ dX6_readText_131) (fun u H locs hp O _ => ?_)
          cases hp
          have O : XH D A s.heap h (xct LM okM h d σ_20) H locs := O
          refine lv_iload_n hx hb dX6_readText_134 rfl (lv_at hl 2 rfl) ?_
          refine lv_iconst (v := 1) hx hb dX6_readText_135 (by decide) ?_
          refine lv_iadd hx hb dX6_readText_136 ?_
          obtain ⟨x1_21, ex1_21, hf⟩ := lt1_s hf
          refine x_top (w := .int x1_21) (by rw [ex1_21]) ?_
          refine lv_istore_n (lv' := [(1, .int x1_21), (2, .int x2_2), (0, .ref (h 99 0 0))]) hx hb dX6_readText_137 rfl hl (by decide) rfl (fun ls hl => ?_)
          refine lv_goto (tgt := 2) hx hb dX6_readText_138 (by decide) ?_
          exact hkb2 _ _ ls _ _ O (lv_sub hl [2, 0] rfl) hf
        · replace hf := if_t c_19 hf
          refine lv_aload_n hx hb dX6_readText_124 rfl (lv_at hl 1 rfl) ?_
          refine lv_iconst (v := 1) hx hb dX6_readText_125 (by decide) ?_
          obtain ⟨σ_22, r_23, hg, hf⟩ := bn2_s hf
          refine x_calli (x_runV (As := [.int 1]) (rest := []) X K O (xct_obj rfl LM_99) rfl (m_M_X6_errs hg) EN_b EN_h (lw_V q1399 q1401 qs58 q124 q1402) 1 rfl hl.1 (Nat.le_of_ble_eq_true rfl) hdV_X6_errs ⟨by decide, by decide⟩ ⟨Nat.le_refl _, Nat.le_refl _⟩ dX6_readText_126) (fun r u H locs hp O _ => ?_)
          cases hp
          have O : XH D A s.heap h (xct LM okM h d σ_22) H locs := O
          exact x_iret X O rfl _ (Option.some.inj hf).symm rfl dX6_readText_129
      · replace hf := if_t c_14 hf
        refine lv_iconst (v := (-1)) hx hb dX6_readText_103 (by decide) ?_
        exact x_iret X O rfl _ (Option.some.inj hf).symm rfl dX6_readText_104
    · replace hf := if_t c_8 hf
      refine lv_aload_n hx hb dX6_readText_75 rfl (lv_at hl 1 rfl) ?_
      refine lv_iconst (v := 1) hx hb dX6_readText_76 (by decide) ?_
      obtain ⟨σ_24, r_25, hg, hf⟩ := bn2_s hf
      refine x_calli (x_runV (As := [.int 1]) (rest := []) X K O (xct_obj rfl LM_99) rfl (m_M_X6_errs hg) EN_b EN_h (lw_V q1399 q1401 qs58 q124 q1402) 1 rfl hl.1 (Nat.le_of_ble_eq_true rfl) hdV_X6_errs ⟨by decide, by decide⟩ ⟨Nat.le_refl _, Nat.le_refl _⟩ dX6_readText_77) (fun r u H locs hp O _ => ?_)
      cases hp
      have O : XH D A s.heap h (xct LM okM h d σ_24) H locs := O
      exact x_iret X O rfl _ (Option.some.inj hf).symm rfl dX6_readText_80
  · replace hf := if_t c_1 hf
    refine lv_aload_n hx hb dX6_readText_42 rfl (lv_at hl 0 rfl) ?_
    refine lv_iconst (v := 3) hx hb dX6_readText_43 (by decide) ?_
    obtain ⟨σ_26, r_27, hg, hf⟩ := bn2_s hf
    refine x_calli (x_runV (As := [.int 3]) (rest := []) X K O (xct_obj rfl LM_99) rfl (m_M_X6_errs hg) EN_b EN_h (lw_V q1399 q1401 qs58 q124 q1402) 1 rfl hl.1 (Nat.le_of_ble_eq_true rfl) hdV_X6_errs ⟨by decide, by decide⟩ ⟨Nat.le_refl _, Nat.le_refl _⟩ dX6_readText_44) (fun r u H locs hp O _ => ?_)
    cases hp
    have O : XH D A s.heap h (xct LM okM h d σ_26) H locs := O
    exact x_iret X O rfl _ (Option.some.inj hf).symm rfl dX6_readText_47
def M_X6_readText_b141 (σ : ST) (x1 : Int32) : Option (ST × Int32) :=
  (if (gI σ 99 0 0 12) = 0 then some (σ, x1) else bn2 (M_X6_errs σ 1) (fun σ_2 r_3 => some (σ_2, r_3)))
theorem w_M_X6_readText_b141 (X : FX p m c meth s args RX6 cX6_readText 3 (some .int)) (K : XK D d A s) {z : ST × Int32} (σ : ST) (x1 : Int32) (ls : Array Slot) (H : Heap) (locs : List Loc) (O : XH D A s.heap h (xct LM okM h d σ) H locs) (hl : lv_has ls 3 [(0, .ref (h 99 0 0)), (1, .int x1)]) (hf : M_X6_readText_b141 σ x1 = some z) : W p l e (rmD 8 0 0) s m args below meth c H locs 0 0 (MQ below (Qi D (pz z) (cw h LM okM d) A) args s 0 0 A) (F0 m 141 ls []) := by
  have hx := X.1.1; have hb := X.1.2.1
  rw [M_X6_readText_b141] at hf
  refine lv_aload_n hx hb dX6_readText_141 rfl (lv_at hl 0 rfl) ?_
  refine x_gI X K O 12 rfl LM_99 rfl rfl in_X6 (by decide) q1162 dX6_readText_142 ?_
  refine lv_if_ne (tgt := 152) hx hb dX6_readText_145 (by decide) (fun c_1 => ?_) (fun c_1 => ?_)
  · replace hf := if_f c_1 hf
    refine lv_aload_n hx hb dX6_readText_152 rfl (lv_at hl 0 rfl) ?_
    refine lv_iconst (v := 1) hx hb dX6_readText_153 (by decide) ?_
    obtain ⟨σ_2, r_3, hg, hf⟩ := bn2_s hf
    refine x_calli (x_runV (As := [.int 1]) (rest := []) X K O (xct_obj rfl LM_99) rfl (m_M_X6_errs hg) EN_b EN_h (lw_V q1399 q1401 qs58 q124 q1402) 1 rfl hl.1 (Nat.le_of_ble_eq_true rfl) hdV_X6_errs ⟨by decide, by decide⟩ ⟨Nat.le_refl _, Nat.le_refl _⟩ dX6_readText_154) (fun r u H locs hp O _ => ?_)
    cases hp
    have O : XH D A s.heap h (xct LM okM h d σ_2) H locs := O
    exact x_iret X O rfl _ (Option.some.inj hf).symm rfl dX6_readText_157
  · replace hf := if_t c_1 hf
    refine lv_iload_n hx hb dX6_readText_148 rfl (lv_at hl 1 rfl) ?_
    refine lv_goto (tgt := 157) hx hb dX6_readText_149 (by decide) ?_
    exact x_iret X O rfl _ (Option.some.inj hf).symm rfl dX6_readText_157
def M_X6_readText_b2 : Nat → ST → Int32 → Option (ST × Int32)
  | 0, _, _ => none
  | n + 1, σ, x1 =>
    (if (gI σ 99 0 0 21) = 0 then bn2 (M_X6_isWord σ 1) (fun σ_2 r_3 => (if r_3 = 0 then bn2 (M_X6_isWord σ_2 2) (fun σ_5 r_6 => (if r_6 = 0 then M_X6_readText_b141 σ_5 x1 else M_X6_readText_b36 (M_X6_readText_b2 n) σ_5 x1)) else M_X6_readText_b36 (M_X6_readText_b2 n) σ_2 x1)) else bn2 (M_X6_isWord σ 0) (fun σ_8 r_9 => (if r_9 = 0 then M_X6_readText_b141 σ_8 x1 else M_X6_readText_b36 (M_X6_readText_b2 n) σ_8 x1)))
theorem w_M_X6_readText_b2 (X : FX p m c meth s args RX6 cX6_readText 3 (some .int)) (K : XK D d A s) {z : ST × Int32} : ∀ (n : Nat) (σ : ST) (x1 : Int32) (ls : Array Slot) (H : Heap) (locs : List Loc), XH D A s.heap h (xct LM okM h d σ) H locs → lv_has ls 3 [(0, .ref (h 99 0 0)), (1, .int x1)] → M_X6_readText_b2 n σ x1 = some z → W p l e (rmD 8 0 0) s m args below meth c H locs 0 0 (MQ below (Qi D (pz z) (cw h LM okM d) A) args s 0 0 A) (F0 m 2 ls []) := by
  have hx := X.1.1; have hb := X.1.2.1
  intro n
  induction n with
  | zero =>
    intro σ x1 ls H locs O hl hf
    exact absurd hf (fun q => by cases q)
  | succ n ih =>
    intro σ x1 ls H locs O hl hf
    rw [M_X6_readText_b2] at hf
    refine lv_aload_n hx hb dX6_readText_2 rfl (lv_at hl 0 rfl) ?_
    refine x_gI X K O 21 rfl LM_99 rfl rfl in_X6 (by decide) q1171 dX6_readText_3 ?_
    refine lv_if_eq (tgt := 20) hx hb dX6_readText_6 (by decide) (fun c_1 => ?_) (fun c_1 => ?_)
    · replace hf := if_t c_1 hf
      refine lv_aload_n hx hb dX6_readText_20 rfl (lv_at hl 0 rfl) ?_
      refine lv_iconst (v := 1) hx hb dX6_readText_21 (by decide) ?_
      obtain ⟨σ_2, r_3, hg, hf⟩ := bn2_s hf
      refine x_calli (x_runV (As := [.int 1]) (rest := []) X K O (xct_obj rfl LM_99) rfl (m_M_X6_isWord hg) EN_b EN_h (lw_V q1395 q1397 qs57 q124 q1398) 1 rfl hl.1 (Nat.le_of_ble_eq_true rfl) hdV_X6_isWord ⟨by decide, by decide⟩ ⟨Nat.le_refl _, Nat.le_refl _⟩ dX6_readText_22) (fun r u H locs hp O _ => ?_)
      cases hp
      have O : XH D A s.heap h (xct LM okM h d σ_2) H locs := O
      refine lv_if_ne (tgt := 36) hx hb dX6_readText_25 (by decide) (fun c_4 => ?_) (fun c_4 => ?_)
      · replace hf := if_f c_4 hf
        exact w_M_X6_readText_b36 X K ih _ _ ls _ _ O (lv_sub hl [0, 1] rfl) hf
      · replace hf := if_t c_4 hf
        refine lv_aload_n hx hb dX6_readText_28 rfl (lv_at hl 0 rfl) ?_
        refine lv_iconst (v := 2) hx hb dX6_readText_29 (by decide) ?_
        obtain ⟨σ_5, r_6, hg, hf⟩ := bn2_s hf
        refine x_calli (x_runV (As := [.int 2]) (rest := []) X K O (xct_obj rfl LM_99) rfl (m_M_X6_isWord hg) EN_b EN_h (lw_V q1395 q1397 qs57 q124 q1398) 1 rfl hl.1 (Nat.le_of_ble_eq_true rfl) hdV_X6_isWord ⟨by decide, by decide⟩ ⟨Nat.le_refl _, Nat.le_refl _⟩ dX6_readText_30) (fun r u H locs hp O _ => ?_)
        cases hp
        have O : XH D A s.heap h (xct LM okM h d σ_5) H locs := O
        refine lv_if_eq (tgt := 141) hx hb dX6_readText_33 (by decide) (fun c_7 => ?_) (fun c_7 => ?_)
        · replace hf := if_t c_7 hf
          exact w_M_X6_readText_b141 X K _ _ ls _ _ O (lv_sub hl [0, 1] rfl) hf
        · replace hf := if_f c_7 hf
          exact w_M_X6_readText_b36 X K ih _ _ ls _ _ O (lv_sub hl [0, 1] rfl) hf
    · replace hf := if_f c_1 hf
      refine lv_aload_n hx hb dX6_readText_9 rfl (lv_at hl 0 rfl) ?_
      refine lv_iconst (v := 0) hx hb dX6_readText_10 (by decide) ?_
      obtain ⟨σ_8, r_9, hg, hf⟩ := bn2_s hf
      refine x_calli (x_runV (As := [.int 0]) (rest := []) X K O (xct_obj rfl LM_99) rfl (m_M_X6_isWord hg) EN_b EN_h (lw_V q1395 q1397 qs57 q124 q1398) 1 rfl hl.1 (Nat.le_of_ble_eq_true rfl) hdV_X6_isWord ⟨by decide, by decide⟩ ⟨Nat.le_refl _, Nat.le_refl _⟩ dX6_readText_11) (fun r u H locs hp O _ => ?_)
      cases hp
      have O : XH D A s.heap h (xct LM okM h d σ_8) H locs := O
      refine lv_if_eq (tgt := 141) hx hb dX6_readText_14 (by decide) (fun c_10 => ?_) (fun c_10 => ?_)
      · replace hf := if_t c_10 hf
        exact w_M_X6_readText_b141 X K _ _ ls _ _ O (lv_sub hl [0, 1] rfl) hf
      · replace hf := if_f c_10 hf
        refine lv_goto (tgt := 36) hx hb dX6_readText_17 (by decide) ?_
        exact w_M_X6_readText_b36 X K ih _ _ ls _ _ O (lv_sub hl [0, 1] rfl) hf
def M_X6_readText (σ : ST) : Option (ST × Int32) :=
  M_X6_readText_b2 FUEL σ 0
theorem m_M_X6_readText {l : Launch} {D : va_G} {d : Nat → ClassId} {h : IX} {σ : ST} {z : ST × Int32} (hf : M_X6_readText σ = some z) : XM l D d EN yX6_readText cX6_readText 3 (some .int) 8 0 0 [.ref (h 99 0 0)] h (xct LM okM h d σ) (Qi D (pz z) (cw h LM okM d)) := by
  refine XM.of (by decide +kernel) (Nat.le_of_ble_eq_true rfl) ?_
  intro p e s m below meth c A ls X _ K _ O hl
  have hl : lv_has ls 3 [(0, .ref (h 99 0 0))] := hl
  have hx := X.1.1; have hb := X.1.2.1
  rw [M_X6_readText] at hf
  refine lv_iconst (v := 0) hx hb dX6_readText_0 (by decide) ?_
  refine lv_istore_n (lv' := [(1, .int 0), (0, .ref (h 99 0 0))]) hx hb dX6_readText_1 rfl hl (by decide) rfl (fun ls hl => ?_)
  exact w_M_X6_readText_b2 X K _ _ _ ls _ _ O (lv_sub hl [1, 0] rfl) hf
theorem hdV_X6_readText : yX6_readText.cls = RX6 ∧ (yX6_readText.cls ≠ "java/lang/invoke/MethodHandle" ∧ yX6_readText.cls ≠ "java/lang/invoke/VarHandle" ∧ (parseMethodDescriptor yX6_readText.desc).map (fun d => d.parameters.length) = some 0) := by decide +kernel
def M_X6_text_b190 : Nat → ST → Int32 → Int32 → Int32 → Option (ST × Int32)
  | 0, _, _, _, _ => none
  | n + 1, σ, x1, x3, x4 =>
    (if (gI σ 99 0 0 22) ≤ x4 then ck (okI x1 7) (lt1 (sI σ 15 0 0 (Int32.toNatClampNeg x1) x3) (fun σ_3 => some (σ_3, x3))) else ck (okI (2400 + x4) 2800) (ck (okI ((400 * x1) + x4) 2800) (lt1 (sI σ 19 0 0 (Int32.toNatClampNeg ((400 * x1) + x4)) (gI σ 19 0 0 (Int32.toNatClampNeg (2400 + x4)))) (fun σ_6 => ck (okI (2400 + x4) 2800) (ck (okI ((400 * x1) + x4) 2800) (lt1 (sI σ_6 20 0 0 (Int32.toNatClampNeg ((400 * x1) + x4)) (gI σ_6 20 0 0 (Int32.toNatClampNeg (2400 + x4)))) (fun σ_9 => lt1 (x4 + 1) (fun x4_10 => (M_X6_text_b190 n) σ_9 x1 x3 x4_10))))))))
theorem w_M_X6_text_b190 (X : FX p m c meth s args RX6 cX6_text 5 (some .int)) (K : XK D d A s) {z : ST × Int32} : ∀ (n : Nat) (σ : ST) (x1 : Int32) (x3 : Int32) (x4 : Int32) (ls : Array Slot) (H : Heap) (locs : List Loc), XH D A s.heap h (xct LM okM h d σ) H locs → lv_has ls 5 [(0, .ref (h 99 0 0)), (1, .int x1), (3, .int x3), (4, .int x4)] → M_X6_text_b190 n σ x1 x3 x4 = some z → W p l e (rmD 9 0 0) s m args below meth c H locs 0 0 (MQ below (Qi D (pz z) (cw h LM okM d) A) args s 0 0 A) (F0 m 190 ls []) := by
  have hx := X.1.1; have hb := X.1.2.1
  intro n
  induction n with
  | zero =>
    intro σ x1 x3 x4 ls H locs O hl hf
    exact absurd hf (fun q => by cases q)
  | succ n ih =>
    intro σ x1 x3 x4 ls H locs O hl hf
    rw [M_X6_text_b190] at hf
    refine lv_iload hx hb dX6_text_190 (lv_at hl 3 rfl) ?_
    refine lv_aload_n hx hb dX6_text_192 rfl (lv_at hl 0 rfl) ?_
    refine x_gI X K O 22 rfl LM_99 rfl rfl in_X6 (by decide) q1172 dX6_text_193 ?_
    refine lv_icmp_ge (tgt := 253) hx hb dX6_text_196 (by decide) (fun c_1 => ?_) (fun c_1 => ?_)
    · replace hf := if_t c_1 hf
      refine lv_aload_n hx hb dX6_text_253 rfl (lv_at hl 0 rfl) ?_
      refine x_gF X K O 15 rfl LM_99 rfl rfl in_X6 (by decide) q1165 dX6_text_254 ?_
      refine lv_iload_n hx hb dX6_text_257 rfl (lv_at hl 1 rfl) ?_
      refine lv_iload_n hx hb dX6_text_258 rfl (lv_at hl 2 rfl) ?_
      obtain ⟨c_2, hf⟩ := ck_s hf
      obtain ⟨σ_3, eσ_3, hf⟩ := lt1_s hf
      refine x_ist X K O rfl LM_15 c_2 (j := (Int32.toNatClampNeg x1)) rfl dX6_text_259 (fun H locs O => ?_)
      rw [← eσ_3] at O
      refine lv_iload_n hx hb dX6_text_260 rfl (lv_at hl 2 rfl) ?_
      exact x_iret X O rfl _ (Option.some.inj hf).symm rfl dX6_text_261
    · replace hf := if_f c_1 hf
      refine lv_aload_n hx hb dX6_text_199 rfl (lv_at hl 0 rfl) ?_
      refine x_gF X K O 19 rfl LM_99 rfl rfl in_X6 (by decide) q1169 dX6_text_200 ?_
      refine lv_sipush (v := 400) hx hb dX6_text_203 (by decide) ?_
      refine lv_iload_n hx hb dX6_text_206 rfl (lv_at hl 1 rfl) ?_
      refine lv_imul hx hb dX6_text_207 ?_
      refine lv_iload hx hb dX6_text_208 (lv_at hl 3 rfl) ?_
      refine lv_iadd hx hb dX6_text_210 ?_
      refine lv_aload_n hx hb dX6_text_211 rfl (lv_at hl 0 rfl) ?_
      refine x_gF X K O 19 rfl LM_99 rfl rfl in_X6 (by decide) q1169 dX6_text_212 ?_
      refine lv_sipush (v := 2400) hx hb dX6_text_215 (by decide) ?_
      refine lv_iload hx hb dX6_text_218 (lv_at hl 3 rfl) ?_
      refine lv_iadd hx hb dX6_text_220 ?_
      obtain ⟨c_4, hf⟩ := ck_s hf
      refine x_ild X K O rfl LM_19 c_4 (j := (Int32.toNatClampNeg (2400 + x4))) rfl dX6_text_221 ?_
      obtain ⟨c_5, hf⟩ := ck_s hf
      obtain ⟨σ_6, eσ_6, hf⟩ := lt1_s hf
      refine x_ist X K O rfl LM_19 c_5 (j := (Int32.toNatClampNeg ((400 * x1) + x4))) rfl dX6_text_222 (fun H locs O => ?_)
      rw [← eσ_6] at O
      refine lv_aload_n hx hb dX6_text_223 rfl (lv_at hl 0 rfl) ?_
      refine x_gF X K O 20 rfl LM_99 rfl rfl in_X6 (by decide) q1170 dX6_text_224 ?_
      refine lv_sipush (v := 400) hx hb dX6_text_227 (by decide) ?_
      refine lv_iload_n hx hb dX6_text_230 rfl (lv_at hl 1 rfl) ?_
      refine lv_imul hx hb dX6_text_231 ?_
      refine lv_iload hx hb dX6_text_232 (lv_at hl 3 rfl) ?_
      refine lv_iadd hx hb dX6_text_234 ?_
      refine lv_aload_n hx hb dX6_text_235 rfl (lv_at hl 0 rfl) ?_
      refine x_gF X K O 20 rfl LM_99 rfl rfl in_X6 (by decide) q1170 dX6_text_236 ?_
      refine lv_sipush (v := 2400) hx hb dX6_text_239 (by decide) ?_
      refine lv_iload hx hb dX6_text_242 (lv_at hl 3 rfl) ?_
      refine lv_iadd hx hb dX6_text_244 ?_
      obtain ⟨c_7, hf⟩ := ck_s hf
      refine x_ild X K O rfl LM_20 c_7 (j := (Int32.toNatClampNeg (2400 + x4))) rfl dX6_text_245 ?_
      obtain ⟨c_8, hf⟩ := ck_s hf
      obtain ⟨σ_9, eσ_9, hf⟩ := lt1_s hf
      refine x_ist X K O rfl LM_20 c_8 (j := (Int32.toNatClampNeg ((400 * x1) + x4))) rfl dX6_text_246 (fun H locs O => ?_)
      rw [← eσ_9] at O
      obtain ⟨x4_10, ex4_10, hf⟩ := lt1_s hf
      refine lv_iinc (v := x4_10) (lv' := [(4, .int x4_10), (0, .ref (h 99 0 0)), (1, .int x1), (3, .int x3)]) hx hb dX6_text_247 hl (k := 3) rfl (by rw [ex4_10]; rfl) (by decide) rfl (fun ls hl => ?_)
      refine lv_goto (tgt := 190) hx hb dX6_text_250 (by decide) ?_
      exact ih _ _ _ _ ls _ _ O (lv_sub hl [1, 2, 3, 0] rfl) hf
def M_X6_text_b109 : Nat → ST → Int32 → Int32 → Int32 → Option (ST × Int32)
  | 0, _, _, _, _ => none
  | n + 1, σ, x1, x3, x4 =>
    (if x3 ≤ x4 then M_X6_text_b190 FUEL σ x1 x3 0 else ck (okI (96 + x4) 112) (ck (okI ((16 * x1) + x4) 112) (lt1 (sI σ 16 0 0 (Int32.toNatClampNeg ((16 * x1) + x4)) (gI σ 16 0 0 (Int32.toNatClampNeg (96 + x4)))) (fun σ_4 => ck (okI (96 + x4) 112) (ck (okI ((16 * x1) + x4) 112) (lt1 (sI σ_4 17 0 0 (Int32.toNatClampNeg ((16 * x1) + x4)) (gI σ_4 17 0 0 (Int32.toNatClampNeg (96 + x4)))) (fun σ_7 => ck (okI (96 + x4) 112) (ck (okI ((16 * x1) + x4) 112) (lt1 (sI σ_7 18 0 0 (Int32.toNatClampNeg ((16 * x1) + x4)) (gI σ_7 18 0 0 (Int32.toNatClampNeg (96 + x4)))) (fun σ_10 => lt1 (x4 + 1) (fun x4_11 => (M_X6_text_b109 n) σ_10 x1 x3 x4_11)))))))))))
theorem w_M_X6_text_b109 (X : FX p m c meth s args RX6 cX6_text 5 (some .int)) (K : XK D d A s) {z : ST × Int32} : ∀ (n : Nat) (σ : ST) (x1 : Int32) (x3 : Int32) (x4 : Int32) (ls : Array Slot) (H : Heap) (locs : List Loc), XH D A s.heap h (xct LM okM h d σ) H locs → lv_has ls 5 [(0, .ref (h 99 0 0)), (1, .int x1), (3, .int x3), (4, .int x4)] → M_X6_text_b109 n σ x1 x3 x4 = some z → W p l e (rmD 9 0 0) s m args below meth c H locs 0 0 (MQ below (Qi D (pz z) (cw h LM okM d) A) args s 0 0 A) (F0 m 109 ls []) := by
  have hx := X.1.1; have hb := X.1.2.1
  intro n
  induction n with
  | zero =>
    intro σ x1 x3 x4 ls H locs O hl hf
    exact absurd hf (fun q => by cases q)
  | succ n ih =>
    intro σ x1 x3 x4 ls H locs O hl hf
    rw [M_X6_text_b109] at hf
    refine lv_iload hx hb dX6_text_109 (lv_at hl 3 rfl) ?_
    refine lv_iload_n hx hb dX6_text_111 rfl (lv_at hl 2 rfl) ?_
    refine lv_icmp_ge (tgt := 187) hx hb dX6_text_112 (by decide) (fun c_1 => ?_) (fun c_1 => ?_)
    · replace hf := if_t c_1 hf
      refine lv_iconst (v := 0) hx hb dX6_text_187 (by decide) ?_
      refine lv_istore (lv' := [(4, .int 0), (0, .ref (h 99 0 0)), (1, .int x1), (3, .int x3)]) hx hb dX6_text_188 hl (by decide) rfl (fun ls hl => ?_)
      exact w_M_X6_text_b190 X K _ _ _ _ _ ls _ _ O (lv_sub hl [1, 2, 3, 0] rfl) hf
    · replace hf := if_f c_1 hf
      refine lv_aload_n hx hb dX6_text_115 rfl (lv_at hl 0 rfl) ?_
      refine x_gF X K O 16 rfl LM_99 rfl rfl in_X6 (by decide) q1166 dX6_text_116 ?_
      refine lv_bipush (v := 16) hx hb dX6_text_119 (by decide) ?_
      refine lv_iload_n hx hb dX6_text_121 rfl (lv_at hl 1 rfl) ?_
      refine lv_imul hx hb dX6_text_122 ?_
      refine lv_iload hx hb dX6_text_123 (lv_at hl 3 rfl) ?_
      refine lv_iadd hx hb dX6_text_125 ?_
      refine lv_aload_n hx hb dX6_text_126 rfl (lv_at hl 0 rfl) ?_
      refine x_gF X K O 16 rfl LM_99 rfl rfl in_X6 (by decide) q1166 dX6_text_127 ?_
      refine lv_bipush (v := 96) hx hb dX6_text_130 (by decide) ?_
      refine lv_iload hx hb dX6_text_132 (lv_at hl 3 rfl) ?_
      refine lv_iadd hx hb dX6_text_134 ?_
      obtain ⟨c_2, hf⟩ := ck_s hf
      refine x_ild X K O rfl LM_16 c_2 (j := (Int32.toNatClampNeg (96 + x4))) rfl dX6_text_135 ?_
      obtain ⟨c_3, hf⟩ := ck_s hf
      obtain ⟨σ_4, eσ_4, hf⟩ := lt1_s hf
      refine x_ist X K O rfl LM_16 c_3 (j := (Int32.toNatClampNeg ((16 * x1) + x4))) rfl dX6_text_136 (fun H locs O => ?_)
      rw [← eσ_4] at O
      refine lv_aload_n hx hb dX6_text_137 rfl (lv_at hl 0 rfl) ?_
      refine x_gF X K O 17 rfl LM_99 rfl rfl in_X6 (by decide) q1167 dX6_text_138 ?_
      refine lv_bipush (v := 16) hx hb dX6_text_141 (by decide) ?_
      refine lv_iload_n hx hb dX6_text_143 rfl (lv_at hl 1 rfl) ?_
      refine lv_imul hx hb dX6_text_144 ?_
      refine lv_iload hx hb dX6_text_145 (lv_at hl 3 rfl) ?_
      refine lv_iadd hx hb dX6_text_147 ?_
      refine lv_aload_n hx hb dX6_text_148 rfl (lv_at hl 0 rfl) ?_
      refine x_gF X K O 17 rfl LM_99 rfl rfl in_X6 (by decide) q1167 dX6_text_149 ?_
      refine lv_bipush (v := 96) hx hb dX6_text_152 (by decide) ?_
      refine lv_iload hx hb dX6_text_154 (lv_at hl 3 rfl) ?_
      refine lv_iadd hx hb dX6_text_156 ?_
      obtain ⟨c_5, hf⟩ := ck_s hf
      refine x_ild X K O rfl LM_17 c_5 (j := (Int32.toNatClampNeg (96 + x4))) rfl dX6_text_157 ?_
      obtain ⟨c_6, hf⟩ := ck_s hf
      obtain ⟨σ_7, eσ_7, hf⟩ := lt1_s hf
      refine x_ist X K O rfl LM_17 c_6 (j := (Int32.toNatClampNeg ((16 * x1) + x4))) rfl dX6_text_158 (fun H locs O => ?_)
      rw [← eσ_7] at O
      refine lv_aload_n hx hb dX6_text_159 rfl (lv_at hl 0 rfl) ?_
      refine x_gF X K O 18 rfl LM_99 rfl rfl in_X6 (by decide) q1168 dX6_text_160 ?_
      refine lv_bipush (v := 16) hx hb dX6_text_163 (by decide) ?_
      refine lv_iload_n hx hb dX6_text_165 rfl (lv_at hl 1 rfl) ?_
      refine lv_imul hx hb dX6_text_166 ?_
      refine lv_iload hx hb dX6_text_167 (lv_at hl 3 rfl) ?_
      refine lv_iadd hx hb dX6_text_169 ?_
      refine lv_aload_n hx hb dX6_text_170 rfl (lv_at hl 0 rfl) ?_
      refine x_gF X K O 18 rfl LM_99 rfl rfl in_X6 (by decide) q1168 dX6_text_171 ?_
      refine lv_bipush (v := 96) hx hb dX6_text_174 (by decide) ?_
      refine lv_iload hx hb dX6_text_176 (lv_at hl 3 rfl) ?_
      refine lv_iadd hx hb dX6_text_178 ?_
      obtain ⟨c_8, hf⟩ := ck_s hf
      refine x_ild X K O rfl LM_18 c_8 (j := (Int32.toNatClampNeg (96 + x4))) rfl dX6_text_179 ?_
      obtain ⟨c_9, hf⟩ := ck_s hf
      obtain ⟨σ_10, eσ_10, hf⟩ := lt1_s hf
      refine x_ist X K O rfl LM_18 c_9 (j := (Int32.toNatClampNeg ((16 * x1) + x4))) rfl dX6_text_180 (fun H locs O => ?_)
      rw [← eσ_10] at O
      obtain ⟨x4_11, ex4_11, hf⟩ := lt1_s hf
      refine lv_iinc (v := x4_11) (lv' := [(4, .int x4_11), (0, .ref (h 99 0 0)), (1, .int x1), (3, .int x3)]) hx hb dX6_text_181 hl (k := 3) rfl (by rw [ex4_11]; rfl) (by decide) rfl (fun ls hl => ?_)
      refine lv_goto (tgt := 109) hx hb dX6_text_184 (by decide) ?_
      exact ih _ _ _ _ ls _ _ O (lv_sub hl [1, 2, 3, 0] rfl) hf
def M_X6_text_b99 (σ : ST) (x1 : Int32) (x3 : Int32) : Option (ST × Int32) :=
  (if x3 = (-1) then some (σ, (-1)) else M_X6_text_b109 FUEL σ x1 x3 0)
theorem w_M_X6_text_b99 (X : FX p m c meth s args RX6 cX6_text 5 (some .int)) (K : XK D d A s) {z : ST × Int32} (σ : ST) (x1 : Int32) (x3 : Int32) (ls : Array Slot) (H : Heap) (locs : List Loc) (O : XH D A s.heap h (xct LM okM h d σ) H locs) (hl : lv_has ls 5 [(0, .ref (h 99 0 0)), (1, .int x1), (3, .int x3)]) (hf : M_X6_text_b99 σ x1 x3 = some z) : W p l e (rmD 9 0 0) s m args below meth c H locs 0 0 (MQ below (Qi D (pz z) (cw h LM okM d) A) args s 0 0 A) (F0 m 99 ls []) := by
  have hx := X.1.1; have hb := X.1.2.1
  rw [M_X6_text_b99] at hf
  refine lv_iload_n hx hb dX6_text_99 rfl (lv_at hl 2 rfl) ?_
  refine lv_iconst (v := (-1)) hx hb dX6_text_100 (by decide) ?_
  refine lv_icmp_ne (tgt := 106) hx hb dX6_text_101 (by decide) (fun c_1 => ?_) (fun c_1 => ?_)
  · replace hf := if_f c_1 hf
    refine lv_iconst (v := 0) hx hb dX6_text_106 (by decide) ?_
    refine lv_istore (lv' := [(4, .int 0), (0, .ref (h 99 0 0)), (1, .int x1), (3, .int x3)]) hx hb dX6_text_107 hl (by decide) rfl (fun ls hl => ?_)
    exact w_M_X6_text_b109 X K _ _ _ _ _ ls _ _ O (lv_sub hl [1, 2, 3, 0] rfl) hf
  · replace hf := if_t c_1 hf
    refine lv_iconst (v := (-1)) hx hb dX6_text_104 (by decide) ?_
    exact x_iret X O rfl _ (Option.some.inj hf).symm rfl dX6_text_105
def M_X6_text_b68 (σ : ST) (x1 : Int32) (x2 : Int32) (s0 : Int32) : Option (ST × Int32) :=
  lt1 (sI σ 99 0 0 9 0) (fun σ_1 => (if x2 = 0 then M_X6_text_b99 σ_1 x1 s0 else (if s0 = (-1) then lt1 (sI σ_1 99 0 0 28 (gI σ_1 99 0 0 26)) (fun σ_4 => lt1 (sI σ_4 99 0 0 29 (gI σ_4 99 0 0 27)) (fun σ_5 => M_X6_text_b99 σ_5 x1 s0)) else M_X6_text_b99 σ_1 x1 s0)))
theorem w_M_X6_text_b68 (X : FX p m c meth s args RX6 cX6_text 5 (some .int)) (K : XK D d A s) {z : ST × Int32} (σ : ST) (x1 : Int32) (x2 : Int32) (s0 : Int32) (ls : Array Slot) (H : Heap) (locs : List Loc) (O : XH D A s.heap h (xct LM okM h d σ) H locs) (hl : lv_has ls 5 [(0, .ref (h 99 0 0)), (1, .int x1), (2, .int x2)]) (hf : M_X6_text_b68 σ x1 x2 s0 = some z) : W p l e (rmD 9 0 0) s m args below meth c H locs 0 0 (MQ below (Qi D (pz z) (cw h LM okM d) A) args s 0 0 A) (F0 m 68 ls [.int s0]) := by
  have hx := X.1.1; have hb := X.1.2.1
  rw [M_X6_text_b68] at hf
  refine lv_istore_n (lv' := [(3, .int s0), (0, .ref (h 99 0 0)), (1, .int x1), (2, .int x2)]) hx hb dX6_text_68 rfl hl (by decide) rfl (fun ls hl => ?_)
  refine lv_aload_n hx hb dX6_text_69 rfl (lv_at hl 1 rfl) ?_
  refine lv_iconst (v := 0) hx hb dX6_text_70 (by decide) ?_
  obtain ⟨σ_1, eσ_1, hf⟩ := lt1_s hf
  refine x_pI X K O 9 rfl LM_99 rfl rfl in_X6 tyX6_ok nmX6 (by decide) q1159 rfl rfl rfl dX6_text_71 (fun H locs O => ?_)
  rw [← eσ_1] at O
  refine lv_iload_n hx hb dX6_text_74 rfl (lv_at hl 3 rfl) ?_
  refine lv_if_eq (tgt := 99) hx hb dX6_text_75 (by decide) (fun c_2 => ?_) (fun c_2 => ?_)
  · replace hf := if_t c_2 hf
    exact w_M_X6_text_b99 X K _ _ _ ls _ _ O (lv_sub hl [1, 2, 0] rfl) hf
  · replace hf := if_f c_2 hf
    refine lv_iload_n hx hb dX6_text_78 rfl (lv_at hl 0 rfl) ?_
    refine lv_iconst (v := (-1)) hx hb dX6_text_79 (by decide) ?_
    refine lv_icmp_ne (tgt := 99) hx hb dX6_text_80 (by decide) (fun c_3 => ?_) (fun c_3 => ?_)
    · replace hf := if_f c_3 hf
      exact w_M_X6_text_b99 X K _ _ _ ls _ _ O (lv_sub hl [1, 2, 0] rfl) hf
    · replace hf := if_t c_3 hf
      refine lv_aload_n hx hb dX6_text_83 rfl (lv_at hl 1 rfl) ?_
      refine lv_aload_n hx hb dX6_text_84 rfl (lv_at hl 1 rfl) ?_
      refine x_gI X K O 26 rfl LM_99 rfl rfl in_X6 (by decide) q1176 dX6_text_85 ?_
      obtain ⟨σ_4, eσ_4, hf⟩ := lt1_s hf
      refine x_pI X K O 28 rfl LM_99 rfl rfl in_X6 tyX6_ok nmX6 (by decide) q1178 rfl rfl rfl dX6_text_88 (fun H locs O => ?_)
      rw [← eσ_4] at O
      refine lv_aload_n hx hb dX6_text_91 rfl (lv_at hl 1 rfl) ?_
      refine lv_aload_n hx hb dX6_text_92 rfl (lv_at hl 1 rfl) ?_
      refine x_gI X K O 27 rfl LM_99 rfl rfl in_X6 (by decide) q1177 dX6_text_93 ?_
      obtain ⟨σ_5, eσ_5, hf⟩ := lt1_s hf
      refine x_pI X K O 29 rfl LM_99 rfl rfl in_X6 tyX6_ok nmX6 (by decide) q1179 rfl rfl rfl dX6_text_96 (fun H locs O => ?_)
      rw [← eσ_5] at O
      exact w_M_X6_text_b99 X K _ _ _ ls _ _ O (lv_sub hl [1, 2, 0] rfl) hf
def M_X6_text_b34 (σ : ST) (x1 : Int32) (x2 : Int32) (s1 : Int32) : Option (ST × Int32) :=
  ck (okZ s1) (lt1 (sI σ 99 0 0 21 s1) (fun σ_1 => lt1 (sI σ_1 99 0 0 10 0) (fun σ_3 => lt1 (sI σ_3 99 0 0 22 0) (fun σ_4 => lt1 (sI σ_4 99 0 0 23 0) (fun σ_5 => bn1 (M_X6_reads σ_5) (fun σ_6 => (if x2 = 0 then M_X6_text_b68 σ_6 x1 x2 (-1) else bn2 (M_X6_readText σ_6) (fun σ_8 r_9 => M_X6_text_b68 σ_8 x1 x2 r_9))))))))
theorem w_M_X6_text_b34 (X : FX p m c meth s args RX6 cX6_text 5 (some .int)) (K : XK D d A s) {z : ST × Int32} (σ : ST) (x1 : Int32) (x2 : Int32) (s1 : Int32) (ls : Array Slot) (H : Heap) (locs : List Loc) (O : XH D A s.heap h (xct LM okM h d σ) H locs) (hl : lv_has ls 5 [(0, .ref (h 99 0 0)), (1, .int x1), (2, .int x2)]) (hf : M_X6_text_b34 σ x1 x2 s1 = some z) : W p l e (rmD 9 0 0) s m args below meth c H locs 0 0 (MQ below (Qi D (pz z) (cw h LM okM d) A) args s 0 0 A) (F0 m 34 ls [.int s1, .ref (h 99 0 0)]) := by
  have hx := X.1.1; have hb := X.1.2.1
  rw [M_X6_text_b34] at hf
  obtain ⟨c_2, hf⟩ := ck_s hf
  obtain ⟨σ_1, eσ_1, hf⟩ := lt1_s hf
  refine x_pI X K O 21 rfl LM_99 rfl rfl in_X6 tyX6_ok nmX6 (by decide) q1171 rfl (okZ_n c_2) (okZ_f c_2) dX6_text_34 (fun H locs O => ?_)
  rw [← eσ_1] at O
  refine lv_aload_n hx hb dX6_text_37 rfl (lv_at hl 0 rfl) ?_
  refine lv_iconst (v := 0) hx hb dX6_text_38 (by decide) ?_
  obtain ⟨σ_3, eσ_3, hf⟩ := lt1_s hf
  refine x_pI X K O 10 rfl LM_99 rfl rfl in_X6 tyX6_ok nmX6 (by decide) q1160 rfl rfl rfl dX6_text_39 (fun H locs O => ?_)
  rw [← eσ_3] at O
  refine lv_aload_n hx hb dX6_text_42 rfl (lv_at hl 0 rfl) ?_
  refine lv_iconst (v := 0) hx hb dX6_text_43 (by decide) ?_
  obtain ⟨σ_4, eσ_4, hf⟩ := lt1_s hf
  refine x_pI X K O 22 rfl LM_99 rfl rfl in_X6 tyX6_ok nmX6 (by decide) q1172 rfl rfl rfl dX6_text_44 (fun H locs O => ?_)
  rw [← eσ_4] at O
  refine lv_aload_n hx hb dX6_text_47 rfl (lv_at hl 0 rfl) ?_
  refine lv_iconst (v := 0) hx hb dX6_text_48 (by decide) ?_
  obtain ⟨σ_5, eσ_5, hf⟩ := lt1_s hf
  refine x_pI X K O 23 rfl LM_99 rfl rfl in_X6 tyX6_ok nmX6 (by decide) q1173 rfl rfl rfl dX6_text_49 (fun H locs O => ?_)
  rw [← eσ_5] at O
  refine lv_aload_n hx hb dX6_text_52 rfl (lv_at hl 0 rfl) ?_
  obtain ⟨σ_6, hg, hf⟩ := bn1_s hf
  refine x_callv (x_runV (As := []) (rest := []) X K O (xct_obj rfl LM_99) rfl (m_M_X6_reads hg) EN_b EN_h (lw_V q1367 q1369 qs50 q124 q1370) 0 rfl hl.1 (Nat.le_of_ble_eq_true rfl) hdV_X6_reads ⟨by decide, by decide⟩ ⟨Nat.le_refl _, Nat.le_refl _⟩ dX6_text_53) (fun u H locs hp O _ => ?_)
  cases hp
  have O : XH D A s.heap h (xct LM okM h d σ_6) H locs := O
  refine lv_iload_n hx hb dX6_text_56 rfl (lv_at hl 2 rfl) ?_
  refine lv_if_eq (tgt := 67) hx hb dX6_text_57 (by decide) (fun c_7 => ?_) (fun c_7 => ?_)
  · replace hf := if_t c_7 hf
    refine lv_iconst (v := (-1)) hx hb dX6_text_67 (by decide) ?_
    exact w_M_X6_text_b68 X K _ _ _ _ ls _ _ O (lv_sub hl [0, 1, 2] rfl) hf
  · replace hf := if_f c_7 hf
    refine lv_aload_n hx hb dX6_text_60 rfl (lv_at hl 0 rfl) ?_
    obtain ⟨σ_8, r_9, hg, hf⟩ := bn2_s hf
    refine x_calli (x_runV (As := []) (rest := []) X K O (xct_obj rfl LM_99) rfl (m_M_X6_readText hg) EN_b EN_h (lw_V q1391 q1393 qs56 q124 q1394) 0 rfl hl.1 (Nat.le_of_ble_eq_true rfl) hdV_X6_readText ⟨by decide, by decide⟩ ⟨Nat.le_refl _, Nat.le_refl _⟩ dX6_text_61) (fun r u H locs hp O _ => ?_)
    cases hp
    have O : XH D A s.heap h (xct LM okM h d σ_8) H locs := O
    refine lv_goto (tgt := 68) hx hb dX6_text_64 (by decide) ?_
    exact w_M_X6_text_b68 X K _ _ _ _ ls _ _ O (lv_sub hl [0, 1, 2] rfl) hf
def M_X6_text (σ : ST) (p1 : Int32) : Option (ST × Int32) :=
  lt1 (sI σ 99 0 0 0 0) (fun σ_1 => lt1 (sI σ_1 99 0 0 28 0) (fun σ_2 => lt1 (sI σ_2 99 0 0 29 (-1)) (fun σ_3 => bn2 (M_X6_isIn σ_3 p1 0 5) (fun σ_4 r_5 => (if 2 ≤ p1 then M_X6_text_b34 σ_4 p1 r_5 0 else M_X6_text_b34 σ_4 p1 r_5 1)))))
theorem m_M_X6_text {l : Launch} {D : va_G} {d : Nat → ClassId} {h : IX} {p1 : Int32} {σ : ST} {z : ST × Int32} (hf : M_X6_text σ p1 = some z) : XM l D d EN yX6_text cX6_text 5 (some .int) 9 0 0 [.ref (h 99 0 0), .int p1] h (xct LM okM h d σ) (Qi D (pz z) (cw h LM okM d)) := by
  refine XM.of (by decide +kernel) (Nat.le_of_ble_eq_true rfl) ?_
  intro p e s m below meth c A ls X _ K _ O hl
  have hl : lv_has ls 5 [(0, .ref (h 99 0 0)), (1, .int p1)] := hl
  have hx := X.1.1; have hb := X.1.2.1
  rw [M_X6_text] at hf
  refine lv_aload_n hx hb dX6_text_0 rfl (lv_at hl 0 rfl) ?_
  refine lv_iconst (v := 0) hx hb dX6_text_1 (by decide) ?_
  obtain ⟨σ_1, eσ_1, hf⟩ := lt1_s hf
  refine x_pI X K O 0 rfl LM_99 rfl rfl in_X6 tyX6_ok nmX6 (by decide) q1150 rfl rfl rfl dX6_text_2 (fun H locs O => ?_)
  rw [← eσ_1] at O
  refine lv_aload_n hx hb dX6_text_5 rfl (lv_at hl 0 rfl) ?_
  refine lv_iconst (v := 0) hx hb dX6_text_6 (by decide) ?_
  obtain ⟨σ_2, eσ_2, hf⟩ := lt1_s hf
  refine x_pI X K O 28 rfl LM_99 rfl rfl in_X6 tyX6_ok nmX6 (by decide) q1178 rfl rfl rfl dX6_text_7 (fun H locs O => ?_)
  rw [← eσ_2] at O
  refine lv_aload_n hx hb dX6_text_10 rfl (lv_at hl 0 rfl) ?_
  refine lv_iconst (v := (-1)) hx hb dX6_text_11 (by decide) ?_
  obtain ⟨σ_3, eσ_3, hf⟩ := lt1_s hf
  refine x_pI X K O 29 rfl LM_99 rfl rfl in_X6 tyX6_ok nmX6 (by decide) q1179 rfl rfl rfl dX6_text_12 (fun H locs O => ?_)
  rw [← eσ_3] at O
  refine lv_aload_n hx hb dX6_text_15 rfl (lv_at hl 0 rfl) ?_
  refine lv_iload_n hx hb dX6_text_16 rfl (lv_at hl 1 rfl) ?_
  refine lv_iconst (v := 0) hx hb dX6_text_17 (by decide) ?_
  refine lv_iconst (v := 5) hx hb dX6_text_18 (by decide) ?_
  obtain ⟨σ_4, r_5, hg, hf⟩ := bn2_s hf
  refine x_calli (x_runV (As := [.int p1, .int 0, .int 5]) (rest := []) X K O (xct_obj rfl LM_99) rfl (m_M_X6_isIn hg) EN_b EN_h (lw_V q1327 q1329 qs45 q124 q1330) 3 rfl hl.1 (Nat.le_of_ble_eq_true rfl) hdV_X6_isIn ⟨by decide, by decide⟩ ⟨Nat.le_refl _, Nat.le_refl _⟩ dX6_text_19) (fun r u H locs hp O _ => ?_)
  cases hp
  have O : XH D A s.heap h (xct LM okM h d σ_4) H locs := O
  refine lv_istore_n (lv' := [(2, .int r_5), (0, .ref (h 99 0 0)), (1, .int p1)]) hx hb dX6_text_22 rfl hl (by decide) rfl (fun ls hl => ?_)
  refine lv_aload_n hx hb dX6_text_23 rfl (lv_at hl 1 rfl) ?_
  refine lv_iload_n hx hb dX6_text_24 rfl (lv_at hl 2 rfl) ?_
  refine lv_iconst (v := 2) hx hb dX6_text_25 (by decide) ?_
  refine lv_icmp_ge (tgt := 33) hx hb dX6_text_26 (by decide) (fun c_6 => ?_) (fun c_6 => ?_)
  · replace hf := if_t c_6 hf
    refine lv_iconst (v := 0) hx hb dX6_text_33 (by decide) ?_
    exact w_M_X6_text_b34 X K _ _ _ _ ls _ _ O (lv_sub hl [1, 2, 0] rfl) hf
  · replace hf := if_f c_6 hf
    refine lv_iconst (v := 1) hx hb dX6_text_29 (by decide) ?_
    refine lv_goto (tgt := 34) hx hb dX6_text_30 (by decide) ?_
    exact w_M_X6_text_b34 X K _ _ _ _ ls _ _ O (lv_sub hl [1, 2, 0] rfl) hf
end MW
