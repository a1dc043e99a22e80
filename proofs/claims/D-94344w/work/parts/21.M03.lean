section MW
variable {p : Program} {l : Launch} {e : Env} {s : State} {m : MethodId} {args : Array Value} {below : List Frame} {meth : Method} {c : Code} {D : va_G} {A : Nat → Prop} {h : IX} {d : Nat → ClassId}

theorem hdV_X6_dealsLess : yX6_dealsLess.cls = RX6 ∧ (yX6_dealsLess.cls ≠ "java/lang/invoke/MethodHandle" ∧ yX6_dealsLess.cls ≠ "java/lang/invoke/VarHandle" ∧ (parseMethodDescriptor yX6_dealsLess.desc).map (fun d => d.parameters.length) = some 2) := by decide +kernel
def M_X6_plans_b27 : Nat → ST → Int32 → Int32 → Int32 → Int32 → Option (ST)
  | 0, _, _, _, _, _ => none
  | n + 1, σ, x1, x2, x3, x4 =>
    (if x1 ≤ x4 then some σ else bn1 (M_X6_dealsLess σ x2 x3) (fun σ_2 => lt1 (x4 + 1) (fun x4_3 => (M_X6_plans_b27 n) σ_2 x1 x2 x3 x4_3)))
theorem w_M_X6_plans_b27 (X : FX p m c meth s args RX6 cX6_plans 5 none) (K : XK D d A s) {z : ST} : ∀ (n : Nat) (σ : ST) (x1 : Int32) (x2 : Int32) (x3 : Int32) (x4 : Int32) (ls : Array Slot) (H : Heap) (locs : List Loc), XH D A s.heap h (xct LM okM h d σ) H locs → lv_has ls 5 [(0, .ref (h 99 0 0)), (1, .int x1), (2, .int x2), (3, .int x3), (4, .int x4)] → M_X6_plans_b27 n σ x1 x2 x3 x4 = some z → W p l e (rmD 2 0 0) s m args below meth c H locs 0 0 (MQ below (Qv D (pu z) (cw h LM okM d) A) args s 0 0 A) (F0 m 27 ls []) := by
  have hx := X.1.1; have hb := X.1.2.1
  intro n
  induction n with
  | zero =>
    intro σ x1 x2 x3 x4 ls H locs O hl hf
    exact absurd hf (fun q => by cases q)
  | succ n ih =>
    intro σ x1 x2 x3 x4 ls H locs O hl hf
    rw [M_X6_plans_b27] at hf
    refine lv_iload hx hb dX6_plans_27 (lv_at hl 4 rfl) ?_
    refine lv_iload_n hx hb dX6_plans_29 rfl (lv_at hl 1 rfl) ?_
    refine lv_icmp_ge (tgt := 45) hx hb dX6_plans_30 (by decide) (fun c_1 => ?_) (fun c_1 => ?_)
    · replace hf := if_t c_1 hf
      exact x_vret X O rfl _ (Option.some.inj hf).symm rfl dX6_plans_45
    · replace hf := if_f c_1 hf
      refine lv_aload_n hx hb dX6_plans_33 rfl (lv_at hl 0 rfl) ?_
      refine lv_iload_n hx hb dX6_plans_34 rfl (lv_at hl 2 rfl) ?_
      refine lv_iload_n hx hb dX6_plans_35 rfl (lv_at hl 3 rfl) ?_
      obtain ⟨σ_2, hg, hf⟩ := bn1_s hf
      refine x_callv (x_runV (As := [.int x2, .int x3]) (rest := []) X K O (xct_obj rfl LM_99) rfl (m_M_X6_dealsLess hg) EN_b EN_h (lw_V q1547 q1549 qs87 q124 q1550) 2 rfl hl.1 (Nat.le_of_ble_eq_true rfl) hdV_X6_dealsLess ⟨by decide, by decide⟩ ⟨Nat.le_refl _, Nat.le_refl _⟩ dX6_plans_36) (fun u H locs hp O _ => ?_)
      cases hp
      have O : XH D A s.heap h (xct LM okM h d σ_2) H locs := O
      obtain ⟨x4_3, ex4_3, hf⟩ := lt1_s hf
      refine lv_iinc (v := x4_3) (lv' := [(4, .int x4_3), (0, .ref (h 99 0 0)), (1, .int x1), (2, .int x2), (3, .int x3)]) hx hb dX6_plans_39 hl (k := 4) rfl (by rw [ex4_3]; rfl) (by decide) rfl (fun ls hl => ?_)
      refine lv_goto (tgt := 27) hx hb dX6_plans_42 (by decide) ?_
      exact ih _ _ _ _ _ ls _ _ O (lv_sub hl [1, 2, 3, 4, 0] rfl) hf
def M_X6_plans_b3 : Nat → ST → Int32 → Int32 → Int32 → Int32 → Option (ST)
  | 0, _, _, _, _, _ => none
  | n + 1, σ, x1, x2, x3, x4 =>
    (if 24 < x4 then M_X6_plans_b27 FUEL σ x1 x2 x3 0 else ck (okI x4 25) (lt1 (sL σ 34 0 0 (Int32.toNatClampNeg x4) 0) (fun σ_3 => lt1 (x4 + 1) (fun x4_4 => (M_X6_plans_b3 n) σ_3 x1 x2 x3 x4_4))))
theorem w_M_X6_plans_b3 (X : FX p m c meth s args RX6 cX6_plans 5 none) (K : XK D d A s) {z : ST} : ∀ (n : Nat) (σ : ST) (x1 : Int32) (x2 : Int32) (x3 : Int32) (x4 : Int32) (ls : Array Slot) (H : Heap) (locs : List Loc), XH D A s.heap h (xct LM okM h d σ) H locs → lv_has ls 5 [(0, .ref (h 99 0 0)), (1, .int x1), (2, .int x2), (3, .int x3), (4, .int x4)] → M_X6_plans_b3 n σ x1 x2 x3 x4 = some z → W p l e (rmD 2 0 0) s m args below meth c H locs 0 0 (MQ below (Qv D (pu z) (cw h LM okM d) A) args s 0 0 A) (F0 m 3 ls []) := by
  have hx := X.1.1; have hb := X.1.2.1
  intro n
  induction n with
  | zero =>
    intro σ x1 x2 x3 x4 ls H locs O hl hf
    exact absurd hf (fun q => by cases q)
  | succ n ih =>
    intro σ x1 x2 x3 x4 ls H locs O hl hf
    rw [M_X6_plans_b3] at hf
    refine lv_iload hx hb dX6_plans_3 (lv_at hl 4 rfl) ?_
    refine lv_bipush (v := 24) hx hb dX6_plans_5 (by decide) ?_
    refine lv_icmp_gt (tgt := 24) hx hb dX6_plans_7 (by decide) (fun c_1 => ?_) (fun c_1 => ?_)
    · replace hf := if_t c_1 hf
      refine lv_iconst (v := 0) hx hb dX6_plans_24 (by decide) ?_
      refine lv_istore (lv' := [(4, .int 0), (0, .ref (h 99 0 0)), (1, .int x1), (2, .int x2), (3, .int x3)]) hx hb dX6_plans_25 hl (by decide) rfl (fun ls hl => ?_)
      exact w_M_X6_plans_b27 X K _ _ _ _ _ _ ls _ _ O (lv_sub hl [1, 2, 3, 4, 0] rfl) hf
    · replace hf := if_f c_1 hf
      refine lv_aload_n hx hb dX6_plans_10 rfl (lv_at hl 0 rfl) ?_
      refine x_gF X K O 34 rfl LM_99 rfl rfl in_X6 (by decide) q1184 dX6_plans_11 ?_
      refine lv_iload hx hb dX6_plans_14 (lv_at hl 4 rfl) ?_
      refine lv_lconst (v := 0) hx hb dX6_plans_16 (by decide) ?_
      obtain ⟨c_2, hf⟩ := ck_s hf
      obtain ⟨σ_3, eσ_3, hf⟩ := lt1_s hf
      refine x_lst X K O rfl LM_34 c_2 (j := (Int32.toNatClampNeg x4)) rfl dX6_plans_17 (fun H locs O => ?_)
      rw [← eσ_3] at O
      obtain ⟨x4_4, ex4_4, hf⟩ := lt1_s hf
      refine lv_iinc (v := x4_4) (lv' := [(4, .int x4_4), (0, .ref (h 99 0 0)), (1, .int x1), (2, .int x2), (3, .int x3)]) hx hb dX6_plans_18 hl (k := 4) rfl (by rw [ex4_4]; rfl) (by decide) rfl (fun ls hl => ?_)
      refine lv_goto (tgt := 3) hx hb dX6_plans_21 (by decide) ?_
      exact ih _ _ _ _ _ ls _ _ O (lv_sub hl [1, 2, 3, 4, 0] rfl) hf
def M_X6_plans (σ : ST) (p1 : Int32) (p2 : Int32) (p3 : Int32) : Option (ST) :=
  M_X6_plans_b3 FUEL σ p1 p2 p3 0
theorem m_M_X6_plans {l : Launch} {D : va_G} {d : Nat → ClassId} {h : IX} {p1 : Int32} {p2 : Int32} {p3 : Int32} {σ : ST} {z : ST} (hf : M_X6_plans σ p1 p2 p3 = some z) : XM l D d EN yX6_plans cX6_plans 5 none 2 0 0 [.ref (h 99 0 0), .int p1, .int p2, .int p3] h (xct LM okM h d σ) (Qv D (pu z) (cw h LM okM d)) := by
  refine XM.of (by decide +kernel) (Nat.le_of_ble_eq_true rfl) ?_
  intro p e s m below meth c A ls X _ K _ O hl
  have hl : lv_has ls 5 [(0, .ref (h 99 0 0)), (1, .int p1), (2, .int p2), (3, .int p3)] := hl
  have hx := X.1.1; have hb := X.1.2.1
  rw [M_X6_plans] at hf
  refine lv_iconst (v := 0) hx hb dX6_plans_0 (by decide) ?_
  refine lv_istore (lv' := [(4, .int 0), (0, .ref (h 99 0 0)), (1, .int p1), (2, .int p2), (3, .int p3)]) hx hb dX6_plans_1 hl (by decide) rfl (fun ls hl => ?_)
  exact w_M_X6_plans_b3 X K _ _ _ _ _ _ ls _ _ O (lv_sub hl [1, 2, 3, 4, 0] rfl) hf
def M_X6_edgeOf_b3 : Nat → ST → Int32 → Int32 → Int32 → Int32 → Option (ST × Int32)
  | 0, _, _, _, _, _ => none
  | n + 1, σ, x1, x2, x3, x4 =>
    (if 12 < x4 then some (σ, (-1)) else (if x1 < x2 then some (σ, (-1)) else bn2 (M_X6_breaking σ x1 x2 x4 x3) (fun σ_3 r_4 => bn2 (M_X6_keeping σ_3 x1 x4 x3) (fun σ_5 r_6 => (if (lg_cmp r_4 r_6) ≤ 0 then lt1 (x4 + 1) (fun x4_8 => (M_X6_edgeOf_b3 n) σ_5 x1 x2 x3 x4_8) else some (σ_5, x4))))))
theorem w_M_X6_edgeOf_b3 (X : FX p m c meth s args RX6 cX6_edgeOf 5 (some .int)) (K : XK D d A s) {z : ST × Int32} : ∀ (n : Nat) (σ : ST) (x1 : Int32) (x2 : Int32) (x3 : Int32) (x4 : Int32) (ls : Array Slot) (H : Heap) (locs : List Loc), XH D A s.heap h (xct LM okM h d σ) H locs → lv_has ls 5 [(0, .ref (h 99 0 0)), (1, .int x1), (2, .int x2), (3, .int x3), (4, .int x4)] → M_X6_edgeOf_b3 n σ x1 x2 x3 x4 = some z → W p l e (rmD 1 0 0) s m args below meth c H locs 0 0 (MQ below (Qi D (pz z) (cw h LM okM d) A) args s 0 0 A) (F0 m 3 ls []) := by
  have hx := X.1.1; have hb := X.1.2.1
  intro n
  induction n with
  | zero =>
    intro σ x1 x2 x3 x4 ls H locs O hl hf
    exact absurd hf (fun q => by cases q)
  | succ n ih =>
    intro σ x1 x2 x3 x4 ls H locs O hl hf
    rw [M_X6_edgeOf_b3] at hf
    refine lv_iload hx hb dX6_edgeOf_3 (lv_at hl 4 rfl) ?_
    refine lv_bipush (v := 12) hx hb dX6_edgeOf_5 (by decide) ?_
    refine lv_icmp_gt (tgt := 45) hx hb dX6_edgeOf_7 (by decide) (fun c_1 => ?_) (fun c_1 => ?_)
    · replace hf := if_t c_1 hf
      refine lv_iconst (v := (-1)) hx hb dX6_edgeOf_45 (by decide) ?_
      exact x_iret X O rfl _ (Option.some.inj hf).symm rfl dX6_edgeOf_46
    · replace hf := if_f c_1 hf
      refine lv_iload_n hx hb dX6_edgeOf_10 rfl (lv_at hl 1 rfl) ?_
      refine lv_iload_n hx hb dX6_edgeOf_11 rfl (lv_at hl 2 rfl) ?_
      refine lv_icmp_lt (tgt := 45) hx hb dX6_edgeOf_12 (by decide) (fun c_2 => ?_) (fun c_2 => ?_)
      · replace hf := if_t c_2 hf
        refine lv_iconst (v := (-1)) hx hb dX6_edgeOf_45 (by decide) ?_
        exact x_iret X O rfl _ (Option.some.inj hf).symm rfl dX6_edgeOf_46
      · replace hf := if_f c_2 hf
        refine lv_aload_n hx hb dX6_edgeOf_15 rfl (lv_at hl 0 rfl) ?_
        refine lv_iload_n hx hb dX6_edgeOf_16 rfl (lv_at hl 1 rfl) ?_
        refine lv_iload_n hx hb dX6_edgeOf_17 rfl (lv_at hl 2 rfl) ?_
        refine lv_iload hx hb dX6_edgeOf_18 (lv_at hl 4 rfl) ?_
        refine lv_iload_n hx hb dX6_edgeOf_20 rfl (lv_at hl 3 rfl) ?_
        obtain ⟨σ_3, r_4, hg, hf⟩ := bn2_s hf
        refine x_calll (x_runV (As := [.int x1, .int x2, .int x4, .int x3]) (rest := []) X K O (xct_obj rfl LM_99) rfl (m_M_X6_breaking hg) EN_b EN_h (lw_V q1556 q1558 qs89 q124 q1559) 4 rfl hl.1 (Nat.le_of_ble_eq_true rfl) hdV_X6_breaking ⟨by decide, by decide⟩ ⟨Nat.le_refl _, Nat.le_refl _⟩ dX6_edgeOf_21) (fun r u H locs hp O _ => ?_)
        cases hp
        have O : XH D A s.heap h (xct LM okM h d σ_3) H locs := O
        refine lv_aload_n hx hb dX6_edgeOf_24 rfl (lv_at hl 0 rfl) ?_
        refine lv_iload_n hx hb dX6_edgeOf_25 rfl (lv_at hl 1 rfl) ?_
        refine lv_iload hx hb dX6_edgeOf_26 (lv_at hl 4 rfl) ?_
        refine lv_iload_n hx hb dX6_edgeOf_28 rfl (lv_at hl 3 rfl) ?_
        obtain ⟨σ_5, r_6, hg, hf⟩ := bn2_s hf
        refine x_calll (x_runV (As := [.int x1, .int x4, .int x3]) (rest := [.long r_4]) X K O (xct_obj rfl LM_99) rfl (m_M_X6_keeping hg) EN_b EN_h (lw_V q1551 q1553 qs88 q124 q1554) 3 rfl hl.1 (Nat.le_of_ble_eq_true rfl) hdV_X6_keeping ⟨by decide, by decide⟩ ⟨Nat.le_refl _, Nat.le_refl _⟩ dX6_edgeOf_29) (fun r u H locs hp O _ => ?_)
        cases hp
        have O : XH D A s.heap h (xct LM okM h d σ_5) H locs := O
        refine W.lcmp hx hb dX6_edgeOf_32 ?_
        refine lv_if_le (tgt := 39) hx hb dX6_edgeOf_33 (by decide) (fun c_7 => ?_) (fun c_7 => ?_)
        · replace hf := if_t c_7 hf
          obtain ⟨x4_8, ex4_8, hf⟩ := lt1_s hf
          refine lv_iinc (v := x4_8) (lv' := [(4, .int x4_8), (0, .ref (h 99 0 0)), (1, .int x1), (2, .int x2), (3, .int x3)]) hx hb dX6_edgeOf_39 hl (k := 4) rfl (by rw [ex4_8]; rfl) (by decide) rfl (fun ls hl => ?_)
          refine lv_goto (tgt := 3) hx hb dX6_edgeOf_42 (by decide) ?_
          exact ih _ _ _ _ _ ls _ _ O (lv_sub hl [1, 2, 3, 4, 0] rfl) hf
        · replace hf := if_f c_7 hf
          refine lv_iload hx hb dX6_edgeOf_36 (lv_at hl 4 rfl) ?_
          exact x_iret X O rfl _ (Option.some.inj hf).symm rfl dX6_edgeOf_38
def M_X6_edgeOf (σ : ST) (p1 : Int32) (p2 : Int32) (p3 : Int32) : Option (ST × Int32) :=
  M_X6_edgeOf_b3 FUEL σ p1 p2 p3 1
theorem m_M_X6_edgeOf {l : Launch} {D : va_G} {d : Nat → ClassId} {h : IX} {p1 : Int32} {p2 : Int32} {p3 : Int32} {σ : ST} {z : ST × Int32} (hf : M_X6_edgeOf σ p1 p2 p3 = some z) : XM l D d EN yX6_edgeOf cX6_edgeOf 5 (some .int) 1 0 0 [.ref (h 99 0 0), .int p1, .int p2, .int p3] h (xct LM okM h d σ) (Qi D (pz z) (cw h LM okM d)) := by
  refine XM.of (by decide +kernel) (Nat.le_of_ble_eq_true rfl) ?_
  intro p e s m below meth c A ls X _ K _ O hl
  have hl : lv_has ls 5 [(0, .ref (h 99 0 0)), (1, .int p1), (2, .int p2), (3, .int p3)] := hl
  have hx := X.1.1; have hb := X.1.2.1
  rw [M_X6_edgeOf] at hf
  refine lv_iconst (v := 1) hx hb dX6_edgeOf_0 (by decide) ?_
  refine lv_istore (lv' := [(4, .int 1), (0, .ref (h 99 0 0)), (1, .int p1), (2, .int p2), (3, .int p3)]) hx hb dX6_edgeOf_1 hl (by decide) rfl (fun ls hl => ?_)
  exact w_M_X6_edgeOf_b3 X K _ _ _ _ _ _ ls _ _ O (lv_sub hl [1, 2, 3, 4, 0] rfl) hf
theorem hdV_X6_edgeOf : yX6_edgeOf.cls = RX6 ∧ (yX6_edgeOf.cls ≠ "java/lang/invoke/MethodHandle" ∧ yX6_edgeOf.cls ≠ "java/lang/invoke/VarHandle" ∧ (parseMethodDescriptor yX6_edgeOf.desc).map (fun d => d.parameters.length) = some 3) := by decide +kernel
theorem hdV_X6_plans : yX6_plans.cls = RX6 ∧ (yX6_plans.cls ≠ "java/lang/invoke/MethodHandle" ∧ yX6_plans.cls ≠ "java/lang/invoke/VarHandle" ∧ (parseMethodDescriptor yX6_plans.desc).map (fun d => d.parameters.length) = some 3) := by decide +kernel
def M_X6_plan_b121 (σ : ST) (x2 : Int32) (x3 : Int32) (x4 : Int32) (x5 : Int32) (s1 : Int32) : Option (ST × Int64) :=
  bn1 (M_X6_plans σ s1 x3 x4) (fun σ_1 => (if x5 = 0 then ck (okI x2 25) (some (σ_1, (gL σ_1 34 0 0 (Int32.toNatClampNeg x2)))) else (if x5 = 1 then bn2 (M_X6_edgeOf σ_1 x2 x3 x4) (fun σ_6 r_7 => some (σ_6, (r_7.toInt64))) else ck (okI (x2 + 1) 25) (ck (okI x2 25) (some (σ_1, ((gL σ_1 34 0 0 (Int32.toNatClampNeg (x2 + 1))) - (gL σ_1 34 0 0 (Int32.toNatClampNeg x2)))))))))
theorem w_M_X6_plan_b121 (X : FX p m c meth s args RX6 cX6_plan 7 (some .long)) (K : XK D d A s) {z : ST × Int64} (σ : ST) (x2 : Int32) (x3 : Int32) (x4 : Int32) (x5 : Int32) (s1 : Int32) (ls : Array Slot) (H : Heap) (locs : List Loc) (O : XH D A s.heap h (xct LM okM h d σ) H locs) (hl : lv_has ls 7 [(0, .ref (h 99 0 0)), (2, .int x2), (3, .int x3), (4, .int x4), (5, .int x5)]) (hf : M_X6_plan_b121 σ x2 x3 x4 x5 s1 = some z) : W p l e (rmD 3 0 0) s m args below meth c H locs 0 0 (MQ below (Ql D (pz z) (cw h LM okM d) A) args s 0 0 A) (F0 m 121 ls [.int s1, .ref (h 99 0 0)]) := by
  have hx := X.1.1; have hb := X.1.2.1
  rw [M_X6_plan_b121] at hf
  refine lv_iload_n hx hb dX6_plan_121 rfl (lv_at hl 2 rfl) ?_
  refine lv_iload hx hb dX6_plan_122 (lv_at hl 3 rfl) ?_
  obtain ⟨σ_1, hg, hf⟩ := bn1_s hf
  refine x_callv (x_runV (As := [.int s1, .int x3, .int x4]) (rest := []) X K O (xct_obj rfl LM_99) rfl (m_M_X6_plans hg) EN_b EN_h (lw_V q1543 q1545 qs86 q124 q1546) 3 rfl hl.1 (Nat.le_of_ble_eq_true rfl) hdV_X6_plans ⟨by decide, by decide⟩ ⟨Nat.le_refl _, Nat.le_refl _⟩ dX6_plan_124) (fun u H locs hp O _ => ?_)
  cases hp
  have O : XH D A s.heap h (xct LM okM h d σ_1) H locs := O
  refine lv_iload hx hb dX6_plan_127 (lv_at hl 4 rfl) ?_
  refine lv_if_ne (tgt := 141) hx hb dX6_plan_129 (by decide) (fun c_2 => ?_) (fun c_2 => ?_)
  · replace hf := if_f c_2 hf
    refine lv_iload hx hb dX6_plan_141 (lv_at hl 4 rfl) ?_
    refine lv_iconst (v := 1) hx hb dX6_plan_143 (by decide) ?_
    refine lv_icmp_ne (tgt := 159) hx hb dX6_plan_144 (by decide) (fun c_3 => ?_) (fun c_3 => ?_)
    · replace hf := if_f c_3 hf
      refine lv_aload_n hx hb dX6_plan_159 rfl (lv_at hl 0 rfl) ?_
      refine x_gF X K O 34 rfl LM_99 rfl rfl in_X6 (by decide) q1184 dX6_plan_160 ?_
      refine lv_iload_n hx hb dX6_plan_163 rfl (lv_at hl 1 rfl) ?_
      refine lv_iconst (v := 1) hx hb dX6_plan_164 (by decide) ?_
      refine lv_iadd hx hb dX6_plan_165 ?_
      obtain ⟨c_4, hf⟩ := ck_s hf
      refine x_lld X K O rfl LM_34 c_4 (j := (Int32.toNatClampNeg (x2 + 1))) rfl dX6_plan_166 ?_
      refine lv_aload_n hx hb dX6_plan_167 rfl (lv_at hl 0 rfl) ?_
      refine x_gF X K O 34 rfl LM_99 rfl rfl in_X6 (by decide) q1184 dX6_plan_168 ?_
      refine lv_iload_n hx hb dX6_plan_171 rfl (lv_at hl 1 rfl) ?_
      obtain ⟨c_5, hf⟩ := ck_s hf
      refine x_lld X K O rfl LM_34 c_5 (j := (Int32.toNatClampNeg x2)) rfl dX6_plan_172 ?_
      refine lv_lsub hx hb dX6_plan_173 ?_
      exact x_lret X O rfl _ (Option.some.inj hf).symm rfl dX6_plan_174
    · replace hf := if_t c_3 hf
      refine lv_aload_n hx hb dX6_plan_147 rfl (lv_at hl 0 rfl) ?_
      refine lv_iload_n hx hb dX6_plan_148 rfl (lv_at hl 1 rfl) ?_
      refine lv_iload_n hx hb dX6_plan_149 rfl (lv_at hl 2 rfl) ?_
      refine lv_iload hx hb dX6_plan_150 (lv_at hl 3 rfl) ?_
      obtain ⟨σ_6, r_7, hg, hf⟩ := bn2_s hf
      refine x_calli (x_runV (As := [.int x2, .int x3, .int x4]) (rest := []) X K O (xct_obj rfl LM_99) rfl (m_M_X6_edgeOf hg) EN_b EN_h (lw_V q1560 q1562 qs90 q124 q1563) 3 rfl hl.1 (Nat.le_of_ble_eq_true rfl) hdV_X6_edgeOf ⟨by decide, by decide⟩ ⟨Nat.le_refl _, Nat.le_refl _⟩ dX6_plan_152) (fun r u H locs hp O _ => ?_)
      cases hp
      have O : XH D A s.heap h (xct LM okM h d σ_6) H locs := O
      refine lv_i2l (v := (r_7.toInt64)) hx hb dX6_plan_155 rfl ?_
      refine lv_goto (tgt := 174) hx hb dX6_plan_156 (by decide) ?_
      exact x_lret X O rfl _ (Option.some.inj hf).symm rfl dX6_plan_174
  · replace hf := if_t c_2 hf
    refine lv_aload_n hx hb dX6_plan_132 rfl (lv_at hl 0 rfl) ?_
    refine x_gF X K O 34 rfl LM_99 rfl rfl in_X6 (by decide) q1184 dX6_plan_133 ?_
    refine lv_iload_n hx hb dX6_plan_136 rfl (lv_at hl 1 rfl) ?_
    obtain ⟨c_8, hf⟩ := ck_s hf
    refine x_lld X K O rfl LM_34 c_8 (j := (Int32.toNatClampNeg x2)) rfl dX6_plan_137 ?_
    refine lv_goto (tgt := 174) hx hb dX6_plan_138 (by decide) ?_
    exact x_lret X O rfl _ (Option.some.inj hf).symm rfl dX6_plan_174
def M_X6_plan_b107 (σ : ST) (x1 : Int32) (x2 : Int32) (x3 : Int32) (x4 : Int32) (x5 : Int32) : Option (ST × Int64) :=
  (if x5 = 1 then M_X6_plan_b121 σ x2 x3 x4 x5 (x1 - 1) else M_X6_plan_b121 σ x2 x3 x4 x5 x1)
theorem w_M_X6_plan_b107 (X : FX p m c meth s args RX6 cX6_plan 7 (some .long)) (K : XK D d A s) {z : ST × Int64} (σ : ST) (x1 : Int32) (x2 : Int32) (x3 : Int32) (x4 : Int32) (x5 : Int32) (ls : Array Slot) (H : Heap) (locs : List Loc) (O : XH D A s.heap h (xct LM okM h d σ) H locs) (hl : lv_has ls 7 [(0, .ref (h 99 0 0)), (1, .int x1), (2, .int x2), (3, .int x3), (4, .int x4), (5, .int x5)]) (hf : M_X6_plan_b107 σ x1 x2 x3 x4 x5 = some z) : W p l e (rmD 3 0 0) s m args below meth c H locs 0 0 (MQ below (Ql D (pz z) (cw h LM okM d) A) args s 0 0 A) (F0 m 107 ls []) := by
  have hx := X.1.1; have hb := X.1.2.1
  rw [M_X6_plan_b107] at hf
  refine lv_aload_n hx hb dX6_plan_107 rfl (lv_at hl 0 rfl) ?_
  refine lv_iload hx hb dX6_plan_108 (lv_at hl 5 rfl) ?_
  refine lv_iconst (v := 1) hx hb dX6_plan_110 (by decide) ?_
  refine lv_icmp_ne (tgt := 120) hx hb dX6_plan_111 (by decide) (fun c_1 => ?_) (fun c_1 => ?_)
  · replace hf := if_f c_1 hf
    refine lv_iload_n hx hb dX6_plan_120 rfl (lv_at hl 1 rfl) ?_
    exact w_M_X6_plan_b121 X K _ _ _ _ _ _ ls _ _ O (lv_sub hl [0, 2, 3, 4, 5] rfl) hf
  · replace hf := if_t c_1 hf
    refine lv_iload_n hx hb dX6_plan_114 rfl (lv_at hl 1 rfl) ?_
    refine lv_iconst (v := 1) hx hb dX6_plan_115 (by decide) ?_
    refine lv_isub hx hb dX6_plan_116 ?_
    refine lv_goto (tgt := 121) hx hb dX6_plan_117 (by decide) ?_
    exact w_M_X6_plan_b121 X K _ _ _ _ _ _ ls _ _ O (lv_sub hl [0, 2, 3, 4, 5] rfl) hf
def M_X6_plan_b84 (σ : ST) (x1 : Int32) (x2 : Int32) (x3 : Int32) (x4 : Int32) (x5 : Int32) (s0 : Int32) : Option (ST × Int64) :=
  (if s0 = 0 then some (σ, (-1000000000)) else (if x5 = 2 then (if x2 = 24 then some (σ, (-1000000000)) else M_X6_plan_b107 σ x1 x2 x3 x4 x5) else M_X6_plan_b107 σ x1 x2 x3 x4 x5))
theorem w_M_X6_plan_b84 (X : FX p m c meth s args RX6 cX6_plan 7 (some .long)) (K : XK D d A s) {z : ST × Int64} (σ : ST) (x1 : Int32) (x2 : Int32) (x3 : Int32) (x4 : Int32) (x5 : Int32) (s0 : Int32) (ls : Array Slot) (H : Heap) (locs : List Loc) (O : XH D A s.heap h (xct LM okM h d σ) H locs) (hl : lv_has ls 7 [(0, .ref (h 99 0 0)), (1, .int x1), (2, .int x2), (3, .int x3), (4, .int x4), (5, .int x5)]) (hf : M_X6_plan_b84 σ x1 x2 x3 x4 x5 s0 = some z) : W p l e (rmD 3 0 0) s m args below meth c H locs 0 0 (MQ below (Ql D (pz z) (cw h LM okM d) A) args s 0 0 A) (F0 m 84 ls [.int s0]) := by
  have hx := X.1.1; have hb := X.1.2.1
  rw [M_X6_plan_b84] at hf
  refine lv_istore (lv' := [(6, .int s0), (0, .ref (h 99 0 0)), (1, .int x1), (2, .int x2), (3, .int x3), (4, .int x4), (5, .int x5)]) hx hb dX6_plan_84 hl (by decide) rfl (fun ls hl => ?_)
  refine lv_iload hx hb dX6_plan_86 (lv_at hl 0 rfl) ?_
  refine lv_if_eq (tgt := 103) hx hb dX6_plan_88 (by decide) (fun c_1 => ?_) (fun c_1 => ?_)
  · replace hf := if_t c_1 hf
    refine lv_ldc2 (v := (-1000000000)) hx hb X.1.2.2.2.1 (X.1.2.2.2.2 _ q1542) dX6_plan_103 ?_
    exact x_lret X O rfl _ (Option.some.inj hf).symm rfl dX6_plan_106
  · replace hf := if_f c_1 hf
    refine lv_iload hx hb dX6_plan_91 (lv_at hl 6 rfl) ?_
    refine lv_iconst (v := 2) hx hb dX6_plan_93 (by decide) ?_
    refine lv_icmp_ne (tgt := 107) hx hb dX6_plan_94 (by decide) (fun c_2 => ?_) (fun c_2 => ?_)
    · replace hf := if_f c_2 hf
      exact w_M_X6_plan_b107 X K _ _ _ _ _ _ ls _ _ O (lv_sub hl [1, 2, 3, 4, 5, 6] rfl) hf
    · replace hf := if_t c_2 hf
      refine lv_iload_n hx hb dX6_plan_97 rfl (lv_at hl 3 rfl) ?_
      refine lv_bipush (v := 24) hx hb dX6_plan_98 (by decide) ?_
      refine lv_icmp_ne (tgt := 107) hx hb dX6_plan_100 (by decide) (fun c_3 => ?_) (fun c_3 => ?_)
      · replace hf := if_f c_3 hf
        exact w_M_X6_plan_b107 X K _ _ _ _ _ _ ls _ _ O (lv_sub hl [1, 2, 3, 4, 5, 6] rfl) hf
      · replace hf := if_t c_3 hf
        refine lv_ldc2 (v := (-1000000000)) hx hb X.1.2.2.2.1 (X.1.2.2.2.2 _ q1542) dX6_plan_103 ?_
        exact x_lret X O rfl _ (Option.some.inj hf).symm rfl dX6_plan_106
def M_X6_plan_b83 (σ : ST) (x1 : Int32) (x2 : Int32) (x3 : Int32) (x4 : Int32) (x5 : Int32) : Option (ST × Int64) :=
  M_X6_plan_b84 σ x1 x2 x3 x4 x5 0
theorem w_M_X6_plan_b83 (X : FX p m c meth s args RX6 cX6_plan 7 (some .long)) (K : XK D d A s) {z : ST × Int64} (σ : ST) (x1 : Int32) (x2 : Int32) (x3 : Int32) (x4 : Int32) (x5 : Int32) (ls : Array Slot) (H : Heap) (locs : List Loc) (O : XH D A s.heap h (xct LM okM h d σ) H locs) (hl : lv_has ls 7 [(0, .ref (h 99 0 0)), (1, .int x1), (2, .int x2), (3, .int x3), (4, .int x4), (5, .int x5)]) (hf : M_X6_plan_b83 σ x1 x2 x3 x4 x5 = some z) : W p l e (rmD 3 0 0) s m args below meth c H locs 0 0 (MQ below (Ql D (pz z) (cw h LM okM d) A) args s 0 0 A) (F0 m 83 ls []) := by
  have hx := X.1.1; have hb := X.1.2.1
  rw [M_X6_plan_b83] at hf
  refine lv_iconst (v := 0) hx hb dX6_plan_83 (by decide) ?_
  exact w_M_X6_plan_b84 X K _ _ _ _ _ _ _ ls _ _ O (lv_sub hl [0, 1, 2, 3, 4, 5] rfl) hf
def M_X6_plan_b18 (σ : ST) (x1 : Int32) (x2 : Int32) (x3 : Int32) (x4 : Int32) (x5 : Int32) (s1 : Int32) (s2 : Int32) : Option (ST × Int64) :=
  bn2 (M_X6_isIn σ s1 s2 60) (fun σ_1 r_2 => (if r_2 = 0 then M_X6_plan_b83 σ_1 x1 x2 x3 x4 x5 else bn2 (M_X6_isIn σ_1 x2 0 24) (fun σ_4 r_5 => (if r_5 = 0 then M_X6_plan_b83 σ_4 x1 x2 x3 x4 x5 else bn2 (M_X6_isIn σ_4 x3 1 9) (fun σ_7 r_8 => (if r_8 = 0 then M_X6_plan_b83 σ_7 x1 x2 x3 x4 x5 else bn2 (M_X6_isIn σ_7 x4 0 1000) (fun σ_10 r_11 => (if r_11 = 0 then M_X6_plan_b83 σ_10 x1 x2 x3 x4 x5 else bn2 (M_X6_isIn σ_10 x5 0 2) (fun σ_13 r_14 => (if r_14 = 0 then M_X6_plan_b83 σ_13 x1 x2 x3 x4 x5 else bn2 (M_X6_weights σ_13) (fun σ_16 r_17 => (if r_17 ≤ 0 then M_X6_plan_b83 σ_16 x1 x2 x3 x4 x5 else M_X6_plan_b84 σ_16 x1 x2 x3 x4 x5 1))))))))))))
theorem w_M_X6_plan_b18 (X : FX p m c meth s args RX6 cX6_plan 7 (some .long)) (K : XK D d A s) {z : ST × Int64} (σ : ST) (x1 : Int32) (x2 : Int32) (x3 : Int32) (x4 : Int32) (x5 : Int32) (s1 : Int32) (s2 : Int32) (ls : Array Slot) (H : Heap) (locs : List Loc) (O : XH D A s.heap h (xct LM okM h d σ) H locs) (hl : lv_has ls 7 [(0, .ref (h 99 0 0)), (1, .int x1), (2, .int x2), (3, .int x3), (4, .int x4), (5, .int x5)]) (hf : M_X6_plan_b18 σ x1 x2 x3 x4 x5 s1 s2 = some z) : W p l e (rmD 3 0 0) s m args below meth c H locs 0 0 (MQ below (Ql D (pz z) (cw h LM okM d) A) args s 0 0 A) (F0 m 18 ls [.int s2, .int s1, .ref (h 99 0 0)]) := by
  have hx := X.1.1; have hb := X.1.2.1
  rw [M_X6_plan_b18] at hf
  refine lv_bipush (v := 60) hx hb dX6_plan_18 (by decide) ?_
  obtain ⟨σ_1, r_2, hg, hf⟩ := bn2_s hf
  refine x_calli (x_runV (As := [.int s1, .int s2, .int 60]) (rest := []) X K O (xct_obj rfl LM_99) rfl (m_M_X6_isIn hg) EN_b EN_h (lw_V q1327 q1329 qs45 q124 q1330) 3 rfl hl.1 (Nat.le_of_ble_eq_true rfl) hdV_X6_isIn ⟨by decide, by decide⟩ ⟨Nat.le_refl _, Nat.le_refl _⟩ dX6_plan_20) (fun r u H locs hp O _ => ?_)
  cases hp
  have O : XH D A s.heap h (xct LM okM h d σ_1) H locs := O
  refine lv_if_eq (tgt := 83) hx hb dX6_plan_23 (by decide) (fun c_3 => ?_) (fun c_3 => ?_)
  · replace hf := if_t c_3 hf
    exact w_M_X6_plan_b83 X K _ _ _ _ _ _ ls _ _ O (lv_sub hl [0, 1, 2, 3, 4, 5] rfl) hf
  · replace hf := if_f c_3 hf
    refine lv_aload_n hx hb dX6_plan_26 rfl (lv_at hl 0 rfl) ?_
    refine lv_iload_n hx hb dX6_plan_27 rfl (lv_at hl 2 rfl) ?_
    refine lv_iconst (v := 0) hx hb dX6_plan_28 (by decide) ?_
    refine lv_bipush (v := 24) hx hb dX6_plan_29 (by decide) ?_
    obtain ⟨σ_4, r_5, hg, hf⟩ := bn2_s hf
    refine x_calli (x_runV (As := [.int x2, .int 0, .int 24]) (rest := []) X K O (xct_obj rfl LM_99) rfl (m_M_X6_isIn hg) EN_b EN_h (lw_V q1327 q1329 qs45 q124 q1330) 3 rfl hl.1 (Nat.le_of_ble_eq_true rfl) hdV_X6_isIn ⟨by decide, by decide⟩ ⟨Nat.le_refl _, Nat.le_refl _⟩ dX6_plan_31) (fun r u H locs hp O _ => ?_)
    cases hp
    have O : XH D A s.heap h (xct LM okM h d σ_4) H locs := O
    refine lv_if_eq (tgt := 83) hx hb dX6_plan_34 (by decide) (fun c_6 => ?_) (fun c_6 => ?_)
    · replace hf := if_t c_6 hf
      exact w_M_X6_plan_b83 X K _ _ _ _ _ _ ls _ _ O (lv_sub hl [0, 1, 2, 3, 4, 5] rfl) hf
    · replace hf := if_f c_6 hf
      refine lv_aload_n hx hb dX6_plan_37 rfl (lv_at hl 0 rfl) ?_
      refine lv_iload_n hx hb dX6_plan_38 rfl (lv_at hl 3 rfl) ?_
      refine lv_iconst (v := 1) hx hb dX6_plan_39 (by decide) ?_
      refine lv_bipush (v := 9) hx hb dX6_plan_40 (by decide) ?_
      obtain ⟨σ_7, r_8, hg, hf⟩ := bn2_s hf
      refine x_calli (x_runV (As := [.int x3, .int 1, .int 9]) (rest := []) X K O (xct_obj rfl LM_99) rfl (m_M_X6_isIn hg) EN_b EN_h (lw_V q1327 q1329 qs45 q124 q1330) 3 rfl hl.1 (Nat.le_of_ble_eq_true rfl) hdV_X6_isIn ⟨by decide, by decide⟩ ⟨Nat.le_refl _, Nat.le_refl _⟩ dX6_plan_42) (fun r u H locs hp O _ => ?_)
      cases hp
      have O : XH D A s.heap h (xct LM okM h d σ_7) H locs := O
      refine lv_if_eq (tgt := 83) hx hb dX6_plan_45 (by decide) (fun c_9 => ?_) (fun c_9 => ?_)
      · replace hf := if_t c_9 hf
        exact w_M_X6_plan_b83 X K _ _ _ _ _ _ ls _ _ O (lv_sub hl [0, 1, 2, 3, 4, 5] rfl) hf
      · replace hf := if_f c_9 hf
        refine lv_aload_n hx hb dX6_plan_48 rfl (lv_at hl 0 rfl) ?_
        refine lv_iload hx hb dX6_plan_49 (lv_at hl 4 rfl) ?_
        refine lv_iconst (v := 0) hx hb dX6_plan_51 (by decide) ?_
        refine lv_sipush (v := 1000) hx hb dX6_plan_52 (by decide) ?_
        obtain ⟨σ_10, r_11, hg, hf⟩ := bn2_s hf
        refine x_calli (x_runV (As := [.int x4, .int 0, .int 1000]) (rest := []) X K O (xct_obj rfl LM_99) rfl (m_M_X6_isIn hg) EN_b EN_h (lw_V q1327 q1329 qs45 q124 q1330) 3 rfl hl.1 (Nat.le_of_ble_eq_true rfl) hdV_X6_isIn ⟨by decide, by decide⟩ ⟨Nat.le_refl _, Nat.le_refl _⟩ dX6_plan_55) (fun r u H locs hp O _ => ?_)
        cases hp
        have O : XH D A s.heap h (xct LM okM h d σ_10) H locs := O
        refine lv_if_eq (tgt := 83) hx hb dX6_plan_58 (by decide) (fun c_12 => ?_) (fun c_12 => ?_)
        · replace hf := if_t c_12 hf
          exact w_M_X6_plan_b83 X K _ _ _ _ _ _ ls _ _ O (lv_sub hl [0, 1, 2, 3, 4, 5] rfl) hf
        · replace hf := if_f c_12 hf
          refine lv_aload_n hx hb dX6_plan_61 rfl (lv_at hl 0 rfl) ?_
          refine lv_iload hx hb dX6_plan_62 (lv_at hl 5 rfl) ?_
          refine lv_iconst (v := 0) hx hb dX6_plan_64 (by decide) ?_
          refine lv_iconst (v := 2) hx hb dX6_plan_65 (by decide) ?_
          obtain ⟨σ_13, r_14, hg, hf⟩ := bn2_s hf
          refine x_calli (x_runV (As := [.int x5, .int 0, .int 2]) (rest := []) X K O (xct_obj rfl LM_99) rfl (m_M_X6_isIn hg) EN_b EN_h (lw_V q1327 q1329 qs45 q124 q1330) 3 rfl hl.1 (Nat.le_of_ble_eq_true rfl) hdV_X6_isIn ⟨by decide, by decide⟩ ⟨Nat.le_refl _, Nat.le_refl _⟩ dX6_plan_66) (fun r u H locs hp O _ => ?_)
          cases hp
          have O : XH D A s.heap h (xct LM okM h d σ_13) H locs := O
          refine lv_if_eq (tgt := 83) hx hb dX6_plan_69 (by decide) (fun c_15 => ?_) (fun c_15 => ?_)
          · replace hf := if_t c_15 hf
            exact w_M_X6_plan_b83 X K _ _ _ _ _ _ ls _ _ O (lv_sub hl [0, 1, 2, 3, 4, 5] rfl) hf
          · replace hf := if_f c_15 hf
            refine lv_aload_n hx hb dX6_plan_72 rfl (lv_at hl 0 rfl) ?_
            obtain ⟨σ_16, r_17, hg, hf⟩ := bn2_s hf
            refine x_calli (x_runV (As := []) (rest := []) X K O (xct_obj rfl LM_99) rfl (m_M_X6_weights hg) EN_b EN_h (lw_V q1530 q1532 qs84 q124 q1533) 0 rfl hl.1 (Nat.le_of_ble_eq_true rfl) hdV_X6_weights ⟨by decide, by decide⟩ ⟨Nat.le_refl _, Nat.le_refl _⟩ dX6_plan_73) (fun r u H locs hp O _ => ?_)
            cases hp
            have O : XH D A s.heap h (xct LM okM h d σ_16) H locs := O
            refine lv_if_le (tgt := 83) hx hb dX6_plan_76 (by decide) (fun c_18 => ?_) (fun c_18 => ?_)
            · replace hf := if_t c_18 hf
              exact w_M_X6_plan_b83 X K _ _ _ _ _ _ ls _ _ O (lv_sub hl [0, 1, 2, 3, 4, 5] rfl) hf
            · replace hf := if_f c_18 hf
              refine lv_iconst (v := 1) hx hb dX6_plan_79 (by decide) ?_
              refine lv_goto (tgt := 84) hx hb dX6_plan_80 (by decide) ?_
              exact w_M_X6_plan_b84 X K _ _ _ _ _ _ _ ls _ _ O (lv_sub hl [0, 1, 2, 3, 4, 5] rfl) hf
def M_X6_plan (σ : ST) (p1 : Int32) (p2 : Int32) (p3 : Int32) (p4 : Int32) (p5 : Int32) : Option (ST × Int64) :=
  lt1 (sI σ 99 0 0 0 0) (fun σ_1 => (if p5 = 1 then M_X6_plan_b18 σ_1 p1 p2 p3 p4 p5 p1 1 else M_X6_plan_b18 σ_1 p1 p2 p3 p4 p5 p1 0))
theorem m_M_X6_plan {l : Launch} {D : va_G} {d : Nat → ClassId} {h : IX} {p1 : Int32} {p2 : Int32} {p3 : Int32} {p4 : Int32} {p5 : Int32} {σ : ST} {z : ST × Int64} (hf : M_X6_plan σ p1 p2 p3 p4 p5 = some z) : XM l D d EN yX6_plan cX6_plan 7 (some .long) 3 0 0 [.ref (h 99 0 0), .int p1, .int p2, .int p3, .int p4, .int p5] h (xct LM okM h d σ) (Ql D (pz z) (cw h LM okM d)) := by
  refine XM.of (by decide +kernel) (Nat.le_of_ble_eq_true rfl) ?_
  intro p e s m below meth c A ls X _ K _ O hl
  have hl : lv_has ls 7 [(0, .ref (h 99 0 0)), (1, .int p1), (2, .int p2), (3, .int p3), (4, .int p4), (5, .int p5)] := hl
  have hx := X.1.1; have hb := X.1.2.1
  rw [M_X6_plan] at hf
  refine lv_aload_n hx hb dX6_plan_0 rfl (lv_at hl 0 rfl) ?_
  refine lv_iconst (v := 0) hx hb dX6_plan_1 (by decide) ?_
  obtain ⟨σ_1, eσ_1, hf⟩ := lt1_s hf
  refine x_pI X K O 0 rfl LM_99 rfl rfl in_X6 tyX6_ok nmX6 (by decide) q1150 rfl rfl rfl dX6_plan_2 (fun H locs O => ?_)
  rw [← eσ_1] at O
  refine lv_aload_n hx hb dX6_plan_5 rfl (lv_at hl 0 rfl) ?_
  refine lv_iload_n hx hb dX6_plan_6 rfl (lv_at hl 1 rfl) ?_
  refine lv_iload hx hb dX6_plan_7 (lv_at hl 5 rfl) ?_
  refine lv_iconst (v := 1) hx hb dX6_plan_9 (by decide) ?_
  refine lv_icmp_ne (tgt := 17) hx hb dX6_plan_10 (by decide) (fun c_2 => ?_) (fun c_2 => ?_)
  · replace hf := if_f c_2 hf
    refine lv_iconst (v := 0) hx hb dX6_plan_17 (by decide) ?_
    exact w_M_X6_plan_b18 X K _ _ _ _ _ _ _ _ ls _ _ O (lv_sub hl [0, 1, 2, 3, 4, 5] rfl) hf
  · replace hf := if_t c_2 hf
    refine lv_iconst (v := 1) hx hb dX6_plan_13 (by decide) ?_
    refine lv_goto (tgt := 18) hx hb dX6_plan_14 (by decide) ?_
    exact w_M_X6_plan_b18 X K _ _ _ _ _ _ _ _ ls _ _ O (lv_sub hl [0, 1, 2, 3, 4, 5] rfl) hf
def M_X6_greatestSize_b3 : Nat → ST → Int32 → Option (ST × Int32)
  | 0, _, _ => none
  | n + 1, σ, x1 =>
    ck (okI (10 + x1) 23) ((if (gI σ 6 0 0 (Int32.toNatClampNeg (10 + x1))) = 0 then lt1 (x1 - 1) (fun x1_3 => (M_X6_greatestSize_b3 n) σ x1_3) else some (σ, x1)))
theorem w_M_X6_greatestSize_b3 (X : FX p m c meth s args RX6 cX6_greatestSize 2 (some .int)) (K : XK D d A s) {z : ST × Int32} : ∀ (n : Nat) (σ : ST) (x1 : Int32) (ls : Array Slot) (H : Heap) (locs : List Loc), XH D A s.heap h (xct LM okM h d σ) H locs → lv_has ls 2 [(0, .ref (h 99 0 0)), (1, .int x1)] → M_X6_greatestSize_b3 n σ x1 = some z → W p l e (rmD 0 0 0) s m args below meth c H locs 0 0 (MQ below (Qi D (pz z) (cw h LM okM d) A) args s 0 0 A) (F0 m 3 ls []) := by
  have hx := X.1.1; have hb := X.1.2.1
  intro n
  induction n with
  | zero =>
    intro σ x1 ls H locs O hl hf
    exact absurd hf (fun q => by cases q)
  | succ n ih =>
    intro σ x1 ls H locs O hl hf
    rw [M_X6_greatestSize_b3] at hf
    refine lv_aload_n hx hb dX6_greatestSize_3 rfl (lv_at hl 0 rfl) ?_
    refine x_gF X K O 6 rfl LM_99 rfl rfl in_X6 (by decide) q1156 dX6_greatestSize_4 ?_
    refine lv_bipush (v := 10) hx hb dX6_greatestSize_7 (by decide) ?_
    refine lv_iload_n hx hb dX6_greatestSize_9 rfl (lv_at hl 1 rfl) ?_
    refine lv_iadd hx hb dX6_greatestSize_10 ?_
    obtain ⟨c_1, hf⟩ := ck_s hf
    refine x_ild X K O rfl LM_6 c_1 (j := (Int32.toNatClampNeg (10 + x1))) rfl dX6_greatestSize_11 ?_
    refine lv_if_ne (tgt := 22) hx hb dX6_greatestSize_12 (by decide) (fun c_2 => ?_) (fun c_2 => ?_)
    · replace hf := if_f c_2 hf
      refine lv_iload_n hx hb dX6_greatestSize_22 rfl (lv_at hl 1 rfl) ?_
      exact x_iret X O rfl _ (Option.some.inj hf).symm rfl dX6_greatestSize_23
    · replace hf := if_t c_2 hf
      refine lv_iload_n hx hb dX6_greatestSize_15 rfl (lv_at hl 1 rfl) ?_
      refine lv_iconst (v := 1) hx hb dX6_greatestSize_16 (by decide) ?_
      refine lv_isub hx hb dX6_greatestSize_17 ?_
      obtain ⟨x1_3, ex1_3, hf⟩ := lt1_s hf
      refine x_top (w := .int x1_3) (by rw [ex1_3]) ?_
      refine lv_istore_n (lv' := [(1, .int x1_3), (0, .ref (h 99 0 0))]) hx hb dX6_greatestSize_18 rfl hl (by decide) rfl (fun ls hl => ?_)
      refine lv_goto (tgt := 3) hx hb dX6_greatestSize_19 (by decide) ?_
      exact ih _ _ ls _ _ O (lv_sub hl [1, 0] rfl) hf
def M_X6_greatestSize (σ : ST) : Option (ST × Int32) :=
  M_X6_greatestSize_b3 FUEL σ 12
theorem m_M_X6_greatestSize {l : Launch} {D : va_G} {d : Nat → ClassId} {h : IX} {σ : ST} {z : ST × Int32} (hf : M_X6_greatestSize σ = some z) : XM l D d EN yX6_greatestSize cX6_greatestSize 2 (some .int) 0 0 0 [.ref (h 99 0 0)] h (xct LM okM h d σ) (Qi D (pz z) (cw h LM okM d)) := by
  refine XM.of (by decide +kernel) (Nat.le_of_ble_eq_true rfl) ?_
  intro p e s m below meth c A ls X _ K _ O hl
  have hl : lv_has ls 2 [(0, .ref (h 99 0 0))] := hl
  have hx := X.1.1; have hb := X.1.2.1
  rw [M_X6_greatestSize] at hf
  refine lv_bipush (v := 12) hx hb dX6_greatestSize_0 (by decide) ?_
  refine lv_istore_n (lv' := [(1, .int 12), (0, .ref (h 99 0 0))]) hx hb dX6_greatestSize_2 rfl hl (by decide) rfl (fun ls hl => ?_)
  exact w_M_X6_greatestSize_b3 X K _ _ _ ls _ _ O (lv_sub hl [1, 0] rfl) hf
def M_X6_goesOn_b151 (σ : ST) (x2 : Int32) (s1 : Int64) (s2 : Int64) (s3 : Int32) : Option (ST) :=
  lt1 (sL σ 99 0 0 40 (s1 + ((s2 * (s3.toInt64)) * (x2.toInt64)))) (fun σ_1 => some σ_1)
theorem w_M_X6_goesOn_b151 (X : FX p m c meth s args RX6 cX6_goesOn 9 none) (K : XK D d A s) {z : ST} (σ : ST) (x2 : Int32) (s1 : Int64) (s2 : Int64) (s3 : Int32) (ls : Array Slot) (H : Heap) (locs : List Loc) (O : XH D A s.heap h (xct LM okM h d σ) H locs) (hl : lv_has ls 9 [(2, .int x2)]) (hf : M_X6_goesOn_b151 σ x2 s1 s2 s3 = some z) : W p l e (rmD 0 0 0) s m args below meth c H locs 0 0 (MQ below (Qv D (pu z) (cw h LM okM d) A) args s 0 0 A) (F0 m 151 ls [.int s3, .long s2, .long s1, .ref (h 99 0 0)]) := by
  have hx := X.1.1; have hb := X.1.2.1
  rw [M_X6_goesOn_b151] at hf
  refine lv_i2l (v := (s3.toInt64)) hx hb dX6_goesOn_151 rfl ?_
  refine lv_lmul hx hb dX6_goesOn_152 ?_
  refine lv_iload_n hx hb dX6_goesOn_153 rfl (lv_at hl 0 rfl) ?_
  refine lv_i2l (v := (x2.toInt64)) hx hb dX6_goesOn_154 rfl ?_
  refine lv_lmul hx hb dX6_goesOn_155 ?_
  refine lv_ladd hx hb dX6_goesOn_156 ?_
  obtain ⟨σ_1, eσ_1, hf⟩ := lt1_s hf
  refine x_pL X K O 40 rfl LM_99 rfl rfl in_X6 tyX6_ok nmX6 (by decide) q1190 rfl rfl rfl dX6_goesOn_157 (fun H locs O => ?_)
  rw [← eσ_1] at O
  exact x_vret X O rfl _ (Option.some.inj hf).symm rfl dX6_goesOn_160
def M_X6_goesOn_b106 (σ : ST) (x2 : Int32) (x5 : Int64) (x7 : Int32) (s1 : Int64) (s2 : Int64) (s3 : Int32) : Option (ST) :=
  lt1 (sL σ 99 0 0 39 (s1 + ((s2 * (s3.toInt64)) * (x2.toInt64)))) (fun σ_1 => (if x7 = 0 then M_X6_goesOn_b151 σ_1 x2 (gL σ_1 99 0 0 40) x5 (2 * (gI σ_1 6 0 0 0)) else M_X6_goesOn_b151 σ_1 x2 (gL σ_1 99 0 0 40) x5 ((gI σ_1 6 0 0 1) - (gI σ_1 6 0 0 2))))
theorem w_M_X6_goesOn_b106 (X : FX p m c meth s args RX6 cX6_goesOn 9 none) (K : XK D d A s) {z : ST} (σ : ST) (x2 : Int32) (x5 : Int64) (x7 : Int32) (s1 : Int64) (s2 : Int64) (s3 : Int32) (ls : Array Slot) (H : Heap) (locs : List Loc) (O : XH D A s.heap h (xct LM okM h d σ) H locs) (hl : lv_has ls 9 [(0, .ref (h 99 0 0)), (2, .int x2), (5, .long x5), (7, .int x7)]) (hf : M_X6_goesOn_b106 σ x2 x5 x7 s1 s2 s3 = some z) : W p l e (rmD 0 0 0) s m args below meth c H locs 0 0 (MQ below (Qv D (pu z) (cw h LM okM d) A) args s 0 0 A) (F0 m 106 ls [.int s3, .long s2, .long s1, .ref (h 99 0 0)]) := by
  have hx := X.1.1; have hb := X.1.2.1
  rw [M_X6_goesOn_b106] at hf
  refine lv_i2l (v := (s3.toInt64)) hx hb dX6_goesOn_106 rfl ?_
  refine lv_lmul hx hb dX6_goesOn_107 ?_
  refine lv_iload_n hx hb dX6_goesOn_108 rfl (lv_at hl 1 rfl) ?_
  refine lv_i2l (v := (x2.toInt64)) hx hb dX6_goesOn_109 rfl ?_
  refine lv_lmul hx hb dX6_goesOn_110 ?_
  refine lv_ladd hx hb dX6_goesOn_111 ?_
  obtain ⟨σ_1, eσ_1, hf⟩ := lt1_s hf
  refine x_pL X K O 39 rfl LM_99 rfl rfl in_X6 tyX6_ok nmX6 (by decide) q1189 rfl rfl rfl dX6_goesOn_112 (fun H locs O => ?_)
  rw [← eσ_1] at O
  refine lv_aload_n hx hb dX6_goesOn_115 rfl (lv_at hl 0 rfl) ?_
  refine lv_aload_n hx hb dX6_goesOn_116 rfl (lv_at hl 0 rfl) ?_
  refine x_gL X K O 40 rfl LM_99 rfl rfl in_X6 (by decide) q1190 dX6_goesOn_117 ?_
  refine lv_lload hx hb dX6_goesOn_120 (lv_at hl 2 rfl) ?_
  refine lv_iload hx hb dX6_goesOn_122 (lv_at hl 3 rfl) ?_
  refine lv_if_eq (tgt := 143) hx hb dX6_goesOn_124 (by decide) (fun c_2 => ?_) (fun c_2 => ?_)
  · replace hf := if_t c_2 hf
    refine lv_iconst (v := 2) hx hb dX6_goesOn_143 (by decide) ?_
    refine lv_aload_n hx hb dX6_goesOn_144 rfl (lv_at hl 0 rfl) ?_
    refine x_gF X K O 6 rfl LM_99 rfl rfl in_X6 (by decide) q1156 dX6_goesOn_145 ?_
    refine lv_iconst (v := 0) hx hb dX6_goesOn_148 (by decide) ?_
    refine x_ild X K O rfl LM_6 (by decide) (j := 0) rfl dX6_goesOn_149 ?_
    refine lv_imul hx hb dX6_goesOn_150 ?_
    exact w_M_X6_goesOn_b151 X K _ _ _ _ _ ls _ _ O (lv_sub hl [1] rfl) hf
  · replace hf := if_f c_2 hf
    refine lv_aload_n hx hb dX6_goesOn_127 rfl (lv_at hl 0 rfl) ?_
    refine x_gF X K O 6 rfl LM_99 rfl rfl in_X6 (by decide) q1156 dX6_goesOn_128 ?_
    refine lv_iconst (v := 1) hx hb dX6_goesOn_131 (by decide) ?_
    refine x_ild X K O rfl LM_6 (by decide) (j := 1) rfl dX6_goesOn_132 ?_
    refine lv_aload_n hx hb dX6_goesOn_133 rfl (lv_at hl 0 rfl) ?_
    refine x_gF X K O 6 rfl LM_99 rfl rfl in_X6 (by decide) q1156 dX6_goesOn_134 ?_
    refine lv_iconst (v := 2) hx hb dX6_goesOn_137 (by decide) ?_
    refine x_ild X K O rfl LM_6 (by decide) (j := 2) rfl dX6_goesOn_138 ?_
    refine lv_isub hx hb dX6_goesOn_139 ?_
    refine lv_goto (tgt := 151) hx hb dX6_goesOn_140 (by decide) ?_
    exact w_M_X6_goesOn_b151 X K _ _ _ _ _ ls _ _ O (lv_sub hl [1] rfl) hf
def M_X6_goesOn_b79 (σ : ST) (x2 : Int32) (x5 : Int64) (x7 : Int32) : Option (ST) :=
  (if x7 = 0 then M_X6_goesOn_b106 σ x2 x5 x7 (gL σ 99 0 0 39) x5 (gI σ 6 0 0 0) else M_X6_goesOn_b106 σ x2 x5 x7 (gL σ 99 0 0 39) x5 (gI σ 6 0 0 1))
theorem w_M_X6_goesOn_b79 (X : FX p m c meth s args RX6 cX6_goesOn 9 none) (K : XK D d A s) {z : ST} (σ : ST) (x2 : Int32) (x5 : Int64) (x7 : Int32) (ls : Array Slot) (H : Heap) (locs : List Loc) (O : XH D A s.heap h (xct LM okM h d σ) H locs) (hl : lv_has ls 9 [(0, .ref (h 99 0 0)), (2, .int x2), (5, .long x5), (7, .int x7)]) (hf : M_X6_goesOn_b79 σ x2 x5 x7 = some z) : W p l e (rmD 0 0 0) s m args below meth c H locs 0 0 (MQ below (Qv D (pu z) (cw h LM okM d) A) args s 0 0 A) (F0 m 79 ls []) := by
  have hx := X.1.1; have hb := X.1.2.1
  rw [M_X6_goesOn_b79] at hf
  refine lv_aload_n hx hb dX6_goesOn_79 rfl (lv_at hl 0 rfl) ?_
  refine lv_aload_n hx hb dX6_goesOn_80 rfl (lv_at hl 0 rfl) ?_
  refine x_gL X K O 39 rfl LM_99 rfl rfl in_X6 (by decide) q1189 dX6_goesOn_81 ?_
  refine lv_lload hx hb dX6_goesOn_84 (lv_at hl 2 rfl) ?_
  refine lv_iload hx hb dX6_goesOn_86 (lv_at hl 3 rfl) ?_
  refine lv_if_eq (tgt := 100) hx hb dX6_goesOn_88 (by decide) (fun c_1 => ?_) (fun c_1 => ?_)
  · replace hf := if_t c_1 hf
    refine lv_aload_n hx hb dX6_goesOn_100 rfl (lv_at hl 0 rfl) ?_
    refine x_gF X K O 6 rfl LM_99 rfl rfl in_X6 (by decide) q1156 dX6_goesOn_101 ?_
    refine lv_iconst (v := 0) hx hb dX6_goesOn_104 (by decide) ?_
    refine x_ild X K O rfl LM_6 (by decide) (j := 0) rfl dX6_goesOn_105 ?_
    exact w_M_X6_goesOn_b106 X K _ _ _ _ _ _ _ ls _ _ O (lv_sub hl [0, 1, 2, 3] rfl) hf
  · replace hf := if_f c_1 hf
    refine lv_aload_n hx hb dX6_goesOn_91 rfl (lv_at hl 0 rfl) ?_
    refine x_gF X K O 6 rfl LM_99 rfl rfl in_X6 (by decide) q1156 dX6_goesOn_92 ?_
    refine lv_iconst (v := 1) hx hb dX6_goesOn_95 (by decide) ?_
    refine x_ild X K O rfl LM_6 (by decide) (j := 1) rfl dX6_goesOn_96 ?_
    refine lv_goto (tgt := 106) hx hb dX6_goesOn_97 (by decide) ?_
    exact w_M_X6_goesOn_b106 X K _ _ _ _ _ _ _ ls _ _ O (lv_sub hl [0, 1, 2, 3] rfl) hf
def M_X6_goesOn_b44 (σ : ST) (x2 : Int32) (x5 : Int64) (x7 : Int32) (s0 : Int32) : Option (ST) :=
  ck (okI s0 25) (ck (okI s0 25) (lt1 (sL σ 37 0 0 (Int32.toNatClampNeg s0) ((gL σ 37 0 0 (Int32.toNatClampNeg s0)) + x5)) (fun σ_3 => (if x7 = 0 then M_X6_goesOn_b79 σ_3 x2 x5 x7 else lt1 (sL σ_3 99 0 0 38 ((gL σ_3 99 0 0 38) + x5)) (fun σ_5 => M_X6_goesOn_b79 σ_5 x2 x5 x7)))))
theorem w_M_X6_goesOn_b44 (X : FX p m c meth s args RX6 cX6_goesOn 9 none) (K : XK D d A s) {z : ST} (σ : ST) (x2 : Int32) (x5 : Int64) (x7 : Int32) (s0 : Int32) (ls : Array Slot) (H : Heap) (locs : List Loc) (O : XH D A s.heap h (xct LM okM h d σ) H locs) (hl : lv_has ls 9 [(0, .ref (h 99 0 0)), (2, .int x2), (5, .long x5), (7, .int x7)]) (hf : M_X6_goesOn_b44 σ x2 x5 x7 s0 = some z) : W p l e (rmD 0 0 0) s m args below meth c H locs 0 0 (MQ below (Qv D (pu z) (cw h LM okM d) A) args s 0 0 A) (F0 m 44 ls [.int s0]) := by
  have hx := X.1.1; have hb := X.1.2.1
  rw [M_X6_goesOn_b44] at hf
  refine lv_istore (lv' := [(8, .int s0), (0, .ref (h 99 0 0)), (2, .int x2), (5, .long x5), (7, .int x7)]) hx hb dX6_goesOn_44 hl (by decide) rfl (fun ls hl => ?_)
  refine lv_aload_n hx hb dX6_goesOn_46 rfl (lv_at hl 1 rfl) ?_
  refine x_gF X K O 37 rfl LM_99 rfl rfl in_X6 (by decide) q1187 dX6_goesOn_47 ?_
  refine lv_iload hx hb dX6_goesOn_50 (lv_at hl 0 rfl) ?_
  refine lv_aload_n hx hb dX6_goesOn_52 rfl (lv_at hl 1 rfl) ?_
  refine x_gF X K O 37 rfl LM_99 rfl rfl in_X6 (by decide) q1187 dX6_goesOn_53 ?_
  refine lv_iload hx hb dX6_goesOn_56 (lv_at hl 0 rfl) ?_
  obtain ⟨c_1, hf⟩ := ck_s hf
  refine x_lld X K O rfl LM_37 c_1 (j := (Int32.toNatClampNeg s0)) rfl dX6_goesOn_58 ?_
  refine lv_lload hx hb dX6_goesOn_59 (lv_at hl 3 rfl) ?_
  refine lv_ladd hx hb dX6_goesOn_61 ?_
  obtain ⟨c_2, hf⟩ := ck_s hf
  obtain ⟨σ_3, eσ_3, hf⟩ := lt1_s hf
  refine x_lst X K O rfl LM_37 c_2 (j := (Int32.toNatClampNeg s0)) rfl dX6_goesOn_62 (fun H locs O => ?_)
  rw [← eσ_3] at O
  refine lv_iload hx hb dX6_goesOn_63 (lv_at hl 4 rfl) ?_
  refine lv_if_eq (tgt := 79) hx hb dX6_goesOn_65 (by decide) (fun c_4 => ?_) (fun c_4 => ?_)
  · replace hf := if_t c_4 hf
    exact w_M_X6_goesOn_b79 X K _ _ _ _ ls _ _ O (lv_sub hl [1, 2, 3, 4] rfl) hf
  · replace hf := if_f c_4 hf
    refine lv_aload_n hx hb dX6_goesOn_68 rfl (lv_at hl 1 rfl) ?_
    refine lv_aload_n hx hb dX6_goesOn_69 rfl (lv_at hl 1 rfl) ?_
    refine x_gL X K O 38 rfl LM_99 rfl rfl in_X6 (by decide) q1188 dX6_goesOn_70 ?_
    refine lv_lload hx hb dX6_goesOn_73 (lv_at hl 3 rfl) ?_
    refine lv_ladd hx hb dX6_goesOn_75 ?_
    obtain ⟨σ_5, eσ_5, hf⟩ := lt1_s hf
    refine x_pL X K O 38 rfl LM_99 rfl rfl in_X6 tyX6_ok nmX6 (by decide) q1188 rfl rfl rfl dX6_goesOn_76 (fun H locs O => ?_)
    rw [← eσ_5] at O
    exact w_M_X6_goesOn_b79 X K _ _ _ _ ls _ _ O (lv_sub hl [1, 2, 3, 4] rfl) hf
def M_X6_goesOn_b16 (σ : ST) (x1 : Int32) (x2 : Int32) (x4 : Int32) (x5 : Int64) (s0 : Int32) : Option (ST) :=
  (if s0 = 0 then (if 24 ≤ x1 then M_X6_goesOn_b44 σ x2 x5 s0 24 else M_X6_goesOn_b44 σ x2 x5 s0 (x1 + 1)) else M_X6_goesOn_b44 σ x2 x5 s0 (x1 - x4))
theorem w_M_X6_goesOn_b16 (X : FX p m c meth s args RX6 cX6_goesOn 9 none) (K : XK D d A s) {z : ST} (σ : ST) (x1 : Int32) (x2 : Int32) (x4 : Int32) (x5 : Int64) (s0 : Int32) (ls : Array Slot) (H : Heap) (locs : List Loc) (O : XH D A s.heap h (xct LM okM h d σ) H locs) (hl : lv_has ls 9 [(0, .ref (h 99 0 0)), (1, .int x1), (2, .int x2), (4, .int x4), (5, .long x5)]) (hf : M_X6_goesOn_b16 σ x1 x2 x4 x5 s0 = some z) : W p l e (rmD 0 0 0) s m args below meth c H locs 0 0 (MQ below (Qv D (pu z) (cw h LM okM d) A) args s 0 0 A) (F0 m 16 ls [.int s0]) := by
  have hx := X.1.1; have hb := X.1.2.1
  rw [M_X6_goesOn_b16] at hf
  refine lv_istore (lv' := [(7, .int s0), (0, .ref (h 99 0 0)), (1, .int x1), (2, .int x2), (4, .int x4), (5, .long x5)]) hx hb dX6_goesOn_16 hl (by decide) rfl (fun ls hl => ?_)
  refine lv_iload hx hb dX6_goesOn_18 (lv_at hl 0 rfl) ?_
  refine lv_if_eq (tgt := 30) hx hb dX6_goesOn_20 (by decide) (fun c_1 => ?_) (fun c_1 => ?_)
  · replace hf := if_t c_1 hf
    refine lv_iload_n hx hb dX6_goesOn_30 rfl (lv_at hl 2 rfl) ?_
    refine lv_bipush (v := 24) hx hb dX6_goesOn_31 (by decide) ?_
    refine lv_icmp_ge (tgt := 42) hx hb dX6_goesOn_33 (by decide) (fun c_2 => ?_) (fun c_2 => ?_)
    · replace hf := if_t c_2 hf
      refine lv_bipush (v := 24) hx hb dX6_goesOn_42 (by decide) ?_
      exact w_M_X6_goesOn_b44 X K _ _ _ _ _ ls _ _ O (lv_sub hl [1, 3, 5, 0] rfl) hf
    · replace hf := if_f c_2 hf
      refine lv_iload_n hx hb dX6_goesOn_36 rfl (lv_at hl 2 rfl) ?_
      refine lv_iconst (v := 1) hx hb dX6_goesOn_37 (by decide) ?_
      refine lv_iadd hx hb dX6_goesOn_38 ?_
      refine lv_goto (tgt := 44) hx hb dX6_goesOn_39 (by decide) ?_
      exact w_M_X6_goesOn_b44 X K _ _ _ _ _ ls _ _ O (lv_sub hl [1, 3, 5, 0] rfl) hf
  · replace hf := if_f c_1 hf
    refine lv_iload_n hx hb dX6_goesOn_23 rfl (lv_at hl 2 rfl) ?_
    refine lv_iload hx hb dX6_goesOn_24 (lv_at hl 4 rfl) ?_
    refine lv_isub hx hb dX6_goesOn_26 ?_
    refine lv_goto (tgt := 44) hx hb dX6_goesOn_27 (by decide) ?_
    exact w_M_X6_goesOn_b44 X K _ _ _ _ _ ls _ _ O (lv_sub hl [1, 3, 5, 0] rfl) hf
def M_X6_goesOn_b15 (σ : ST) (x1 : Int32) (x2 : Int32) (x4 : Int32) (x5 : Int64) : Option (ST) :=
  M_X6_goesOn_b16 σ x1 x2 x4 x5 0
theorem w_M_X6_goesOn_b15 (X : FX p m c meth s args RX6 cX6_goesOn 9 none) (K : XK D d A s) {z : ST} (σ : ST) (x1 : Int32) (x2 : Int32) (x4 : Int32) (x5 : Int64) (ls : Array Slot) (H : Heap) (locs : List Loc) (O : XH D A s.heap h (xct LM okM h d σ) H locs) (hl : lv_has ls 9 [(0, .ref (h 99 0 0)), (1, .int x1), (2, .int x2), (4, .int x4), (5, .long x5)]) (hf : M_X6_goesOn_b15 σ x1 x2 x4 x5 = some z) : W p l e (rmD 0 0 0) s m args below meth c H locs 0 0 (MQ below (Qv D (pu z) (cw h LM okM d) A) args s 0 0 A) (F0 m 15 ls []) := by
  have hx := X.1.1; have hb := X.1.2.1
  rw [M_X6_goesOn_b15] at hf
  refine lv_iconst (v := 0) hx hb dX6_goesOn_15 (by decide) ?_
  exact w_M_X6_goesOn_b16 X K _ _ _ _ _ _ ls _ _ O (lv_sub hl [0, 1, 2, 3, 4] rfl) hf
def M_X6_goesOn (σ : ST) (p1 : Int32) (p2 : Int32) (p3 : Int32) (p4 : Int32) (p5 : Int64) : Option (ST) :=
  (if p2 < p3 then M_X6_goesOn_b15 σ p1 p2 p4 p5 else (if p1 < p4 then M_X6_goesOn_b15 σ p1 p2 p4 p5 else M_X6_goesOn_b16 σ p1 p2 p4 p5 1))
theorem m_M_X6_goesOn {l : Launch} {D : va_G} {d : Nat → ClassId} {h : IX} {p1 : Int32} {p2 : Int32} {p3 : Int32} {p4 : Int32} {p5 : Int64} {σ : ST} {z : ST} (hf : M_X6_goesOn σ p1 p2 p3 p4 p5 = some z) : XM l D d EN yX6_goesOn cX6_goesOn 9 none 0 0 0 [.ref (h 99 0 0), .int p1, .int p2, .int p3, .int p4, .long p5] h (xct LM okM h d σ) (Qv D (pu z) (cw h LM okM d)) := by
  refine XM.of (by decide +kernel) (Nat.le_of_ble_eq_true rfl) ?_
  intro p e s m below meth c A ls X _ K _ O hl
  have hl : lv_has ls 9 [(0, .ref (h 99 0 0)), (1, .int p1), (2, .int p2), (3, .int p3), (4, .int p4), (5, .long p5)] := hl
  have hx := X.1.1; have hb := X.1.2.1
  rw [M_X6_goesOn] at hf
  refine lv_iload_n hx hb dX6_goesOn_0 rfl (lv_at hl 2 rfl) ?_
  refine lv_iload_n hx hb dX6_goesOn_1 rfl (lv_at hl 3 rfl) ?_
  refine lv_icmp_lt (tgt := 15) hx hb dX6_goesOn_2 (by decide) (fun c_1 => ?_) (fun c_1 => ?_)
  · replace hf := if_t c_1 hf
    exact w_M_X6_goesOn_b15 X K _ _ _ _ _ ls _ _ O (lv_sub hl [0, 1, 2, 4, 5] rfl) hf
  · replace hf := if_f c_1 hf
    refine lv_iload_n hx hb dX6_goesOn_5 rfl (lv_at hl 1 rfl) ?_
    refine lv_iload hx hb dX6_goesOn_6 (lv_at hl 4 rfl) ?_
    refine lv_icmp_lt (tgt := 15) hx hb dX6_goesOn_8 (by decide) (fun c_2 => ?_) (fun c_2 => ?_)
    · replace hf := if_t c_2 hf
      exact w_M_X6_goesOn_b15 X K _ _ _ _ _ ls _ _ O (lv_sub hl [0, 1, 2, 4, 5] rfl) hf
    · replace hf := if_f c_2 hf
      refine lv_iconst (v := 1) hx hb dX6_goesOn_11 (by decide) ?_
      refine lv_goto (tgt := 16) hx hb dX6_goesOn_12 (by decide) ?_
      exact w_M_X6_goesOn_b16 X K _ _ _ _ _ _ ls _ _ O (lv_sub hl [0, 1, 2, 4, 5] rfl) hf
theorem hdV_X6_goesOn : yX6_goesOn.cls = RX6 ∧ (yX6_goesOn.cls ≠ "java/lang/invoke/MethodHandle" ∧ yX6_goesOn.cls ≠ "java/lang/invoke/VarHandle" ∧ (parseMethodDescriptor yX6_goesOn.desc).map (fun d => d.parameters.length) = some 5) := by decide +kernel
theorem hdV_X6_greatestSize : yX6_greatestSize.cls = RX6 ∧ (yX6_greatestSize.cls ≠ "java/lang/invoke/MethodHandle" ∧ yX6_greatestSize.cls ≠ "java/lang/invoke/VarHandle" ∧ (parseMethodDescriptor yX6_greatestSize.desc).map (fun d => d.parameters.length) = some 0) := by decide +kernel
def M_X6_aRound_b149 : Nat → ST → Int32 → Option (ST)
  | 0, _, _ => none
  | n + 1, σ, x5 =>
    (if 24 < x5 then some σ else ck (okI x5 25) (ck (okI x5 25) (lt1 (sL σ 36 0 0 (Int32.toNatClampNeg x5) (gL σ 37 0 0 (Int32.toNatClampNeg x5))) (fun σ_4 => lt1 (x5 + 1) (fun x5_5 => (M_X6_aRound_b149 n) σ_4 x5_5)))))
theorem w_M_X6_aRound_b149 (X : FX p m c meth s args RX6 cX6_aRound 11 none) (K : XK D d A s) {z : ST} : ∀ (n : Nat) (σ : ST) (x5 : Int32) (ls : Array Slot) (H : Heap) (locs : List Loc), XH D A s.heap h (xct LM okM h d σ) H locs → lv_has ls 11 [(0, .ref (h 99 0 0)), (5, .int x5)] → M_X6_aRound_b149 n σ x5 = some z → W p l e (rmD 1 0 0) s m args below meth c H locs 0 0 (MQ below (Qv D (pu z) (cw h LM okM d) A) args s 0 0 A) (F0 m 149 ls []) := by
  have hx := X.1.1; have hb := X.1.2.1
  intro n
  induction n with
  | zero =>
    intro σ x5 ls H locs O hl hf
    exact absurd hf (fun q => by cases q)
  | succ n ih =>
    intro σ x5 ls H locs O hl hf
    rw [M_X6_aRound_b149] at hf
    refine lv_iload hx hb dX6_aRound_149 (lv_at hl 1 rfl) ?_
    refine lv_bipush (v := 24) hx hb dX6_aRound_151 (by decide) ?_
    refine lv_icmp_gt (tgt := 176) hx hb dX6_aRound_153 (by decide) (fun c_1 => ?_) (fun c_1 => ?_)
    · replace hf := if_t c_1 hf
      exact x_vret X O rfl _ (Option.some.inj hf).symm rfl dX6_aRound_176
    · replace hf := if_f c_1 hf
      refine lv_aload_n hx hb dX6_aRound_156 rfl (lv_at hl 0 rfl) ?_
      refine x_gF X K O 36 rfl LM_99 rfl rfl in_X6 (by decide) q1186 dX6_aRound_157 ?_
      refine lv_iload hx hb dX6_aRound_160 (lv_at hl 1 rfl) ?_
      refine lv_aload_n hx hb dX6_aRound_162 rfl (lv_at hl 0 rfl) ?_
      refine x_gF X K O 37 rfl LM_99 rfl rfl in_X6 (by decide) q1187 dX6_aRound_163 ?_
      refine lv_iload hx hb dX6_aRound_166 (lv_at hl 1 rfl) ?_
      obtain ⟨c_2, hf⟩ := ck_s hf
      refine x_lld X K O rfl LM_37 c_2 (j := (Int32.toNatClampNeg x5)) rfl dX6_aRound_168 ?_
      obtain ⟨c_3, hf⟩ := ck_s hf
      obtain ⟨σ_4, eσ_4, hf⟩ := lt1_s hf
      refine x_lst X K O rfl LM_36 c_3 (j := (Int32.toNatClampNeg x5)) rfl dX6_aRound_169 (fun H locs O => ?_)
      rw [← eσ_4] at O
      obtain ⟨x5_5, ex5_5, hf⟩ := lt1_s hf
      refine lv_iinc (v := x5_5) (lv' := [(5, .int x5_5), (0, .ref (h 99 0 0))]) hx hb dX6_aRound_170 hl (k := 1) rfl (by rw [ex5_5]; rfl) (by decide) rfl (fun ls hl => ?_)
      refine lv_goto (tgt := 149) hx hb dX6_aRound_173 (by decide) ?_
      exact ih _ _ ls _ _ O (lv_sub hl [1, 0] rfl) hf
def M_X6_aRound_b72 (kb53 : ST → Int32 → Int32 → Int32 → Int32 → Int32 → Option (ST)) : Nat → ST → Int32 → Int32 → Int32 → Int32 → Int32 → Int64 → Int32 → Option (ST)
  | 0, _, _, _, _, _, _, _, _ => none
  | n + 1, σ, x1, x2, x3, x4, x5, x6, x8 =>
    (if x4 ≤ x8 then bn1 (M_X6_goesOn σ x5 x4 x1 x2 x6) (fun σ_2 => lt1 (x5 + 1) (fun x5_3 => kb53 σ_2 x1 x2 x3 x4 x5_3)) else ck (okI x5 25) (ck (okI (10 + x8) 23) (ck (decide (¬ (x3.toInt64) = 0)) (lt1 (((gL σ 36 0 0 (Int32.toNatClampNeg x5)) * (Int32.toInt64 (gI σ 6 0 0 (Int32.toNatClampNeg (10 + x8))))) / (x3.toInt64)) (fun x9_7 => bn1 (M_X6_goesOn σ x5 x8 x1 x2 x9_7) (fun σ_8 => lt1 (x6 - x9_7) (fun x6_9 => lt1 (x8 + 1) (fun x8_10 => (M_X6_aRound_b72 kb53 n) σ_8 x1 x2 x3 x4 x5 x6_9 x8_10))))))))
theorem w_M_X6_aRound_b72 (X : FX p m c meth s args RX6 cX6_aRound 11 none) (K : XK D d A s) {z : ST} {kb53 : ST → Int32 → Int32 → Int32 → Int32 → Int32 → Option (ST)} (hkb53 : ∀ (σ : ST) (x1 : Int32) (x2 : Int32) (x3 : Int32) (x4 : Int32) (x5 : Int32) (ls : Array Slot) (H : Heap) (locs : List Loc), XH D A s.heap h (xct LM okM h d σ) H locs → lv_has ls 11 [(0, .ref (h 99 0 0)), (1, .int x1), (2, .int x2), (3, .int x3), (4, .int x4), (5, .int x5)] → kb53 σ x1 x2 x3 x4 x5 = some z → W p l e (rmD 1 0 0) s m args below meth c H locs 0 0 (MQ below (Qv D (pu z) (cw h LM okM d) A) args s 0 0 A) (F0 m 53 ls [])) : ∀ (n : Nat) (σ : ST) (x1 : Int32) (x2 : Int32) (x3 : Int32) (x4 : Int32) (x5 : Int32) (x6 : Int64) (x8 : Int32) (ls : Array Slot) (H : Heap) (locs : List Loc), XH D A s.heap h (xct LM okM h d σ) H locs → lv_has ls 11 [(0, .ref (h 99 0 0)), (1, .int x1), (2, .int x2), (3, .int x3), (4, .int x4), (5, .int x5), (6, .long x6), (8, .int x8)] → M_X6_aRound_b72 kb53 n σ x1 x2 x3 x4 x5 x6 x8 = some z → W p l e (rmD 1 0 0) s m args below meth c H locs 0 0 (MQ below (Qv D (pu z) (cw h LM okM d) A) args s 0 0 A) (F0 m 72 ls []) := by
  have hx := X.1.1; have hb := X.1.2.1
  intro n
  induction n with
  | zero =>
    intro σ x1 x2 x3 x4 x5 x6 x8 ls H locs O hl hf
    exact absurd hf (fun q => by cases q)
  | succ n ih =>
    intro σ x1 x2 x3 x4 x5 x6 x8 ls H locs O hl hf
    rw [M_X6_aRound_b72] at hf
    refine lv_iload hx hb dX6_aRound_72 (lv_at hl 7 rfl) ?_
    refine lv_iload hx hb dX6_aRound_74 (lv_at hl 4 rfl) ?_
    refine lv_icmp_ge (tgt := 128) hx hb dX6_aRound_76 (by decide) (fun c_1 => ?_) (fun c_1 => ?_)
    · replace hf := if_t c_1 hf
      refine lv_aload_n hx hb dX6_aRound_128 rfl (lv_at hl 0 rfl) ?_
      refine lv_iload hx hb dX6_aRound_129 (lv_at hl 5 rfl) ?_
      refine lv_iload hx hb dX6_aRound_131 (lv_at hl 4 rfl) ?_
      refine lv_iload_n hx hb dX6_aRound_133 rfl (lv_at hl 1 rfl) ?_
      refine lv_iload_n hx hb dX6_aRound_134 rfl (lv_at hl 2 rfl) ?_
      refine lv_lload hx hb dX6_aRound_135 (lv_at hl 6 rfl) ?_
      obtain ⟨σ_2, hg, hf⟩ := bn1_s hf
      refine x_callv (x_runV (As := [.int x5, .int x4, .int x1, .int x2, .long x6]) (rest := []) X K O (xct_obj rfl LM_99) rfl (m_M_X6_goesOn hg) EN_b EN_h (lw_V q1582 q1584 qs94 q124 q1585) 5 rfl hl.1 (Nat.le_of_ble_eq_true rfl) hdV_X6_goesOn ⟨by decide, by decide⟩ ⟨Nat.le_refl _, Nat.le_refl _⟩ dX6_aRound_137) (fun u H locs hp O _ => ?_)
      cases hp
      have O : XH D A s.heap h (xct LM okM h d σ_2) H locs := O
      obtain ⟨x5_3, ex5_3, hf⟩ := lt1_s hf
      refine lv_iinc (v := x5_3) (lv' := [(5, .int x5_3), (0, .ref (h 99 0 0)), (1, .int x1), (2, .int x2), (3, .int x3), (4, .int x4), (6, .long x6), (8, .int x8)]) hx hb dX6_aRound_140 hl (k := 5) rfl (by rw [ex5_3]; rfl) (by decide) rfl (fun ls hl => ?_)
      refine lv_goto (tgt := 53) hx hb dX6_aRound_143 (by decide) ?_
      exact hkb53 _ _ _ _ _ _ ls _ _ O (lv_sub hl [1, 2, 3, 4, 5, 0] rfl) hf
    · replace hf := if_f c_1 hf
      refine lv_aload_n hx hb dX6_aRound_79 rfl (lv_at hl 0 rfl) ?_
      refine x_gF X K O 36 rfl LM_99 rfl rfl in_X6 (by decide) q1186 dX6_aRound_80 ?_
      refine lv_iload hx hb dX6_aRound_83 (lv_at hl 5 rfl) ?_
      obtain ⟨c_4, hf⟩ := ck_s hf
      refine x_lld X K O rfl LM_36 c_4 (j := (Int32.toNatClampNeg x5)) rfl dX6_aRound_85 ?_
      refine lv_aload_n hx hb dX6_aRound_86 rfl (lv_at hl 0 rfl) ?_
      refine x_gF X K O 6 rfl LM_99 rfl rfl in_X6 (by decide) q1156 dX6_aRound_87 ?_
      refine lv_bipush (v := 10) hx hb dX6_aRound_90 (by decide) ?_
      refine lv_iload hx hb dX6_aRound_92 (lv_at hl 7 rfl) ?_
      refine lv_iadd hx hb dX6_aRound_94 ?_
      obtain ⟨c_5, hf⟩ := ck_s hf
      refine x_ild X K O rfl LM_6 c_5 (j := (Int32.toNatClampNeg (10 + x8))) rfl dX6_aRound_95 ?_
      refine lv_i2l (v := (Int32.toInt64 (gI σ 6 0 0 (Int32.toNatClampNeg (10 + x8))))) hx hb dX6_aRound_96 rfl ?_
      refine lv_lmul hx hb dX6_aRound_97 ?_
      refine lv_iload_n hx hb dX6_aRound_98 rfl (lv_at hl 3 rfl) ?_
      refine lv_i2l (v := (x3.toInt64)) hx hb dX6_aRound_99 rfl ?_
      obtain ⟨c_6, hf⟩ := ck_s hf
      refine lv_ldiv hx hb dX6_aRound_100 (of_decide_eq_true c_6) ?_
      obtain ⟨x9_7, ex9_7, hf⟩ := lt1_s hf
      refine x_top (w := .long x9_7) (by rw [ex9_7]) ?_
      refine lv_lstore (lv' := [(9, .long x9_7), (0, .ref (h 99 0 0)), (1, .int x1), (2, .int x2), (3, .int x3), (4, .int x4), (5, .int x5), (6, .long x6), (8, .int x8)]) hx hb dX6_aRound_101 hl (by decide) rfl (fun ls hl => ?_)
      refine lv_aload_n hx hb dX6_aRound_103 rfl (lv_at hl 1 rfl) ?_
      refine lv_iload hx hb dX6_aRound_104 (lv_at hl 6 rfl) ?_
      refine lv_iload hx hb dX6_aRound_106 (lv_at hl 8 rfl) ?_
      refine lv_iload_n hx hb dX6_aRound_108 rfl (lv_at hl 2 rfl) ?_
      refine lv_iload_n hx hb dX6_aRound_109 rfl (lv_at hl 3 rfl) ?_
      refine lv_lload hx hb dX6_aRound_110 (lv_at hl 0 rfl) ?_
      obtain ⟨σ_8, hg, hf⟩ := bn1_s hf
      refine x_callv (x_runV (As := [.int x5, .int x8, .int x1, .int x2, .long x9_7]) (rest := []) X K O (xct_obj rfl LM_99) rfl (m_M_X6_goesOn hg) EN_b EN_h (lw_V q1582 q1584 qs94 q124 q1585) 5 rfl hl.1 (Nat.le_of_ble_eq_true rfl) hdV_X6_goesOn ⟨by decide, by decide⟩ ⟨Nat.le_refl _, Nat.le_refl _⟩ dX6_aRound_112) (fun u H locs hp O _ => ?_)
      cases hp
      have O : XH D A s.heap h (xct LM okM h d σ_8) H locs := O
      refine lv_lload hx hb dX6_aRound_115 (lv_at hl 7 rfl) ?_
      refine lv_lload hx hb dX6_aRound_117 (lv_at hl 0 rfl) ?_
      refine lv_lsub hx hb dX6_aRound_119 ?_
      obtain ⟨x6_9, ex6_9, hf⟩ := lt1_s hf
      refine x_top (w := .long x6_9) (by rw [ex6_9]) ?_
      refine lv_lstore (lv' := [(6, .long x6_9), (9, .long x9_7), (0, .ref (h 99 0 0)), (1, .int x1), (2, .int x2), (3, .int x3), (4, .int x4), (5, .int x5), (8, .int x8)]) hx hb dX6_aRound_120 hl (by decide) rfl (fun ls hl => ?_)
      obtain ⟨x8_10, ex8_10, hf⟩ := lt1_s hf
      refine lv_iinc (v := x8_10) (lv' := [(8, .int x8_10), (6, .long x6_9), (9, .long x9_7), (0, .ref (h 99 0 0)), (1, .int x1), (2, .int x2), (3, .int x3), (4, .int x4), (5, .int x5)]) hx hb dX6_aRound_122 hl (k := 8) rfl (by rw [ex8_10]; rfl) (by decide) rfl (fun ls hl => ?_)
      refine lv_goto (tgt := 72) hx hb dX6_aRound_125 (by decide) ?_
      exact ih _ _ _ _ _ _ _ _ ls _ _ O (lv_sub hl [3, 4, 5, 6, 7, 8, 1, 0] rfl) hf
def M_X6_aRound_b53 : Nat → ST → Int32 → Int32 → Int32 → Int32 → Int32 → Option (ST)
  | 0, _, _, _, _, _, _ => none
  | n + 1, σ, x1, x2, x3, x4, x5 =>
    (if 24 < x5 then M_X6_aRound_b149 FUEL σ 0 else ck (okI x5 25) (lt1 (gL σ 36 0 0 (Int32.toNatClampNeg x5)) (fun x6_3 => M_X6_aRound_b72 (M_X6_aRound_b53 n) FUEL σ x1 x2 x3 x4 x5 x6_3 1)))
theorem w_M_X6_aRound_b53 (X : FX p m c meth s args RX6 cX6_aRound 11 none) (K : XK D d A s) {z : ST} : ∀ (n : Nat) (σ : ST) (x1 : Int32) (x2 : Int32) (x3 : Int32) (x4 : Int32) (x5 : Int32) (ls : Array Slot) (H : Heap) (locs : List Loc), XH D A s.heap h (xct LM okM h d σ) H locs → lv_has ls 11 [(0, .ref (h 99 0 0)), (1, .int x1), (2, .int x2), (3, .int x3), (4, .int x4), (5, .int x5)] → M_X6_aRound_b53 n σ x1 x2 x3 x4 x5 = some z → W p l e (rmD 1 0 0) s m args below meth c H locs 0 0 (MQ below (Qv D (pu z) (cw h LM okM d) A) args s 0 0 A) (F0 m 53 ls []) := by
  have hx := X.1.1; have hb := X.1.2.1
  intro n
  induction n with
  | zero =>
    intro σ x1 x2 x3 x4 x5 ls H locs O hl hf
    exact absurd hf (fun q => by cases q)
  | succ n ih =>
    intro σ x1 x2 x3 x4 x5 ls H locs O hl hf
    rw [M_X6_aRound_b53] at hf
    refine lv_iload hx hb dX6_aRound_53 (lv_at hl 5 rfl) ?_
    refine lv_bipush (v := 24) hx hb dX6_aRound_55 (by decide) ?_
    refine lv_icmp_gt (tgt := 146) hx hb dX6_aRound_57 (by decide) (fun c_1 => ?_) (fun c_1 => ?_)
    · replace hf := if_t c_1 hf
      refine lv_iconst (v := 0) hx hb dX6_aRound_146 (by decide) ?_
      refine lv_istore (lv' := [(5, .int 0), (0, .ref (h 99 0 0)), (1, .int x1), (2, .int x2), (3, .int x3), (4, .int x4)]) hx hb dX6_aRound_147 hl (by decide) rfl (fun ls hl => ?_)
      exact w_M_X6_aRound_b149 X K _ _ _ ls _ _ O (lv_sub hl [1, 0] rfl) hf
    · replace hf := if_f c_1 hf
      refine lv_aload_n hx hb dX6_aRound_60 rfl (lv_at hl 0 rfl) ?_
      refine x_gF X K O 36 rfl LM_99 rfl rfl in_X6 (by decide) q1186 dX6_aRound_61 ?_
      refine lv_iload hx hb dX6_aRound_64 (lv_at hl 5 rfl) ?_
      obtain ⟨c_2, hf⟩ := ck_s hf
      refine x_lld X K O rfl LM_36 c_2 (j := (Int32.toNatClampNeg x5)) rfl dX6_aRound_66 ?_
      obtain ⟨x6_3, ex6_3, hf⟩ := lt1_s hf
      refine x_top (w := .long x6_3) (by rw [ex6_3]) ?_
      refine lv_lstore (lv' := [(6, .long x6_3), (0, .ref (h 99 0 0)), (1, .int x1), (2, .int x2), (3, .int x3), (4, .int x4), (5, .int x5)]) hx hb dX6_aRound_67 hl (by decide) rfl (fun ls hl => ?_)
      refine lv_iconst (v := 1) hx hb dX6_aRound_69 (by decide) ?_
      refine lv_istore (lv' := [(8, .int 1), (6, .long x6_3), (0, .ref (h 99 0 0)), (1, .int x1), (2, .int x2), (3, .int x3), (4, .int x4), (5, .int x5)]) hx hb dX6_aRound_70 hl (by decide) rfl (fun ls hl => ?_)
      exact w_M_X6_aRound_b72 X K ih _ _ _ _ _ _ _ _ _ ls _ _ O (lv_sub hl [2, 3, 4, 5, 6, 7, 1, 0] rfl) hf
def M_X6_aRound_b29 : Nat → ST → Int32 → Int32 → Int32 → Int32 → Int32 → Option (ST)
  | 0, _, _, _, _, _, _ => none
  | n + 1, σ, x1, x2, x3, x4, x5 =>
    (if 24 < x5 then M_X6_aRound_b53 FUEL σ x1 x2 x3 x4 0 else ck (okI x5 25) (lt1 (sL σ 37 0 0 (Int32.toNatClampNeg x5) 0) (fun σ_3 => lt1 (x5 + 1) (fun x5_4 => (M_X6_aRound_b29 n) σ_3 x1 x2 x3 x4 x5_4))))
theorem w_M_X6_aRound_b29 (X : FX p m c meth s args RX6 cX6_aRound 11 none) (K : XK D d A s) {z : ST} : ∀ (n : Nat) (σ : ST) (x1 : Int32) (x2 : Int32) (x3 : Int32) (x4 : Int32) (x5 : Int32) (ls : Array Slot) (H : Heap) (locs : List Loc), XH D A s.heap h (xct LM okM h d σ) H locs → lv_has ls 11 [(0, .ref (h 99 0 0)), (1, .int x1), (2, .int x2), (3, .int x3), (4, .int x4), (5, .int x5)] → M_X6_aRound_b29 n σ x1 x2 x3 x4 x5 = some z → W p l e (rmD 1 0 0) s m args below meth c H locs 0 0 (MQ below (Qv D (pu z) (cw h LM okM d) A) args s 0 0 A) (F0 m 29 ls []) := by
  have hx := X.1.1; have hb := X.1.2.1
  intro n
  induction n with
  | zero =>
    intro σ x1 x2 x3 x4 x5 ls H locs O hl hf
    exact absurd hf (fun q => by cases q)
  | succ n ih =>
    intro σ x1 x2 x3 x4 x5 ls H locs O hl hf
    rw [M_X6_aRound_b29] at hf
    refine lv_iload hx hb dX6_aRound_29 (lv_at hl 5 rfl) ?_
    refine lv_bipush (v := 24) hx hb dX6_aRound_31 (by decide) ?_
    refine lv_icmp_gt (tgt := 50) hx hb dX6_aRound_33 (by decide) (fun c_1 => ?_) (fun c_1 => ?_)
    · replace hf := if_t c_1 hf
      refine lv_iconst (v := 0) hx hb dX6_aRound_50 (by decide) ?_
      refine lv_istore (lv' := [(5, .int 0), (0, .ref (h 99 0 0)), (1, .int x1), (2, .int x2), (3, .int x3), (4, .int x4)]) hx hb dX6_aRound_51 hl (by decide) rfl (fun ls hl => ?_)
      exact w_M_X6_aRound_b53 X K _ _ _ _ _ _ _ ls _ _ O (lv_sub hl [1, 2, 3, 4, 5, 0] rfl) hf
    · replace hf := if_f c_1 hf
      refine lv_aload_n hx hb dX6_aRound_36 rfl (lv_at hl 0 rfl) ?_
      refine x_gF X K O 37 rfl LM_99 rfl rfl in_X6 (by decide) q1187 dX6_aRound_37 ?_
      refine lv_iload hx hb dX6_aRound_40 (lv_at hl 5 rfl) ?_
      refine lv_lconst (v := 0) hx hb dX6_aRound_42 (by decide) ?_
      obtain ⟨c_2, hf⟩ := ck_s hf
      obtain ⟨σ_3, eσ_3, hf⟩ := lt1_s hf
      refine x_lst X K O rfl LM_37 c_2 (j := (Int32.toNatClampNeg x5)) rfl dX6_aRound_43 (fun H locs O => ?_)
      rw [← eσ_3] at O
      obtain ⟨x5_4, ex5_4, hf⟩ := lt1_s hf
      refine lv_iinc (v := x5_4) (lv' := [(5, .int x5_4), (0, .ref (h 99 0 0)), (1, .int x1), (2, .int x2), (3, .int x3), (4, .int x4)]) hx hb dX6_aRound_44 hl (k := 5) rfl (by rw [ex5_4]; rfl) (by decide) rfl (fun ls hl => ?_)
      refine lv_goto (tgt := 29) hx hb dX6_aRound_47 (by decide) ?_
      exact ih _ _ _ _ _ _ ls _ _ O (lv_sub hl [1, 2, 3, 4, 5, 0] rfl) hf
def M_X6_aRound (σ : ST) (p1 : Int32) (p2 : Int32) : Option (ST) :=
  bn2 (M_X6_weights σ) (fun σ_1 r_2 => bn2 (M_X6_greatestSize σ_1) (fun σ_3 r_4 => lt1 (sL σ_3 99 0 0 38 0) (fun σ_5 => lt1 (sL σ_5 99 0 0 39 0) (fun σ_6 => lt1 (sL σ_6 99 0 0 40 0) (fun σ_7 => M_X6_aRound_b29 FUEL σ_7 p1 p2 r_2 r_4 0)))))
theorem m_M_X6_aRound {l : Launch} {D : va_G} {d : Nat → ClassId} {h : IX} {p1 : Int32} {p2 : Int32} {σ : ST} {z : ST} (hf : M_X6_aRound σ p1 p2 = some z) : XM l D d EN yX6_aRound cX6_aRound 11 none 1 0 0 [.ref (h 99 0 0), .int p1, .int p2] h (xct LM okM h d σ) (Qv D (pu z) (cw h LM okM d)) := by
  refine XM.of (by decide +kernel) (Nat.le_of_ble_eq_true rfl) ?_
  intro p e s m below meth c A ls X _ K _ O hl
  have hl : lv_has ls 11 [(0, .ref (h 99 0 0)), (1, .int p1), (2, .int p2)] := hl
  have hx := X.1.1; have hb := X.1.2.1
  rw [M_X6_aRound] at hf
  refine lv_aload_n hx hb dX6_aRound_0 rfl (lv_at hl 0 rfl) ?_
  obtain ⟨σ_1, r_2, hg, hf⟩ := bn2_s hf
  refine x_calli (x_runV (As := []) (rest := []) X K O (xct_obj rfl LM_99) rfl (m_M_X6_weights hg) EN_b EN_h (lw_V q1530 q1532 qs84 q124 q1533) 0 rfl hl.1 (Nat.le_of_ble_eq_true rfl) hdV_X6_weights ⟨by decide, by decide⟩ ⟨Nat.le_refl _, Nat.le_refl _⟩ dX6_aRound_1) (fun r u H locs hp O _ => ?_)
  cases hp
  have O : XH D A s.heap h (xct LM okM h d σ_1) H locs := O
  refine lv_istore_n (lv' := [(3, .int r_2), (0, .ref (h 99 0 0)), (1, .int p1), (2, .int p2)]) hx hb dX6_aRound_4 rfl hl (by decide) rfl (fun ls hl => ?_)
  refine lv_aload_n hx hb dX6_aRound_5 rfl (lv_at hl 1 rfl) ?_
  obtain ⟨σ_3, r_4, hg, hf⟩ := bn2_s hf
  refine x_calli (x_runV (As := []) (rest := []) X K O (xct_obj rfl LM_99) rfl (m_M_X6_greatestSize hg) EN_b EN_h (lw_V q1578 q1580 qs93 q124 q1581) 0 rfl hl.1 (Nat.le_of_ble_eq_true rfl) hdV_X6_greatestSize ⟨by decide, by decide⟩ ⟨Nat.le_refl _, Nat.le_refl _⟩ dX6_aRound_6) (fun r u H locs hp O _ => ?_)
  cases hp
  have O : XH D A s.heap h (xct LM okM h d σ_3) H locs := O
  refine lv_istore (lv' := [(4, .int r_4), (3, .int r_2), (0, .ref (h 99 0 0)), (1, .int p1), (2, .int p2)]) hx hb dX6_aRound_9 hl (by decide) rfl (fun ls hl => ?_)
  refine lv_aload_n hx hb dX6_aRound_11 rfl (lv_at hl 2 rfl) ?_
  refine lv_lconst (v := 0) hx hb dX6_aRound_12 (by decide) ?_
  obtain ⟨σ_5, eσ_5, hf⟩ := lt1_s hf
  refine x_pL X K O 38 rfl LM_99 rfl rfl in_X6 tyX6_ok nmX6 (by decide) q1188 rfl rfl rfl dX6_aRound_13 (fun H locs O => ?_)
  rw [← eσ_5] at O
  refine lv_aload_n hx hb dX6_aRound_16 rfl (lv_at hl 2 rfl) ?_
  refine lv_lconst (v := 0) hx hb dX6_aRound_17 (by decide) ?_
  obtain ⟨σ_6, eσ_6, hf⟩ := lt1_s hf
  refine x_pL X K O 39 rfl LM_99 rfl rfl in_X6 tyX6_ok nmX6 (by decide) q1189 rfl rfl rfl dX6_aRound_18 (fun H locs O => ?_)
  rw [← eσ_6] at O
  refine lv_aload_n hx hb dX6_aRound_21 rfl (lv_at hl 2 rfl) ?_
  refine lv_lconst (v := 0) hx hb dX6_aRound_22 (by decide) ?_
  obtain ⟨σ_7, eσ_7, hf⟩ := lt1_s hf
  refine x_pL X K O 40 rfl LM_99 rfl rfl in_X6 tyX6_ok nmX6 (by decide) q1190 rfl rfl rfl dX6_aRound_23 (fun H locs O => ?_)
  rw [← eσ_7] at O
  refine lv_iconst (v := 0) hx hb dX6_aRound_26 (by decide) ?_
  refine lv_istore (lv' := [(5, .int 0), (4, .int r_4), (3, .int r_2), (0, .ref (h 99 0 0)), (1, .int p1), (2, .int p2)]) hx hb dX6_aRound_27 hl (by decide) rfl (fun ls hl => ?_)
  exact w_M_X6_aRound_b29 X K _ _ _ _ _ _ _ ls _ _ O (lv_sub hl [3, 4, 5, 2, 1, 0] rfl) hf
theorem hdV_X6_aRound : yX6_aRound.cls = RX6 ∧ (yX6_aRound.cls ≠ "java/lang/invoke/MethodHandle" ∧ yX6_aRound.cls ≠ "java/lang/invoke/VarHandle" ∧ (parseMethodDescriptor yX6_aRound.desc).map (fun d => d.parameters.length) = some 2) := by decide +kernel
def M_X6_runs_b36 : Nat → ST → Int32 → Int32 → Int32 → Int32 → Option (ST)
  | 0, _, _, _, _, _ => none
  | n + 1, σ, x1, x2, x3, x4 =>
    (if x3 ≤ x4 then some σ else bn1 (M_X6_aRound σ x1 x2) (fun σ_2 => lt1 (x4 + 1) (fun x4_3 => (M_X6_runs_b36 n) σ_2 x1 x2 x3 x4_3)))
theorem w_M_X6_runs_b36 (X : FX p m c meth s args RX6 cX6_runs 5 none) (K : XK D d A s) {z : ST} : ∀ (n : Nat) (σ : ST) (x1 : Int32) (x2 : Int32) (x3 : Int32) (x4 : Int32) (ls : Array Slot) (H : Heap) (locs : List Loc), XH D A s.heap h (xct LM okM h d σ) H locs → lv_has ls 5 [(0, .ref (h 99 0 0)), (1, .int x1), (2, .int x2), (3, .int x3), (4, .int x4)] → M_X6_runs_b36 n σ x1 x2 x3 x4 = some z → W p l e (rmD 2 0 0) s m args below meth c H locs 0 0 (MQ below (Qv D (pu z) (cw h LM okM d) A) args s 0 0 A) (F0 m 36 ls []) := by
  have hx := X.1.1; have hb := X.1.2.1
  intro n
  induction n with
  | zero =>
    intro σ x1 x2 x3 x4 ls H locs O hl hf
    exact absurd hf (fun q => by cases q)
  | succ n ih =>
    intro σ x1 x2 x3 x4 ls H locs O hl hf
    rw [M_X6_runs_b36] at hf
    refine lv_iload hx hb dX6_runs_36 (lv_at hl 4 rfl) ?_
    refine lv_iload_n hx hb dX6_runs_38 rfl (lv_at hl 3 rfl) ?_
    refine lv_icmp_ge (tgt := 54) hx hb dX6_runs_39 (by decide) (fun c_1 => ?_) (fun c_1 => ?_)
    · replace hf := if_t c_1 hf
      exact x_vret X O rfl _ (Option.some.inj hf).symm rfl dX6_runs_54
    · replace hf := if_f c_1 hf
      refine lv_aload_n hx hb dX6_runs_42 rfl (lv_at hl 0 rfl) ?_
      refine lv_iload_n hx hb dX6_runs_43 rfl (lv_at hl 1 rfl) ?_
      refine lv_iload_n hx hb dX6_runs_44 rfl (lv_at hl 2 rfl) ?_
      obtain ⟨σ_2, hg, hf⟩ := bn1_s hf
      refine x_callv (x_runV (As := [.int x1, .int x2]) (rest := []) X K O (xct_obj rfl LM_99) rfl (m_M_X6_aRound hg) EN_b EN_h (lw_V q1574 q1576 qs92 q124 q1577) 2 rfl hl.1 (Nat.le_of_ble_eq_true rfl) hdV_X6_aRound ⟨by decide, by decide⟩ ⟨Nat.le_refl _, Nat.le_refl _⟩ dX6_runs_45) (fun u H locs hp O _ => ?_)
      cases hp
      have O : XH D A s.heap h (xct LM okM h d σ_2) H locs := O
      obtain ⟨x4_3, ex4_3, hf⟩ := lt1_s hf
      refine lv_iinc (v := x4_3) (lv' := [(4, .int x4_3), (0, .ref (h 99 0 0)), (1, .int x1), (2, .int x2), (3, .int x3)]) hx hb dX6_runs_48 hl (k := 4) rfl (by rw [ex4_3]; rfl) (by decide) rfl (fun ls hl => ?_)
      refine lv_goto (tgt := 36) hx hb dX6_runs_51 (by decide) ?_
      exact ih _ _ _ _ _ ls _ _ O (lv_sub hl [1, 2, 3, 4, 0] rfl) hf
def M_X6_runs_b3 : Nat → ST → Int32 → Int32 → Int32 → Int32 → Option (ST)
  | 0, _, _, _, _, _ => none
  | n + 1, σ, x1, x2, x3, x4 =>
    (if 24 < x4 then lt1 (sL σ 36 0 0 0 1000000000) (fun σ_2 => M_X6_runs_b36 FUEL σ_2 x1 x2 x3 0) else ck (okI x4 25) (lt1 (sL σ 36 0 0 (Int32.toNatClampNeg x4) 0) (fun σ_4 => lt1 (x4 + 1) (fun x4_5 => (M_X6_runs_b3 n) σ_4 x1 x2 x3 x4_5))))
theorem w_M_X6_runs_b3 (X : FX p m c meth s args RX6 cX6_runs 5 none) (K : XK D d A s) {z : ST} : ∀ (n : Nat) (σ : ST) (x1 : Int32) (x2 : Int32) (x3 : Int32) (x4 : Int32) (ls : Array Slot) (H : Heap) (locs : List Loc), XH D A s.heap h (xct LM okM h d σ) H locs → lv_has ls 5 [(0, .ref (h 99 0 0)), (1, .int x1), (2, .int x2), (3, .int x3), (4, .int x4)] → M_X6_runs_b3 n σ x1 x2 x3 x4 = some z → W p l e (rmD 2 0 0) s m args below meth c H locs 0 0 (MQ below (Qv D (pu z) (cw h LM okM d) A) args s 0 0 A) (F0 m 3 ls []) := by
  have hx := X.1.1; have hb := X.1.2.1
  intro n
  induction n with
  | zero =>
    intro σ x1 x2 x3 x4 ls H locs O hl hf
    exact absurd hf (fun q => by cases q)
  | succ n ih =>
    intro σ x1 x2 x3 x4 ls H locs O hl hf
    rw [M_X6_runs_b3] at hf
    refine lv_iload hx hb dX6_runs_3 (lv_at hl 4 rfl) ?_
    refine lv_bipush (v := 24) hx hb dX6_runs_5 (by decide) ?_
    refine lv_icmp_gt (tgt := 24) hx hb dX6_runs_7 (by decide) (fun c_1 => ?_) (fun c_1 => ?_)
    · replace hf := if_t c_1 hf
      refine lv_aload_n hx hb dX6_runs_24 rfl (lv_at hl 0 rfl) ?_
      refine x_gF X K O 36 rfl LM_99 rfl rfl in_X6 (by decide) q1186 dX6_runs_25 ?_
      refine lv_iconst (v := 0) hx hb dX6_runs_28 (by decide) ?_
      refine lv_ldc2 (v := 1000000000) hx hb X.1.2.2.2.1 (X.1.2.2.2.2 _ q1573) dX6_runs_29 ?_
      obtain ⟨σ_2, eσ_2, hf⟩ := lt1_s hf
      refine x_lst X K O rfl LM_36 (by decide) (j := 0) rfl dX6_runs_32 (fun H locs O => ?_)
      rw [← eσ_2] at O
      refine lv_iconst (v := 0) hx hb dX6_runs_33 (by decide) ?_
      refine lv_istore (lv' := [(4, .int 0), (0, .ref (h 99 0 0)), (1, .int x1), (2, .int x2), (3, .int x3)]) hx hb dX6_runs_34 hl (by decide) rfl (fun ls hl => ?_)
      exact w_M_X6_runs_b36 X K _ _ _ _ _ _ ls _ _ O (lv_sub hl [1, 2, 3, 4, 0] rfl) hf
    · replace hf := if_f c_1 hf
      refine lv_aload_n hx hb dX6_runs_10 rfl (lv_at hl 0 rfl) ?_
      refine x_gF X K O 36 rfl LM_99 rfl rfl in_X6 (by decide) q1186 dX6_runs_11 ?_
      refine lv_iload hx hb dX6_runs_14 (lv_at hl 4 rfl) ?_
      refine lv_lconst (v := 0) hx hb dX6_runs_16 (by decide) ?_
      obtain ⟨c_3, hf⟩ := ck_s hf
      obtain ⟨σ_4, eσ_4, hf⟩ := lt1_s hf
      refine x_lst X K O rfl LM_36 c_3 (j := (Int32.toNatClampNeg x4)) rfl dX6_runs_17 (fun H locs O => ?_)
      rw [← eσ_4] at O
      obtain ⟨x4_5, ex4_5, hf⟩ := lt1_s hf
      refine lv_iinc (v := x4_5) (lv' := [(4, .int x4_5), (0, .ref (h 99 0 0)), (1, .int x1), (2, .int x2), (3, .int x3)]) hx hb dX6_runs_18 hl (k := 4) rfl (by rw [ex4_5]; rfl) (by decide) rfl (fun ls hl => ?_)
      refine lv_goto (tgt := 3) hx hb dX6_runs_21 (by decide) ?_
      exact ih _ _ _ _ _ ls _ _ O (lv_sub hl [1, 2, 3, 4, 0] rfl) hf
def M_X6_runs (σ : ST) (p1 : Int32) (p2 : Int32) (p3 : Int32) : Option (ST) :=
  M_X6_runs_b3 FUEL σ p1 p2 p3 0
theorem m_M_X6_runs {l : Launch} {D : va_G} {d : Nat → ClassId} {h : IX} {p1 : Int32} {p2 : Int32} {p3 : Int32} {σ : ST} {z : ST} (hf : M_X6_runs σ p1 p2 p3 = some z) : XM l D d EN yX6_runs cX6_runs 5 none 2 0 0 [.ref (h 99 0 0), .int p1, .int p2, .int p3] h (xct LM okM h d σ) (Qv D (pu z) (cw h LM okM d)) := by
  refine XM.of (by decide +kernel) (Nat.le_of_ble_eq_true rfl) ?_
  intro p e s m below meth c A ls X _ K _ O hl
  have hl : lv_has ls 5 [(0, .ref (h 99 0 0)), (1, .int p1), (2, .int p2), (3, .int p3)] := hl
  have hx := X.1.1; have hb := X.1.2.1
  rw [M_X6_runs] at hf
  refine lv_iconst (v := 0) hx hb dX6_runs_0 (by decide) ?_
  refine lv_istore (lv' := [(4, .int 0), (0, .ref (h 99 0 0)), (1, .int p1), (2, .int p2), (3, .int p3)]) hx hb dX6_runs_1 hl (by decide) rfl (fun ls hl => ?_)
  exact w_M_X6_runs_b3 X K _ _ _ _ _ _ ls _ _ O (lv_sub hl [1, 2, 3, 4, 0] rfl) hf
theorem hdV_X6_runs : yX6_runs.cls = RX6 ∧ (yX6_runs.cls ≠ "java/lang/invoke/MethodHandle" ∧ yX6_runs.cls ≠ "java/lang/invoke/VarHandle" ∧ (parseMethodDescriptor yX6_runs.desc).map (fun d => d.parameters.length) = some 3) := by decide +kernel
def M_X6_longer_b164 (kb112 : ST → Int32 → Int32 → Int32 → Int64 → Int32 → Option (ST × Int64)) (σ : ST) (x2 : Int32) (x3 : Int32) (x5 : Int32) (x6 : Int64) (x8 : Int32) : Option (ST × Int64) :=
  lt1 (x8 + 1) (fun x8_1 => kb112 σ x2 x3 x5 x6 x8_1)
theorem w_M_X6_longer_b164 (X : FX p m c meth s args RX6 cX6_longer 9 (some .long)) (K : XK D d A s) {z : ST × Int64} {kb112 : ST → Int32 → Int32 → Int32 → Int64 → Int32 → Option (ST × Int64)} (hkb112 : ∀ (σ : ST) (x2 : Int32) (x3 : Int32) (x5 : Int32) (x6 : Int64) (x8 : Int32) (ls : Array Slot) (H : Heap) (locs : List Loc), XH D A s.heap h (xct LM okM h d σ) H locs → lv_has ls 9 [(0, .ref (h 99 0 0)), (2, .int x2), (3, .int x3), (5, .int x5), (6, .long x6), (8, .int x8)] → kb112 σ x2 x3 x5 x6 x8 = some z → W p l e (rmD 3 0 0) s m args below meth c H locs 0 0 (MQ below (Ql D (pz z) (cw h LM okM d) A) args s 0 0 A) (F0 m 112 ls [])) (σ : ST) (x2 : Int32) (x3 : Int32) (x5 : Int32) (x6 : Int64) (x8 : Int32) (ls : Array Slot) (H : Heap) (locs : List Loc) (O : XH D A s.heap h (xct LM okM h d σ) H locs) (hl : lv_has ls 9 [(0, .ref (h 99 0 0)), (2, .int x2), (3, .int x3), (5, .int x5), (6, .long x6), (8, .int x8)]) (hf : M_X6_longer_b164 kb112 σ x2 x3 x5 x6 x8 = some z) : W p l e (rmD 3 0 0) s m args below meth c H locs 0 0 (MQ below (Ql D (pz z) (cw h LM okM d) A) args s 0 0 A) (F0 m 164 ls []) := by
  have hx := X.1.1; have hb := X.1.2.1
  rw [M_X6_longer_b164] at hf
  obtain ⟨x8_1, ex8_1, hf⟩ := lt1_s hf
  refine lv_iinc (v := x8_1) (lv' := [(8, .int x8_1), (0, .ref (h 99 0 0)), (2, .int x2), (3, .int x3), (5, .int x5), (6, .long x6)]) hx hb dX6_longer_164 hl (k := 5) rfl (by rw [ex8_1]; rfl) (by decide) rfl (fun ls hl => ?_)
  refine lv_goto (tgt := 112) hx hb dX6_longer_167 (by decide) ?_
  exact hkb112 _ _ _ _ _ _ ls _ _ O (lv_sub hl [1, 2, 3, 4, 5, 0] rfl) hf
def M_X6_longer_b150 (kb112 : ST → Int32 → Int32 → Int32 → Int64 → Int32 → Option (ST × Int64)) (σ : ST) (x2 : Int32) (x3 : Int32) (x8 : Int32) : Option (ST × Int64) :=
  lt1 ((gL σ 99 0 0 39) / 1000000) (fun x6_1 => M_X6_longer_b164 kb112 σ x2 x3 x8 x6_1 x8)
theorem w_M_X6_longer_b150 (X : FX p m c meth s args RX6 cX6_longer 9 (some .long)) (K : XK D d A s) {z : ST × Int64} {kb112 : ST → Int32 → Int32 → Int32 → Int64 → Int32 → Option (ST × Int64)} (hkb112 : ∀ (σ : ST) (x2 : Int32) (x3 : Int32) (x5 : Int32) (x6 : Int64) (x8 : Int32) (ls : Array Slot) (H : Heap) (locs : List Loc), XH D A s.heap h (xct LM okM h d σ) H locs → lv_has ls 9 [(0, .ref (h 99 0 0)), (2, .int x2), (3, .int x3), (5, .int x5), (6, .long x6), (8, .int x8)] → kb112 σ x2 x3 x5 x6 x8 = some z → W p l e (rmD 3 0 0) s m args below meth c H locs 0 0 (MQ below (Ql D (pz z) (cw h LM okM d) A) args s 0 0 A) (F0 m 112 ls [])) (σ : ST) (x2 : Int32) (x3 : Int32) (x8 : Int32) (ls : Array Slot) (H : Heap) (locs : List Loc) (O : XH D A s.heap h (xct LM okM h d σ) H locs) (hl : lv_has ls 9 [(0, .ref (h 99 0 0)), (2, .int x2), (3, .int x3), (8, .int x8)]) (hf : M_X6_longer_b150 kb112 σ x2 x3 x8 = some z) : W p l e (rmD 3 0 0) s m args below meth c H locs 0 0 (MQ below (Ql D (pz z) (cw h LM okM d) A) args s 0 0 A) (F0 m 150 ls []) := by
  have hx := X.1.1; have hb := X.1.2.1
  rw [M_X6_longer_b150] at hf
  refine lv_iload hx hb dX6_longer_150 (lv_at hl 3 rfl) ?_
  refine lv_istore (lv' := [(5, .int x8), (0, .ref (h 99 0 0)), (2, .int x2), (3, .int x3), (8, .int x8)]) hx hb dX6_longer_152 hl (by decide) rfl (fun ls hl => ?_)
  refine lv_aload_n hx hb dX6_longer_154 rfl (lv_at hl 1 rfl) ?_
  refine x_gL X K O 39 rfl LM_99 rfl rfl in_X6 (by decide) q1189 dX6_longer_155 ?_
  refine lv_ldc2 (v := 1000000) hx hb X.1.2.2.2.1 (X.1.2.2.2.2 _ q1586) dX6_longer_158 ?_
  refine lv_ldiv hx hb dX6_longer_161 (by decide) ?_
  obtain ⟨x6_1, ex6_1, hf⟩ := lt1_s hf
  refine x_top (w := .long x6_1) (by rw [ex6_1]) ?_
  refine lv_lstore (lv' := [(6, .long x6_1), (5, .int x8), (0, .ref (h 99 0 0)), (2, .int x2), (3, .int x3), (8, .int x8)]) hx hb dX6_longer_162 hl (by decide) rfl (fun ls hl => ?_)
  exact w_M_X6_longer_b164 X K hkb112 _ _ _ _ _ _ ls _ _ O (lv_sub hl [2, 3, 4, 1, 0, 5] rfl) hf
def M_X6_longer_b112 : Nat → ST → Int32 → Int32 → Int32 → Int64 → Int32 → Option (ST × Int64)
  | 0, _, _, _, _, _, _ => none
  | n + 1, σ, x2, x3, x5, x6, x8 =>
    (if 13 < x8 then some (σ, (x5.toInt64)) else bn1 (M_X6_runs σ x8 x2 x3) (fun σ_2 => (if x5 = (-1) then M_X6_longer_b150 (M_X6_longer_b112 n) σ_2 x2 x3 x8 else (if 0 < (lg_cmp ((gL σ_2 99 0 0 39) / 1000000) x6) then M_X6_longer_b150 (M_X6_longer_b112 n) σ_2 x2 x3 x8 else M_X6_longer_b164 (M_X6_longer_b112 n) σ_2 x2 x3 x5 x6 x8))))
theorem w_M_X6_longer_b112 (X : FX p m c meth s args RX6 cX6_longer 9 (some .long)) (K : XK D d A s) {z : ST × Int64} : ∀ (n : Nat) (σ : ST) (x2 : Int32) (x3 : Int32) (x5 : Int32) (x6 : Int64) (x8 : Int32) (ls : Array Slot) (H : Heap) (locs : List Loc), XH D A s.heap h (xct LM okM h d σ) H locs → lv_has ls 9 [(0, .ref (h 99 0 0)), (2, .int x2), (3, .int x3), (5, .int x5), (6, .long x6), (8, .int x8)] → M_X6_longer_b112 n σ x2 x3 x5 x6 x8 = some z → W p l e (rmD 3 0 0) s m args below meth c H locs 0 0 (MQ below (Ql D (pz z) (cw h LM okM d) A) args s 0 0 A) (F0 m 112 ls []) := by
  have hx := X.1.1; have hb := X.1.2.1
  intro n
  induction n with
  | zero =>
    intro σ x2 x3 x5 x6 x8 ls H locs O hl hf
    exact absurd hf (fun q => by cases q)
  | succ n ih =>
    intro σ x2 x3 x5 x6 x8 ls H locs O hl hf
    rw [M_X6_longer_b112] at hf
    refine lv_iload hx hb dX6_longer_112 (lv_at hl 5 rfl) ?_
    refine lv_bipush (v := 13) hx hb dX6_longer_114 (by decide) ?_
    refine lv_icmp_gt (tgt := 170) hx hb dX6_longer_116 (by decide) (fun c_1 => ?_) (fun c_1 => ?_)
    · replace hf := if_t c_1 hf
      refine lv_iload hx hb dX6_longer_170 (lv_at hl 3 rfl) ?_
      refine lv_i2l (v := (x5.toInt64)) hx hb dX6_longer_172 rfl ?_
      exact x_lret X O rfl _ (Option.some.inj hf).symm rfl dX6_longer_173
    · replace hf := if_f c_1 hf
      refine lv_aload_n hx hb dX6_longer_119 rfl (lv_at hl 0 rfl) ?_
      refine lv_iload hx hb dX6_longer_120 (lv_at hl 5 rfl) ?_
      refine lv_iload_n hx hb dX6_longer_122 rfl (lv_at hl 1 rfl) ?_
      refine lv_iload_n hx hb dX6_longer_123 rfl (lv_at hl 2 rfl) ?_
      obtain ⟨σ_2, hg, hf⟩ := bn1_s hf
      refine x_callv (x_runV (As := [.int x8, .int x2, .int x3]) (rest := []) X K O (xct_obj rfl LM_99) rfl (m_M_X6_runs hg) EN_b EN_h (lw_V q1569 q1571 qs91 q124 q1572) 3 rfl hl.1 (Nat.le_of_ble_eq_true rfl) hdV_X6_runs ⟨by decide, by decide⟩ ⟨Nat.le_refl _, Nat.le_refl _⟩ dX6_longer_124) (fun u H locs hp O _ => ?_)
      cases hp
      have O : XH D A s.heap h (xct LM okM h d σ_2) H locs := O
      refine lv_iload hx hb dX6_longer_127 (lv_at hl 3 rfl) ?_
      refine lv_iconst (v := (-1)) hx hb dX6_longer_129 (by decide) ?_
      refine lv_icmp_eq (tgt := 150) hx hb dX6_longer_130 (by decide) (fun c_3 => ?_) (fun c_3 => ?_)
      · replace hf := if_t c_3 hf
        exact w_M_X6_longer_b150 X K ih _ _ _ _ ls _ _ O (lv_sub hl [0, 1, 2, 5] rfl) hf
      · replace hf := if_f c_3 hf
        refine lv_aload_n hx hb dX6_longer_133 rfl (lv_at hl 0 rfl) ?_
        refine x_gL X K O 39 rfl LM_99 rfl rfl in_X6 (by decide) q1189 dX6_longer_134 ?_
        refine lv_ldc2 (v := 1000000) hx hb X.1.2.2.2.1 (X.1.2.2.2.2 _ q1586) dX6_longer_137 ?_
        refine lv_ldiv hx hb dX6_longer_140 (by decide) ?_
        refine lv_lload hx hb dX6_longer_141 (lv_at hl 4 rfl) ?_
        refine W.lcmp hx hb dX6_longer_143 ?_
        refine lv_if_gt (tgt := 150) hx hb dX6_longer_144 (by decide) (fun c_4 => ?_) (fun c_4 => ?_)
        · replace hf := if_t c_4 hf
          exact w_M_X6_longer_b150 X K ih _ _ _ _ ls _ _ O (lv_sub hl [0, 1, 2, 5] rfl) hf
        · replace hf := if_f c_4 hf
          refine lv_goto (tgt := 164) hx hb dX6_longer_147 (by decide) ?_
          exact w_M_X6_longer_b164 X K ih _ _ _ _ _ _ ls _ _ O (lv_sub hl [0, 1, 2, 3, 4, 5] rfl) hf
def M_X6_longer_b21 (σ : ST) (x1 : Int32) (x2 : Int32) (x3 : Int32) (x4 : Int32) : Option (ST × Int64) :=
  bn2 (M_X6_isIn σ x2 1 9) (fun σ_1 r_2 => (if r_2 = 0 then some (σ_1, (-1)) else bn2 (M_X6_isIn σ_1 x3 1 200) (fun σ_4 r_5 => (if r_5 = 0 then some (σ_4, (-1)) else bn2 (M_X6_weights σ_4) (fun σ_7 r_8 => (if r_8 = 0 then some (σ_7, (-1)) else (if x1 = (-1) then M_X6_longer_b112 FUEL σ_7 x2 x3 (-1) 0 1 else bn2 (M_X6_isIn σ_7 x4 0 1) (fun σ_11 r_12 => (if r_12 = 0 then some (σ_11, (-1)) else bn1 (M_X6_runs σ_11 x1 x2 x3) (fun σ_14 => (if x4 = 0 then some (σ_14, (gL σ_14 99 0 0 38)) else some (σ_14, ((gL σ_14 99 0 0 39) / 1000000)))))))))))))
theorem w_M_X6_longer_b21 (X : FX p m c meth s args RX6 cX6_longer 9 (some .long)) (K : XK D d A s) {z : ST × Int64} (σ : ST) (x1 : Int32) (x2 : Int32) (x3 : Int32) (x4 : Int32) (ls : Array Slot) (H : Heap) (locs : List Loc) (O : XH D A s.heap h (xct LM okM h d σ) H locs) (hl : lv_has ls 9 [(0, .ref (h 99 0 0)), (1, .int x1), (2, .int x2), (3, .int x3), (4, .int x4)]) (hf : M_X6_longer_b21 σ x1 x2 x3 x4 = some z) : W p l e (rmD 3 0 0) s m args below meth c H locs 0 0 (MQ below (Ql D (pz z) (cw h LM okM d) A) args s 0 0 A) (F0 m 21 ls []) := by
  have hx := X.1.1; have hb := X.1.2.1
  rw [M_X6_longer_b21] at hf
  refine lv_aload_n hx hb dX6_longer_21 rfl (lv_at hl 0 rfl) ?_
  refine lv_iload_n hx hb dX6_longer_22 rfl (lv_at hl 2 rfl) ?_
  refine lv_iconst (v := 1) hx hb dX6_longer_23 (by decide) ?_
  refine lv_bipush (v := 9) hx hb dX6_longer_24 (by decide) ?_
  obtain ⟨σ_1, r_2, hg, hf⟩ := bn2_s hf
  refine x_calli (x_runV (As := [.int x2, .int 1, .int 9]) (rest := []) X K O (xct_obj rfl LM_99) rfl (m_M_X6_isIn hg) EN_b EN_h (lw_V q1327 q1329 qs45 q124 q1330) 3 rfl hl.1 (Nat.le_of_ble_eq_true rfl) hdV_X6_isIn ⟨by decide, by decide⟩ ⟨Nat.le_refl _, Nat.le_refl _⟩ dX6_longer_26) (fun r u H locs hp O _ => ?_)
  cases hp
  have O : XH D A s.heap h (xct LM okM h d σ_1) H locs := O
  refine lv_if_eq (tgt := 51) hx hb dX6_longer_29 (by decide) (fun c_3 => ?_) (fun c_3 => ?_)
  · replace hf := if_t c_3 hf
    refine lv_ldc2 (v := (-1)) hx hb X.1.2.2.2.1 (X.1.2.2.2.2 _ q1568) dX6_longer_51 ?_
    exact x_lret X O rfl _ (Option.some.inj hf).symm rfl dX6_longer_54
  · replace hf := if_f c_3 hf
    refine lv_aload_n hx hb dX6_longer_32 rfl (lv_at hl 0 rfl) ?_
    refine lv_iload_n hx hb dX6_longer_33 rfl (lv_at hl 3 rfl) ?_
    refine lv_iconst (v := 1) hx hb dX6_longer_34 (by decide) ?_
    refine lv_sipush (v := 200) hx hb dX6_longer_35 (by decide) ?_
    obtain ⟨σ_4, r_5, hg, hf⟩ := bn2_s hf
    refine x_calli (x_runV (As := [.int x3, .int 1, .int 200]) (rest := []) X K O (xct_obj rfl LM_99) rfl (m_M_X6_isIn hg) EN_b EN_h (lw_V q1327 q1329 qs45 q124 q1330) 3 rfl hl.1 (Nat.le_of_ble_eq_true rfl) hdV_X6_isIn ⟨by decide, by decide⟩ ⟨Nat.le_refl _, Nat.le_refl _⟩ dX6_longer_38) (fun r u H locs hp O _ => ?_)
    cases hp
    have O : XH D A s.heap h (xct LM okM h d σ_4) H locs := O
    refine lv_if_eq (tgt := 51) hx hb dX6_longer_41 (by decide) (fun c_6 => ?_) (fun c_6 => ?_)
    · replace hf := if_t c_6 hf
      refine lv_ldc2 (v := (-1)) hx hb X.1.2.2.2.1 (X.1.2.2.2.2 _ q1568) dX6_longer_51 ?_
      exact x_lret X O rfl _ (Option.some.inj hf).symm rfl dX6_longer_54
    · replace hf := if_f c_6 hf
      refine lv_aload_n hx hb dX6_longer_44 rfl (lv_at hl 0 rfl) ?_
      obtain ⟨σ_7, r_8, hg, hf⟩ := bn2_s hf
      refine x_calli (x_runV (As := []) (rest := []) X K O (xct_obj rfl LM_99) rfl (m_M_X6_weights hg) EN_b EN_h (lw_V q1530 q1532 qs84 q124 q1533) 0 rfl hl.1 (Nat.le_of_ble_eq_true rfl) hdV_X6_weights ⟨by decide, by decide⟩ ⟨Nat.le_refl _, Nat.le_refl _⟩ dX6_longer_45) (fun r u H locs hp O _ => ?_)
      cases hp
      have O : XH D A s.heap h (xct LM okM h d σ_7) H locs := O
      refine lv_if_ne (tgt := 55) hx hb dX6_longer_48 (by decide) (fun c_9 => ?_) (fun c_9 => ?_)
      · replace hf := if_f c_9 hf
        refine lv_iload_n hx hb dX6_longer_55 rfl (lv_at hl 1 rfl) ?_
        refine lv_iconst (v := (-1)) hx hb dX6_longer_56 (by decide) ?_
        refine lv_icmp_eq (tgt := 103) hx hb dX6_longer_57 (by decide) (fun c_10 => ?_) (fun c_10 => ?_)
        · replace hf := if_t c_10 hf
          refine lv_iconst (v := (-1)) hx hb dX6_longer_103 (by decide) ?_
          refine lv_istore (lv' := [(5, .int (-1)), (0, .ref (h 99 0 0)), (1, .int x1), (2, .int x2), (3, .int x3), (4, .int x4)]) hx hb dX6_longer_104 hl (by decide) rfl (fun ls hl => ?_)
          refine lv_lconst (v := 0) hx hb dX6_longer_106 (by decide) ?_
          refine lv_lstore (lv' := [(6, .long 0), (5, .int (-1)), (0, .ref (h 99 0 0)), (1, .int x1), (2, .int x2), (3, .int x3), (4, .int x4)]) hx hb dX6_longer_107 hl (by decide) rfl (fun ls hl => ?_)
          refine lv_iconst (v := 1) hx hb dX6_longer_109 (by decide) ?_
          refine lv_istore (lv' := [(8, .int 1), (6, .long 0), (5, .int (-1)), (0, .ref (h 99 0 0)), (1, .int x1), (2, .int x2), (3, .int x3), (4, .int x4)]) hx hb dX6_longer_110 hl (by decide) rfl (fun ls hl => ?_)
          exact w_M_X6_longer_b112 X K _ _ _ _ _ _ _ ls _ _ O (lv_sub hl [3, 5, 6, 2, 1, 0] rfl) hf
        · replace hf := if_f c_10 hf
          refine lv_aload_n hx hb dX6_longer_60 rfl (lv_at hl 0 rfl) ?_
          refine lv_iload hx hb dX6_longer_61 (lv_at hl 4 rfl) ?_
          refine lv_iconst (v := 0) hx hb dX6_longer_63 (by decide) ?_
          refine lv_iconst (v := 1) hx hb dX6_longer_64 (by decide) ?_
          obtain ⟨σ_11, r_12, hg, hf⟩ := bn2_s hf
          refine x_calli (x_runV (As := [.int x4, .int 0, .int 1]) (rest := []) X K O (xct_obj rfl LM_99) rfl (m_M_X6_isIn hg) EN_b EN_h (lw_V q1327 q1329 qs45 q124 q1330) 3 rfl hl.1 (Nat.le_of_ble_eq_true rfl) hdV_X6_isIn ⟨by decide, by decide⟩ ⟨Nat.le_refl _, Nat.le_refl _⟩ dX6_longer_65) (fun r u H locs hp O _ => ?_)
          cases hp
          have O : XH D A s.heap h (xct LM okM h d σ_11) H locs := O
          refine lv_if_ne (tgt := 75) hx hb dX6_longer_68 (by decide) (fun c_13 => ?_) (fun c_13 => ?_)
          · replace hf := if_f c_13 hf
            refine lv_aload_n hx hb dX6_longer_75 rfl (lv_at hl 0 rfl) ?_
            refine lv_iload_n hx hb dX6_longer_76 rfl (lv_at hl 1 rfl) ?_
            refine lv_iload_n hx hb dX6_longer_77 rfl (lv_at hl 2 rfl) ?_
            refine lv_iload_n hx hb dX6_longer_78 rfl (lv_at hl 3 rfl) ?_
            obtain ⟨σ_14, hg, hf⟩ := bn1_s hf
            refine x_callv (x_runV (As := [.int x1, .int x2, .int x3]) (rest := []) X K O (xct_obj rfl LM_99) rfl (m_M_X6_runs hg) EN_b EN_h (lw_V q1569 q1571 qs91 q124 q1572) 3 rfl hl.1 (Nat.le_of_ble_eq_true rfl) hdV_X6_runs ⟨by decide, by decide⟩ ⟨Nat.le_refl _, Nat.le_refl _⟩ dX6_longer_79) (fun u H locs hp O _ => ?_)
            cases hp
            have O : XH D A s.heap h (xct LM okM h d σ_14) H locs := O
            refine lv_iload hx hb dX6_longer_82 (lv_at hl 4 rfl) ?_
            refine lv_if_ne (tgt := 94) hx hb dX6_longer_84 (by decide) (fun c_15 => ?_) (fun c_15 => ?_)
            · replace hf := if_f c_15 hf
              refine lv_aload_n hx hb dX6_longer_94 rfl (lv_at hl 0 rfl) ?_
              refine x_gL X K O 39 rfl LM_99 rfl rfl in_X6 (by decide) q1189 dX6_longer_95 ?_
              refine lv_ldc2 (v := 1000000) hx hb X.1.2.2.2.1 (X.1.2.2.2.2 _ q1586) dX6_longer_98 ?_
              refine lv_ldiv hx hb dX6_longer_101 (by decide) ?_
              exact x_lret X O rfl _ (Option.some.inj hf).symm rfl dX6_longer_102
            · replace hf := if_t c_15 hf
              refine lv_aload_n hx hb dX6_longer_87 rfl (lv_at hl 0 rfl) ?_
              refine x_gL X K O 38 rfl LM_99 rfl rfl in_X6 (by decide) q1188 dX6_longer_88 ?_
              refine lv_goto (tgt := 102) hx hb dX6_longer_91 (by decide) ?_
              exact x_lret X O rfl _ (Option.some.inj hf).symm rfl dX6_longer_102
          · replace hf := if_t c_13 hf
            refine lv_ldc2 (v := (-1)) hx hb X.1.2.2.2.1 (X.1.2.2.2.2 _ q1568) dX6_longer_71 ?_
            exact x_lret X O rfl _ (Option.some.inj hf).symm rfl dX6_longer_74
      · replace hf := if_t c_9 hf
        refine lv_ldc2 (v := (-1)) hx hb X.1.2.2.2.1 (X.1.2.2.2.2 _ q1568) dX6_longer_51 ?_
        exact x_lret X O rfl _ (Option.some.inj hf).symm rfl dX6_longer_54
def M_X6_longer (σ : ST) (p1 : Int32) (p2 : Int32) (p3 : Int32) (p4 : Int32) : Option (ST × Int64) :=
  lt1 (sI σ 99 0 0 0 0) (fun σ_1 => bn2 (M_X6_isIn σ_1 p1 1 13) (fun σ_2 r_3 => (if r_3 = 0 then (if p1 = (-1) then M_X6_longer_b21 σ_2 p1 p2 p3 p4 else some (σ_2, (-1))) else M_X6_longer_b21 σ_2 p1 p2 p3 p4)))
theorem m_M_X6_longer {l : Launch} {D : va_G} {d : Nat → ClassId} {h : IX} {p1 : Int32} {p2 : Int32} {p3 : Int32} {p4 : Int32} {σ : ST} {z : ST × Int64} (hf : M_X6_longer σ p1 p2 p3 p4 = some z) : XM l D d EN yX6_longer cX6_longer 9 (some .long) 3 0 0 [.ref (h 99 0 0), .int p1, .int p2, .int p3, .int p4] h (xct LM okM h d σ) (Ql D (pz z) (cw h LM okM d)) := by
  refine XM.of (by decide +kernel) (Nat.le_of_ble_eq_true rfl) ?_
  intro p e s m below meth c A ls X _ K _ O hl
  have hl : lv_has ls 9 [(0, .ref (h 99 0 0)), (1, .int p1), (2, .int p2), (3, .int p3), (4, .int p4)] := hl
  have hx := X.1.1; have hb := X.1.2.1
  rw [M_X6_longer] at hf
  refine lv_aload_n hx hb dX6_longer_0 rfl (lv_at hl 0 rfl) ?_
  refine lv_iconst (v := 0) hx hb dX6_longer_1 (by decide) ?_
  obtain ⟨σ_1, eσ_1, hf⟩ := lt1_s hf
  refine x_pI X K O 0 rfl LM_99 rfl rfl in_X6 tyX6_ok nmX6 (by decide) q1150 rfl rfl rfl dX6_longer_2 (fun H locs O => ?_)
  rw [← eσ_1] at O
  refine lv_aload_n hx hb dX6_longer_5 rfl (lv_at hl 0 rfl) ?_
  refine lv_iload_n hx hb dX6_longer_6 rfl (lv_at hl 1 rfl) ?_
  refine lv_iconst (v := 1) hx hb dX6_longer_7 (by decide) ?_
  refine lv_bipush (v := 13) hx hb dX6_longer_8 (by decide) ?_
  obtain ⟨σ_2, r_3, hg, hf⟩ := bn2_s hf
  refine x_calli (x_runV (As := [.int p1, .int 1, .int 13]) (rest := []) X K O (xct_obj rfl LM_99) rfl (m_M_X6_isIn hg) EN_b EN_h (lw_V q1327 q1329 qs45 q124 q1330) 3 rfl hl.1 (Nat.le_of_ble_eq_true rfl) hdV_X6_isIn ⟨by decide, by decide⟩ ⟨Nat.le_refl _, Nat.le_refl _⟩ dX6_longer_10) (fun r u H locs hp O _ => ?_)
  cases hp
  have O : XH D A s.heap h (xct LM okM h d σ_2) H locs := O
  refine lv_if_ne (tgt := 21) hx hb dX6_longer_13 (by decide) (fun c_4 => ?_) (fun c_4 => ?_)
  · replace hf := if_f c_4 hf
    exact w_M_X6_longer_b21 X K _ _ _ _ _ ls _ _ O (lv_sub hl [0, 1, 2, 3, 4] rfl) hf
  · replace hf := if_t c_4 hf
    refine lv_iload_n hx hb dX6_longer_16 rfl (lv_at hl 1 rfl) ?_
    refine lv_iconst (v := (-1)) hx hb dX6_longer_17 (by decide) ?_
    refine lv_icmp_ne (tgt := 51) hx hb dX6_longer_18 (by decide) (fun c_5 => ?_) (fun c_5 => ?_)
    · replace hf := if_f c_5 hf
      refine lv_ldc2 (v := (-1)) hx hb X.1.2.2.2.1 (X.1.2.2.2.2 _ q1568) dX6_longer_51 ?_
      exact x_lret X O rfl _ (Option.some.inj hf).symm rfl dX6_longer_54
    · replace hf := if_t c_5 hf
      exact w_M_X6_longer_b21 X K _ _ _ _ _ ls _ _ O (lv_sub hl [0, 1, 2, 3, 4] rfl) hf
def M_X6_millions (σ : ST) (p1 : Int64) : Option (ST × Int64) :=
  lt1 (p1 / 1000000) (fun x3_1 => (if 0 ≤ (lg_cmp p1 0) then some (σ, x3_1) else (if (lg_cmp (p1 - p1 / 1000000 * 1000000) 0) = 0 then some (σ, x3_1) else some (σ, (x3_1 - 1)))))
theorem m_M_X6_millions {l : Launch} {D : va_G} {d : Nat → ClassId} {h : IX} {p1 : Int64} {σ : ST} {z : ST × Int64} (hf : M_X6_millions σ p1 = some z) : XM l D d EN yX6_millions cX6_millions 5 (some .long) 0 0 0 [.ref (h 99 0 0), .long p1] h (xct LM okM h d σ) (Ql D (pz z) (cw h LM okM d)) := by
  refine XM.of (by decide +kernel) (Nat.le_of_ble_eq_true rfl) ?_
  intro p e s m below meth c A ls X _ K _ O hl
  have hl : lv_has ls 5 [(0, .ref (h 99 0 0)), (1, .long p1)] := hl
  have hx := X.1.1; have hb := X.1.2.1
  rw [M_X6_millions] at hf
  refine lv_lload_n hx hb dX6_millions_0 rfl (lv_at hl 1 rfl) ?_
  refine lv_ldc2 (v := 1000000) hx hb X.1.2.2.2.1 (X.1.2.2.2.2 _ q1586) dX6_millions_1 ?_
  refine lv_ldiv hx hb dX6_millions_4 (by decide) ?_
  obtain ⟨x3_1, ex3_1, hf⟩ := lt1_s hf
  refine x_top (w := .long x3_1) (by rw [ex3_1]) ?_
  refine lv_lstore_n (lv' := [(3, .long x3_1), (0, .ref (h 99 0 0)), (1, .long p1)]) hx hb dX6_millions_5 rfl hl (by decide) rfl (fun ls hl => ?_)
  refine lv_lload_n hx hb dX6_millions_6 rfl (lv_at hl 2 rfl) ?_
  refine lv_lconst (v := 0) hx hb dX6_millions_7 (by decide) ?_
  refine W.lcmp hx hb dX6_millions_8 ?_
  refine lv_if_ge (tgt := 28) hx hb dX6_millions_9 (by decide) (fun c_2 => ?_) (fun c_2 => ?_)
  · replace hf := if_t c_2 hf
    refine lv_lload_n hx hb dX6_millions_28 rfl (lv_at hl 0 rfl) ?_
    exact x_lret X O rfl _ (Option.some.inj hf).symm rfl dX6_millions_29
  · replace hf := if_f c_2 hf
    refine lv_lload_n hx hb dX6_millions_12 rfl (lv_at hl 2 rfl) ?_
    refine lv_ldc2 (v := 1000000) hx hb X.1.2.2.2.1 (X.1.2.2.2.2 _ q1586) dX6_millions_13 ?_
    refine lv_lrem hx hb dX6_millions_16 (by decide) ?_
    refine lv_lconst (v := 0) hx hb dX6_millions_17 (by decide) ?_
    refine W.lcmp hx hb dX6_millions_18 ?_
    refine lv_if_eq (tgt := 28) hx hb dX6_millions_19 (by decide) (fun c_3 => ?_) (fun c_3 => ?_)
    · replace hf := if_t c_3 hf
      refine lv_lload_n hx hb dX6_millions_28 rfl (lv_at hl 0 rfl) ?_
      exact x_lret X O rfl _ (Option.some.inj hf).symm rfl dX6_millions_29
    · replace hf := if_f c_3 hf
      refine lv_lload_n hx hb dX6_millions_22 rfl (lv_at hl 0 rfl) ?_
      refine lv_lconst (v := 1) hx hb dX6_millions_23 (by decide) ?_
      refine lv_lsub hx hb dX6_millions_24 ?_
      refine lv_goto (tgt := 29) hx hb dX6_millions_25 (by decide) ?_
      exact x_lret X O rfl _ (Option.some.inj hf).symm rfl dX6_millions_29
theorem hdV_X6_millions : yX6_millions.cls = RX6 ∧ (yX6_millions.cls ≠ "java/lang/invoke/MethodHandle" ∧ yX6_millions.cls ≠ "java/lang/invoke/VarHandle" ∧ (parseMethodDescriptor yX6_millions.desc).map (fun d => d.parameters.length) = some 1) := by decide +kernel
def M_X6_common_b137 (kb85 : ST → Int32 → Int32 → Int32 → Int64 → Int32 → Option (ST × Int64)) (σ : ST) (x1 : Int32) (x3 : Int32) (x4 : Int32) (x5 : Int64) (x7 : Int32) : Option (ST × Int64) :=
  lt1 (x7 + 1) (fun x7_1 => kb85 σ x1 x3 x4 x5 x7_1)
theorem w_M_X6_common_b137 (X : FX p m c meth s args RX6 cX6_common 8 (some .long)) (K : XK D d A s) {z : ST × Int64} {kb85 : ST → Int32 → Int32 → Int32 → Int64 → Int32 → Option (ST × Int64)} (hkb85 : ∀ (σ : ST) (x1 : Int32) (x3 : Int32) (x4 : Int32) (x5 : Int64) (x7 : Int32) (ls : Array Slot) (H : Heap) (locs : List Loc), XH D A s.heap h (xct LM okM h d σ) H locs → lv_has ls 8 [(0, .ref (h 99 0 0)), (1, .int x1), (3, .int x3), (4, .int x4), (5, .long x5), (7, .int x7)] → kb85 σ x1 x3 x4 x5 x7 = some z → W p l e (rmD 3 0 0) s m args below meth c H locs 0 0 (MQ below (Ql D (pz z) (cw h LM okM d) A) args s 0 0 A) (F0 m 85 ls [])) (σ : ST) (x1 : Int32) (x3 : Int32) (x4 : Int32) (x5 : Int64) (x7 : Int32) (ls : Array Slot) (H : Heap) (locs : List Loc) (O : XH D A s.heap h (xct LM okM h d σ) H locs) (hl : lv_has ls 8 [(0, .ref (h 99 0 0)), (1, .int x1), (3, .int x3), (4, .int x4), (5, .long x5), (7, .int x7)]) (hf : M_X6_common_b137 kb85 σ x1 x3 x4 x5 x7 = some z) : W p l e (rmD 3 0 0) s m args below meth c H locs 0 0 (MQ below (Ql D (pz z) (cw h LM okM d) A) args s 0 0 A) (F0 m 137 ls []) := by
  have hx := X.1.1; have hb := X.1.2.1
  rw [M_X6_common_b137] at hf
  obtain ⟨x7_1, ex7_1, hf⟩ := lt1_s hf
  refine lv_iinc (v := x7_1) (lv' := [(7, .int x7_1), (0, .ref (h 99 0 0)), (1, .int x1), (3, .int x3), (4, .int x4), (5, .long x5)]) hx hb dX6_common_137 hl (k := 5) rfl (by rw [ex7_1]; rfl) (by decide) rfl (fun ls hl => ?_)
  refine lv_goto (tgt := 85) hx hb dX6_common_140 (by decide) ?_
  exact hkb85 _ _ _ _ _ _ ls _ _ O (lv_sub hl [1, 2, 3, 4, 5, 0] rfl) hf
def M_X6_common_b123 (kb85 : ST → Int32 → Int32 → Int32 → Int64 → Int32 → Option (ST × Int64)) (σ : ST) (x1 : Int32) (x3 : Int32) (x7 : Int32) : Option (ST × Int64) :=
  bn2 (M_X6_millions σ (gL σ 99 0 0 40)) (fun σ_1 r_2 => M_X6_common_b137 kb85 σ_1 x1 x3 x7 r_2 x7)
theorem w_M_X6_common_b123 (X : FX p m c meth s args RX6 cX6_common 8 (some .long)) (K : XK D d A s) {z : ST × Int64} {kb85 : ST → Int32 → Int32 → Int32 → Int64 → Int32 → Option (ST × Int64)} (hkb85 : ∀ (σ : ST) (x1 : Int32) (x3 : Int32) (x4 : Int32) (x5 : Int64) (x7 : Int32) (ls : Array Slot) (H : Heap) (locs : List Loc), XH D A s.heap h (xct LM okM h d σ) H locs → lv_has ls 8 [(0, .ref (h 99 0 0)), (1, .int x1), (3, .int x3), (4, .int x4), (5, .long x5), (7, .int x7)] → kb85 σ x1 x3 x4 x5 x7 = some z → W p l e (rmD 3 0 0) s m args below meth c H locs 0 0 (MQ below (Ql D (pz z) (cw h LM okM d) A) args s 0 0 A) (F0 m 85 ls [])) (σ : ST) (x1 : Int32) (x3 : Int32) (x7 : Int32) (ls : Array Slot) (H : Heap) (locs : List Loc) (O : XH D A s.heap h (xct LM okM h d σ) H locs) (hl : lv_has ls 8 [(0, .ref (h 99 0 0)), (1, .int x1), (3, .int x3), (7, .int x7)]) (hf : M_X6_common_b123 kb85 σ x1 x3 x7 = some z) : W p l e (rmD 3 0 0) s m args below meth c H locs 0 0 (MQ below (Ql D (pz z) (cw h LM okM d) A) args s 0 0 A) (F0 m 123 ls []) := by
  have hx := X.1.1; have hb := X.1.2.1
  rw [M_X6_common_b123] at hf
  refine lv_iload hx hb dX6_common_123 (lv_at hl 3 rfl) ?_
  refine lv_istore (lv' := [(4, .int x7), (0, .ref (h 99 0 0)), (1, .int x1), (3, .int x3), (7, .int x7)]) hx hb dX6_common_125 hl (by decide) rfl (fun ls hl => ?_)
  refine lv_aload_n hx hb dX6_common_127 rfl (lv_at hl 1 rfl) ?_
  refine lv_aload_n hx hb dX6_common_128 rfl (lv_at hl 1 rfl) ?_
  refine x_gL X K O 40 rfl LM_99 rfl rfl in_X6 (by decide) q1190 dX6_common_129 ?_
  obtain ⟨σ_1, r_2, hg, hf⟩ := bn2_s hf
  refine x_calll (x_runV (As := [.long (gL σ 99 0 0 40)]) (rest := []) X K O (xct_obj rfl LM_99) rfl (m_M_X6_millions hg) EN_b EN_h (lw_V q1591 q1593 qs95 q124 q1594) 1 rfl hl.1 (Nat.le_of_ble_eq_true rfl) hdV_X6_millions ⟨by decide, by decide⟩ ⟨Nat.le_refl _, Nat.le_refl _⟩ dX6_common_132) (fun r u H locs hp O _ => ?_)
  cases hp
  have O : XH D A s.heap h (xct LM okM h d σ_1) H locs := O
  refine lv_lstore (lv' := [(5, .long r_2), (4, .int x7), (0, .ref (h 99 0 0)), (1, .int x1), (3, .int x3), (7, .int x7)]) hx hb dX6_common_135 hl (by decide) rfl (fun ls hl => ?_)
  exact w_M_X6_common_b137 X K hkb85 _ _ _ _ _ _ ls _ _ O (lv_sub hl [2, 3, 4, 1, 0, 5] rfl) hf
def M_X6_common_b85 : Nat → ST → Int32 → Int32 → Int32 → Int64 → Int32 → Option (ST × Int64)
  | 0, _, _, _, _, _, _ => none
  | n + 1, σ, x1, x3, x4, x5, x7 =>
    (if 9 < x7 then some (σ, (x4.toInt64)) else bn1 (M_X6_runs σ x1 x7 x3) (fun σ_2 => (if x4 = (-1) then M_X6_common_b123 (M_X6_common_b85 n) σ_2 x1 x3 x7 else bn2 (M_X6_millions σ_2 (gL σ_2 99 0 0 40)) (fun σ_4 r_5 => (if 0 < (lg_cmp r_5 x5) then M_X6_common_b123 (M_X6_common_b85 n) σ_4 x1 x3 x7 else M_X6_common_b137 (M_X6_common_b85 n) σ_4 x1 x3 x4 x5 x7)))))
theorem w_M_X6_common_b85 (X : FX p m c meth s args RX6 cX6_common 8 (some .long)) (K : XK D d A s) {z : ST × Int64} : ∀ (n : Nat) (σ : ST) (x1 : Int32) (x3 : Int32) (x4 : Int32) (x5 : Int64) (x7 : Int32) (ls : Array Slot) (H : Heap) (locs : List Loc), XH D A s.heap h (xct LM okM h d σ) H locs → lv_has ls 8 [(0, .ref (h 99 0 0)), (1, .int x1), (3, .int x3), (4, .int x4), (5, .long x5), (7, .int x7)] → M_X6_common_b85 n σ x1 x3 x4 x5 x7 = some z → W p l e (rmD 3 0 0) s m args below meth c H locs 0 0 (MQ below (Ql D (pz z) (cw h LM okM d) A) args s 0 0 A) (F0 m 85 ls []) := by
  have hx := X.1.1; have hb := X.1.2.1
  intro n
  induction n with
  | zero =>
    intro σ x1 x3 x4 x5 x7 ls H locs O hl hf
    exact absurd hf (fun q => by cases q)
  | succ n ih =>
    intro σ x1 x3 x4 x5 x7 ls H locs O hl hf
    rw [M_X6_common_b85] at hf
    refine lv_iload hx hb dX6_common_85 (lv_at hl 5 rfl) ?_
    refine lv_bipush (v := 9) hx hb dX6_common_87 (by decide) ?_
    refine lv_icmp_gt (tgt := 143) hx hb dX6_common_89 (by decide) (fun c_1 => ?_) (fun c_1 => ?_)
    · replace hf := if_t c_1 hf
      refine lv_iload hx hb dX6_common_143 (lv_at hl 3 rfl) ?_
      refine lv_i2l (v := (x4.toInt64)) hx hb dX6_common_145 rfl ?_
      exact x_lret X O rfl _ (Option.some.inj hf).symm rfl dX6_common_146
    · replace hf := if_f c_1 hf
      refine lv_aload_n hx hb dX6_common_92 rfl (lv_at hl 0 rfl) ?_
      refine lv_iload_n hx hb dX6_common_93 rfl (lv_at hl 1 rfl) ?_
      refine lv_iload hx hb dX6_common_94 (lv_at hl 5 rfl) ?_
      refine lv_iload_n hx hb dX6_common_96 rfl (lv_at hl 2 rfl) ?_
      obtain ⟨σ_2, hg, hf⟩ := bn1_s hf
      refine x_callv (x_runV (As := [.int x1, .int x7, .int x3]) (rest := []) X K O (xct_obj rfl LM_99) rfl (m_M_X6_runs hg) EN_b EN_h (lw_V q1569 q1571 qs91 q124 q1572) 3 rfl hl.1 (Nat.le_of_ble_eq_true rfl) hdV_X6_runs ⟨by decide, by decide⟩ ⟨Nat.le_refl _, Nat.le_refl _⟩ dX6_common_97) (fun u H locs hp O _ => ?_)
      cases hp
      have O : XH D A s.heap h (xct LM okM h d σ_2) H locs := O
      refine lv_iload hx hb dX6_common_100 (lv_at hl 3 rfl) ?_
      refine lv_iconst (v := (-1)) hx hb dX6_common_102 (by decide) ?_
      refine lv_icmp_eq (tgt := 123) hx hb dX6_common_103 (by decide) (fun c_3 => ?_) (fun c_3 => ?_)
      · replace hf := if_t c_3 hf
        exact w_M_X6_common_b123 X K ih _ _ _ _ ls _ _ O (lv_sub hl [0, 1, 2, 5] rfl) hf
      · replace hf := if_f c_3 hf
        refine lv_aload_n hx hb dX6_common_106 rfl (lv_at hl 0 rfl) ?_
        refine lv_aload_n hx hb dX6_common_107 rfl (lv_at hl 0 rfl) ?_
        refine x_gL X K O 40 rfl LM_99 rfl rfl in_X6 (by decide) q1190 dX6_common_108 ?_
        obtain ⟨σ_4, r_5, hg, hf⟩ := bn2_s hf
        refine x_calll (x_runV (As := [.long (gL σ_2 99 0 0 40)]) (rest := []) X K O (xct_obj rfl LM_99) rfl (m_M_X6_millions hg) EN_b EN_h (lw_V q1591 q1593 qs95 q124 q1594) 1 rfl hl.1 (Nat.le_of_ble_eq_true rfl) hdV_X6_millions ⟨by decide, by decide⟩ ⟨Nat.le_refl _, Nat.le_refl _⟩ dX6_common_111) (fun r u H locs hp O _ => ?_)
        cases hp
        have O : XH D A s.heap h (xct LM okM h d σ_4) H locs := O
        refine lv_lload hx hb dX6_common_114 (lv_at hl 4 rfl) ?_
        refine W.lcmp hx hb dX6_common_116 ?_
        refine lv_if_gt (tgt := 123) hx hb dX6_common_117 (by decide) (fun c_6 => ?_) (fun c_6 => ?_)
        · replace hf := if_t c_6 hf
          exact w_M_X6_common_b123 X K ih _ _ _ _ ls _ _ O (lv_sub hl [0, 1, 2, 5] rfl) hf
        · replace hf := if_f c_6 hf
          refine lv_goto (tgt := 137) hx hb dX6_common_120 (by decide) ?_
          exact w_M_X6_common_b137 X K ih _ _ _ _ _ _ ls _ _ O (lv_sub hl [0, 1, 2, 3, 4, 5] rfl) hf
def M_X6_common_b32 (σ : ST) (x1 : Int32) (x2 : Int32) (x3 : Int32) : Option (ST × Int64) :=
  bn2 (M_X6_isIn σ x3 1 200) (fun σ_1 r_2 => (if r_2 = 0 then some (σ_1, (-1000000000)) else bn2 (M_X6_weights σ_1) (fun σ_4 r_5 => (if r_5 = 0 then some (σ_4, (-1000000000)) else (if x2 = (-1) then M_X6_common_b85 FUEL σ_4 x1 x3 (-1) 0 1 else bn1 (M_X6_runs σ_4 x1 x2 x3) (fun σ_8 => bn2 (M_X6_millions σ_8 (gL σ_8 99 0 0 40)) (fun σ_9 r_10 => some (σ_9, r_10))))))))
theorem w_M_X6_common_b32 (X : FX p m c meth s args RX6 cX6_common 8 (some .long)) (K : XK D d A s) {z : ST × Int64} (σ : ST) (x1 : Int32) (x2 : Int32) (x3 : Int32) (ls : Array Slot) (H : Heap) (locs : List Loc) (O : XH D A s.heap h (xct LM okM h d σ) H locs) (hl : lv_has ls 8 [(0, .ref (h 99 0 0)), (1, .int x1), (2, .int x2), (3, .int x3)]) (hf : M_X6_common_b32 σ x1 x2 x3 = some z) : W p l e (rmD 3 0 0) s m args below meth c H locs 0 0 (MQ below (Ql D (pz z) (cw h LM okM d) A) args s 0 0 A) (F0 m 32 ls []) := by
  have hx := X.1.1; have hb := X.1.2.1
  rw [M_X6_common_b32] at hf
  refine lv_aload_n hx hb dX6_common_32 rfl (lv_at hl 0 rfl) ?_
  refine lv_iload_n hx hb dX6_common_33 rfl (lv_at hl 3 rfl) ?_
  refine lv_iconst (v := 1) hx hb dX6_common_34 (by decide) ?_
  refine lv_sipush (v := 200) hx hb dX6_common_35 (by decide) ?_
  obtain ⟨σ_1, r_2, hg, hf⟩ := bn2_s hf
  refine x_calli (x_runV (As := [.int x3, .int 1, .int 200]) (rest := []) X K O (xct_obj rfl LM_99) rfl (m_M_X6_isIn hg) EN_b EN_h (lw_V q1327 q1329 qs45 q124 q1330) 3 rfl hl.1 (Nat.le_of_ble_eq_true rfl) hdV_X6_isIn ⟨by decide, by decide⟩ ⟨Nat.le_refl _, Nat.le_refl _⟩ dX6_common_38) (fun r u H locs hp O _ => ?_)
  cases hp
  have O : XH D A s.heap h (xct LM okM h d σ_1) H locs := O
  refine lv_if_eq (tgt := 51) hx hb dX6_common_41 (by decide) (fun c_3 => ?_) (fun c_3 => ?_)
  · replace hf := if_t c_3 hf
    refine lv_ldc2 (v := (-1000000000)) hx hb X.1.2.2.2.1 (X.1.2.2.2.2 _ q1542) dX6_common_51 ?_
    exact x_lret X O rfl _ (Option.some.inj hf).symm rfl dX6_common_54
  · replace hf := if_f c_3 hf
    refine lv_aload_n hx hb dX6_common_44 rfl (lv_at hl 0 rfl) ?_
    obtain ⟨σ_4, r_5, hg, hf⟩ := bn2_s hf
    refine x_calli (x_runV (As := []) (rest := []) X K O (xct_obj rfl LM_99) rfl (m_M_X6_weights hg) EN_b EN_h (lw_V q1530 q1532 qs84 q124 q1533) 0 rfl hl.1 (Nat.le_of_ble_eq_true rfl) hdV_X6_weights ⟨by decide, by decide⟩ ⟨Nat.le_refl _, Nat.le_refl _⟩ dX6_common_45) (fun r u H locs hp O _ => ?_)
    cases hp
    have O : XH D A s.heap h (xct LM okM h d σ_4) H locs := O
    refine lv_if_ne (tgt := 55) hx hb dX6_common_48 (by decide) (fun c_6 => ?_) (fun c_6 => ?_)
    · replace hf := if_f c_6 hf
      refine lv_iload_n hx hb dX6_common_55 rfl (lv_at hl 2 rfl) ?_
      refine lv_iconst (v := (-1)) hx hb dX6_common_56 (by decide) ?_
      refine lv_icmp_eq (tgt := 76) hx hb dX6_common_57 (by decide) (fun c_7 => ?_) (fun c_7 => ?_)
      · replace hf := if_t c_7 hf
        refine lv_iconst (v := (-1)) hx hb dX6_common_76 (by decide) ?_
        refine lv_istore (lv' := [(4, .int (-1)), (0, .ref (h 99 0 0)), (1, .int x1), (2, .int x2), (3, .int x3)]) hx hb dX6_common_77 hl (by decide) rfl (fun ls hl => ?_)
        refine lv_lconst (v := 0) hx hb dX6_common_79 (by decide) ?_
        refine lv_lstore (lv' := [(5, .long 0), (4, .int (-1)), (0, .ref (h 99 0 0)), (1, .int x1), (2, .int x2), (3, .int x3)]) hx hb dX6_common_80 hl (by decide) rfl (fun ls hl => ?_)
        refine lv_iconst (v := 1) hx hb dX6_common_82 (by decide) ?_
        refine lv_istore (lv' := [(7, .int 1), (5, .long 0), (4, .int (-1)), (0, .ref (h 99 0 0)), (1, .int x1), (2, .int x2), (3, .int x3)]) hx hb dX6_common_83 hl (by decide) rfl (fun ls hl => ?_)
        exact w_M_X6_common_b85 X K _ _ _ _ _ _ _ ls _ _ O (lv_sub hl [3, 4, 6, 2, 1, 0] rfl) hf
      · replace hf := if_f c_7 hf
        refine lv_aload_n hx hb dX6_common_60 rfl (lv_at hl 0 rfl) ?_
        refine lv_iload_n hx hb dX6_common_61 rfl (lv_at hl 1 rfl) ?_
        refine lv_iload_n hx hb dX6_common_62 rfl (lv_at hl 2 rfl) ?_
        refine lv_iload_n hx hb dX6_common_63 rfl (lv_at hl 3 rfl) ?_
        obtain ⟨σ_8, hg, hf⟩ := bn1_s hf
        refine x_callv (x_runV (As := [.int x1, .int x2, .int x3]) (rest := []) X K O (xct_obj rfl LM_99) rfl (m_M_X6_runs hg) EN_b EN_h (lw_V q1569 q1571 qs91 q124 q1572) 3 rfl hl.1 (Nat.le_of_ble_eq_true rfl) hdV_X6_runs ⟨by decide, by decide⟩ ⟨Nat.le_refl _, Nat.le_refl _⟩ dX6_common_64) (fun u H locs hp O _ => ?_)
        cases hp
        have O : XH D A s.heap h (xct LM okM h d σ_8) H locs := O
        refine lv_aload_n hx hb dX6_common_67 rfl (lv_at hl 0 rfl) ?_
        refine lv_aload_n hx hb dX6_common_68 rfl (lv_at hl 0 rfl) ?_
        refine x_gL X K O 40 rfl LM_99 rfl rfl in_X6 (by decide) q1190 dX6_common_69 ?_
        obtain ⟨σ_9, r_10, hg, hf⟩ := bn2_s hf
        refine x_calll (x_runV (As := [.long (gL σ_8 99 0 0 40)]) (rest := []) X K O (xct_obj rfl LM_99) rfl (m_M_X6_millions hg) EN_b EN_h (lw_V q1591 q1593 qs95 q124 q1594) 1 rfl hl.1 (Nat.le_of_ble_eq_true rfl) hdV_X6_millions ⟨by decide, by decide⟩ ⟨Nat.le_refl _, Nat.le_refl _⟩ dX6_common_72) (fun r u H locs hp O _ => ?_)
        cases hp
        have O : XH D A s.heap h (xct LM okM h d σ_9) H locs := O
        exact x_lret X O rfl _ (Option.some.inj hf).symm rfl dX6_common_75
    · replace hf := if_t c_6 hf
      refine lv_ldc2 (v := (-1000000000)) hx hb X.1.2.2.2.1 (X.1.2.2.2.2 _ q1542) dX6_common_51 ?_
      exact x_lret X O rfl _ (Option.some.inj hf).symm rfl dX6_common_54
def M_X6_common (σ : ST) (p1 : Int32) (p2 : Int32) (p3 : Int32) : Option (ST × Int64) :=
  lt1 (sI σ 99 0 0 0 0) (fun σ_1 => bn2 (M_X6_isIn σ_1 p1 1 13) (fun σ_2 r_3 => (if r_3 = 0 then some (σ_2, (-1000000000)) else (if p2 = (-1) then M_X6_common_b32 σ_2 p1 p2 p3 else bn2 (M_X6_isIn σ_2 p2 1 9) (fun σ_6 r_7 => (if r_7 = 0 then some (σ_6, (-1000000000)) else M_X6_common_b32 σ_6 p1 p2 p3))))))
theorem m_M_X6_common {l : Launch} {D : va_G} {d : Nat → ClassId} {h : IX} {p1 : Int32} {p2 : Int32} {p3 : Int32} {σ : ST} {z : ST × Int64} (hf : M_X6_common σ p1 p2 p3 = some z) : XM l D d EN yX6_common cX6_common 8 (some .long) 3 0 0 [.ref (h 99 0 0), .int p1, .int p2, .int p3] h (xct LM okM h d σ) (Ql D (pz z) (cw h LM okM d)) := by
  refine XM.of (by decide +kernel) (Nat.le_of_ble_eq_true rfl) ?_
  intro p e s m below meth c A ls X _ K _ O hl
  have hl : lv_has ls 8 [(0, .ref (h 99 0 0)), (1, .int p1), (2, .int p2), (3, .int p3)] := hl
  have hx := X.1.1; have hb := X.1.2.1
  rw [M_X6_common] at hf
  refine lv_aload_n hx hb dX6_common_0 rfl (lv_at hl 0 rfl) ?_
  refine lv_iconst (v := 0) hx hb dX6_common_1 (by decide) ?_
  obtain ⟨σ_1, eσ_1, hf⟩ := lt1_s hf
  refine x_pI X K O 0 rfl LM_99 rfl rfl in_X6 tyX6_ok nmX6 (by decide) q1150 rfl rfl rfl dX6_common_2 (fun H locs O => ?_)
  rw [← eσ_1] at O
  refine lv_aload_n hx hb dX6_common_5 rfl (lv_at hl 0 rfl) ?_
  refine lv_iload_n hx hb dX6_common_6 rfl (lv_at hl 1 rfl) ?_
  refine lv_iconst (v := 1) hx hb dX6_common_7 (by decide) ?_
  refine lv_bipush (v := 13) hx hb dX6_common_8 (by decide) ?_
  obtain ⟨σ_2, r_3, hg, hf⟩ := bn2_s hf
  refine x_calli (x_runV (As := [.int p1, .int 1, .int 13]) (rest := []) X K O (xct_obj rfl LM_99) rfl (m_M_X6_isIn hg) EN_b EN_h (lw_V q1327 q1329 qs45 q124 q1330) 3 rfl hl.1 (Nat.le_of_ble_eq_true rfl) hdV_X6_isIn ⟨by decide, by decide⟩ ⟨Nat.le_refl _, Nat.le_refl _⟩ dX6_common_10) (fun r u H locs hp O _ => ?_)
  cases hp
  have O : XH D A s.heap h (xct LM okM h d σ_2) H locs := O
  refine lv_if_eq (tgt := 51) hx hb dX6_common_13 (by decide) (fun c_4 => ?_) (fun c_4 => ?_)
  · replace hf := if_t c_4 hf
    refine lv_ldc2 (v := (-1000000000)) hx hb X.1.2.2.2.1 (X.1.2.2.2.2 _ q1542) dX6_common_51 ?_
    exact x_lret X O rfl _ (Option.some.inj hf).symm rfl dX6_common_54
  · replace hf := if_f c_4 hf
    refine lv_iload_n hx hb dX6_common_16 rfl (lv_at hl 2 rfl) ?_
    refine lv_iconst (v := (-1)) hx hb dX6_common_17 (by decide) ?_
    refine lv_icmp_eq (tgt := 32) hx hb dX6_common_18 (by decide) (fun c_5 => ?_) (fun c_5 => ?_)
    · replace hf := if_t c_5 hf
      exact w_M_X6_common_b32 X K _ _ _ _ ls _ _ O (lv_sub hl [0, 1, 2, 3] rfl) hf
    · replace hf := if_f c_5 hf
      refine lv_aload_n hx hb dX6_common_21 rfl (lv_at hl 0 rfl) ?_
      refine lv_iload_n hx hb dX6_common_22 rfl (lv_at hl 2 rfl) ?_
      refine lv_iconst (v := 1) hx hb dX6_common_23 (by decide) ?_
      refine lv_bipush (v := 9) hx hb dX6_common_24 (by decide) ?_
      obtain ⟨σ_6, r_7, hg, hf⟩ := bn2_s hf
      refine x_calli (x_runV (As := [.int p2, .int 1, .int 9]) (rest := []) X K O (xct_obj rfl LM_99) rfl (m_M_X6_isIn hg) EN_b EN_h (lw_V q1327 q1329 qs45 q124 q1330) 3 rfl hl.1 (Nat.le_of_ble_eq_true rfl) hdV_X6_isIn ⟨by decide, by decide⟩ ⟨Nat.le_refl _, Nat.le_refl _⟩ dX6_common_26) (fun r u H locs hp O _ => ?_)
      cases hp
      have O : XH D A s.heap h (xct LM okM h d σ_6) H locs := O
      refine lv_if_eq (tgt := 51) hx hb dX6_common_29 (by decide) (fun c_8 => ?_) (fun c_8 => ?_)
      · replace hf := if_t c_8 hf
        refine lv_ldc2 (v := (-1000000000)) hx hb X.1.2.2.2.1 (X.1.2.2.2.2 _ q1542) dX6_common_51 ?_
        exact x_lret X O rfl _ (Option.some.inj hf).symm rfl dX6_common_54
      · replace hf := if_f c_8 hf
        exact w_M_X6_common_b32 X K _ _ _ _ ls _ _ O (lv_sub hl [0, 1, 2, 3] rfl) hf
def M_X6_canPair (σ : ST) (p1 : Int32) (p2 : Int32) (p3 : Int32) (p4 : Int32) : Option (ST × Int32) :=
  bn2 (M_X6_isIn σ p1 1 20) (fun σ_1 r_2 => (if r_2 = 0 then some (σ_1, 0) else bn2 (M_X6_isIn σ_1 p2 0 8) (fun σ_4 r_5 => (if r_5 = 0 then some (σ_4, 0) else bn2 (M_X6_isIn σ_4 p3 0 8) (fun σ_7 r_8 => (if r_8 = 0 then some (σ_7, 0) else bn2 (M_X6_isIn σ_7 p4 1 9) (fun σ_10 r_11 => (if r_11 = 0 then some (σ_10, 0) else bn2 (M_X6_weights σ_10) (fun σ_13 r_14 => (if r_14 ≤ 0 then some (σ_13, 0) else some (σ_13, 1)))))))))))
theorem m_M_X6_canPair {l : Launch} {D : va_G} {d : Nat → ClassId} {h : IX} {p1 : Int32} {p2 : Int32} {p3 : Int32} {p4 : Int32} {σ : ST} {z : ST × Int32} (hf : M_X6_canPair σ p1 p2 p3 p4 = some z) : XM l D d EN yX6_canPair cX6_canPair 5 (some .boolean) 1 0 0 [.ref (h 99 0 0), .int p1, .int p2, .int p3, .int p4] h (xct LM okM h d σ) (Qi D (pz z) (cw h LM okM d)) := by
  refine XM.of (by decide +kernel) (Nat.le_of_ble_eq_true rfl) ?_
  intro p e s m below meth c A ls X _ K _ O hl
  have hl : lv_has ls 5 [(0, .ref (h 99 0 0)), (1, .int p1), (2, .int p2), (3, .int p3), (4, .int p4)] := hl
  have hx := X.1.1; have hb := X.1.2.1
  rw [M_X6_canPair] at hf
  refine lv_aload_n hx hb dX6_canPair_0 rfl (lv_at hl 0 rfl) ?_
  refine lv_iload_n hx hb dX6_canPair_1 rfl (lv_at hl 1 rfl) ?_
  refine lv_iconst (v := 1) hx hb dX6_canPair_2 (by decide) ?_
  refine lv_bipush (v := 20) hx hb dX6_canPair_3 (by decide) ?_
  obtain ⟨σ_1, r_2, hg, hf⟩ := bn2_s hf
  refine x_calli (x_runV (As := [.int p1, .int 1, .int 20]) (rest := []) X K O (xct_obj rfl LM_99) rfl (m_M_X6_isIn hg) EN_b EN_h (lw_V q1327 q1329 qs45 q124 q1330) 3 rfl hl.1 (Nat.le_of_ble_eq_true rfl) hdV_X6_isIn ⟨by decide, by decide⟩ ⟨Nat.le_refl _, Nat.le_refl _⟩ dX6_canPair_5) (fun r u H locs hp O _ => ?_)
  cases hp
  have O : XH D A s.heap h (xct LM okM h d σ_1) H locs := O
  refine lv_if_eq (tgt := 56) hx hb dX6_canPair_8 (by decide) (fun c_3 => ?_) (fun c_3 => ?_)
  · replace hf := if_t c_3 hf
    refine lv_iconst (v := 0) hx hb dX6_canPair_56 (by decide) ?_
    exact x_zret X O rfl rfl _ (Option.some.inj hf).symm rfl dX6_canPair_57
  · replace hf := if_f c_3 hf
    refine lv_aload_n hx hb dX6_canPair_11 rfl (lv_at hl 0 rfl) ?_
    refine lv_iload_n hx hb dX6_canPair_12 rfl (lv_at hl 2 rfl) ?_
    refine lv_iconst (v := 0) hx hb dX6_canPair_13 (by decide) ?_
    refine lv_bipush (v := 8) hx hb dX6_canPair_14 (by decide) ?_
    obtain ⟨σ_4, r_5, hg, hf⟩ := bn2_s hf
    refine x_calli (x_runV (As := [.int p2, .int 0, .int 8]) (rest := []) X K O (xct_obj rfl LM_99) rfl (m_M_X6_isIn hg) EN_b EN_h (lw_V q1327 q1329 qs45 q124 q1330) 3 rfl hl.1 (Nat.le_of_ble_eq_true rfl) hdV_X6_isIn ⟨by decide, by decide⟩ ⟨Nat.le_refl _, Nat.le_refl _⟩ dX6_canPair_16) (fun r u H locs hp O _ => ?_)
    cases hp
    have O : XH D A s.heap h (xct LM okM h d σ_4) H locs := O
    refine lv_if_eq (tgt := 56) hx hb dX6_canPair_19 (by decide) (fun c_6 => ?_) (fun c_6 => ?_)
    · replace hf := if_t c_6 hf
      refine lv_iconst (v := 0) hx hb dX6_canPair_56 (by decide) ?_
      exact x_zret X O rfl rfl _ (Option.some.inj hf).symm rfl dX6_canPair_57
    · replace hf := if_f c_6 hf
      refine lv_aload_n hx hb dX6_canPair_22 rfl (lv_at hl 0 rfl) ?_
      refine lv_iload_n hx hb dX6_canPair_23 rfl (lv_at hl 3 rfl) ?_
      refine lv_iconst (v := 0) hx hb dX6_canPair_24 (by decide) ?_
      refine lv_bipush (v := 8) hx hb dX6_canPair_25 (by decide) ?_
      obtain ⟨σ_7, r_8, hg, hf⟩ := bn2_s hf
      refine x_calli (x_runV (As := [.int p3, .int 0, .int 8]) (rest := []) X K O (xct_obj rfl LM_99) rfl (m_M_X6_isIn hg) EN_b EN_h (lw_V q1327 q1329 qs45 q124 q1330) 3 rfl hl.1 (Nat.le_of_ble_eq_true rfl) hdV_X6_isIn ⟨by decide, by decide⟩ ⟨Nat.le_refl _, Nat.le_refl _⟩ dX6_canPair_27) (fun r u H locs hp O _ => ?_)
      cases hp
      have O : XH D A s.heap h (xct LM okM h d σ_7) H locs := O
      refine lv_if_eq (tgt := 56) hx hb dX6_canPair_30 (by decide) (fun c_9 => ?_) (fun c_9 => ?_)
      · replace hf := if_t c_9 hf
        refine lv_iconst (v := 0) hx hb dX6_canPair_56 (by decide) ?_
        exact x_zret X O rfl rfl _ (Option.some.inj hf).symm rfl dX6_canPair_57
      · replace hf := if_f c_9 hf
        refine lv_aload_n hx hb dX6_canPair_33 rfl (lv_at hl 0 rfl) ?_
        refine lv_iload hx hb dX6_canPair_34 (lv_at hl 4 rfl) ?_
        refine lv_iconst (v := 1) hx hb dX6_canPair_36 (by decide) ?_
        refine lv_bipush (v := 9) hx hb dX6_canPair_37 (by decide) ?_
        obtain ⟨σ_10, r_11, hg, hf⟩ := bn2_s hf
        refine x_calli (x_runV (As := [.int p4, .int 1, .int 9]) (rest := []) X K O (xct_obj rfl LM_99) rfl (m_M_X6_isIn hg) EN_b EN_h (lw_V q1327 q1329 qs45 q124 q1330) 3 rfl hl.1 (Nat.le_of_ble_eq_true rfl) hdV_X6_isIn ⟨by decide, by decide⟩ ⟨Nat.le_refl _, Nat.le_refl _⟩ dX6_canPair_39) (fun r u H locs hp O _ => ?_)
        cases hp
        have O : XH D A s.heap h (xct LM okM h d σ_10) H locs := O
        refine lv_if_eq (tgt := 56) hx hb dX6_canPair_42 (by decide) (fun c_12 => ?_) (fun c_12 => ?_)
        · replace hf := if_t c_12 hf
          refine lv_iconst (v := 0) hx hb dX6_canPair_56 (by decide) ?_
          exact x_zret X O rfl rfl _ (Option.some.inj hf).symm rfl dX6_canPair_57
        · replace hf := if_f c_12 hf
          refine lv_aload_n hx hb dX6_canPair_45 rfl (lv_at hl 0 rfl) ?_
          obtain ⟨σ_13, r_14, hg, hf⟩ := bn2_s hf
          refine x_calli (x_runV (As := []) (rest := []) X K O (xct_obj rfl LM_99) rfl (m_M_X6_weights hg) EN_b EN_h (lw_V q1530 q1532 qs84 q124 q1533) 0 rfl hl.1 (Nat.le_of_ble_eq_true rfl) hdV_X6_weights ⟨by decide, by decide⟩ ⟨Nat.le_refl _, Nat.le_refl _⟩ dX6_canPair_46) (fun r u H locs hp O _ => ?_)
          cases hp
          have O : XH D A s.heap h (xct LM okM h d σ_13) H locs := O
          refine lv_if_le (tgt := 56) hx hb dX6_canPair_49 (by decide) (fun c_15 => ?_) (fun c_15 => ?_)
          · replace hf := if_t c_15 hf
            refine lv_iconst (v := 0) hx hb dX6_canPair_56 (by decide) ?_
            exact x_zret X O rfl rfl _ (Option.some.inj hf).symm rfl dX6_canPair_57
          · replace hf := if_f c_15 hf
            refine lv_iconst (v := 1) hx hb dX6_canPair_52 (by decide) ?_
            refine lv_goto (tgt := 57) hx hb dX6_canPair_53 (by decide) ?_
            exact x_zret X O rfl rfl _ (Option.some.inj hf).symm rfl dX6_canPair_57
def M_X6_behind (σ : ST) (p1 : Int32) (p2 : Int32) (p3 : Int32) : Option (ST × Int32) :=
  (if p2 = 0 then (if 8 ≤ p1 then some (σ, 8) else some (σ, (p1 + 1))) else some (σ, (p1 - p3)))
theorem m_M_X6_behind {l : Launch} {D : va_G} {d : Nat → ClassId} {h : IX} {p1 : Int32} {p2 : Int32} {p3 : Int32} {σ : ST} {z : ST × Int32} (hf : M_X6_behind σ p1 p2 p3 = some z) : XM l D d EN yX6_behind cX6_behind 4 (some .int) 0 0 0 [.ref (h 99 0 0), .int p1, .int p2, .int p3] h (xct LM okM h d σ) (Qi D (pz z) (cw h LM okM d)) := by
  refine XM.of (by decide +kernel) (Nat.le_of_ble_eq_true rfl) ?_
  intro p e s m below meth c A ls X _ K _ O hl
  have hl : lv_has ls 4 [(0, .ref (h 99 0 0)), (1, .int p1), (2, .int p2), (3, .int p3)] := hl
  have hx := X.1.1; have hb := X.1.2.1
  rw [M_X6_behind] at hf
  refine lv_iload_n hx hb dX6_behind_0 rfl (lv_at hl 2 rfl) ?_
  refine lv_if_eq (tgt := 10) hx hb dX6_behind_1 (by decide) (fun c_1 => ?_) (fun c_1 => ?_)
  · replace hf := if_t c_1 hf
    refine lv_iload_n hx hb dX6_behind_10 rfl (lv_at hl 1 rfl) ?_
    refine lv_bipush (v := 8) hx hb dX6_behind_11 (by decide) ?_
    refine lv_icmp_ge (tgt := 22) hx hb dX6_behind_13 (by decide) (fun c_2 => ?_) (fun c_2 => ?_)
    · replace hf := if_t c_2 hf
      refine lv_bipush (v := 8) hx hb dX6_behind_22 (by decide) ?_
      exact x_iret X O rfl _ (Option.some.inj hf).symm rfl dX6_behind_24
    · replace hf := if_f c_2 hf
      refine lv_iload_n hx hb dX6_behind_16 rfl (lv_at hl 1 rfl) ?_
      refine lv_iconst (v := 1) hx hb dX6_behind_17 (by decide) ?_
      refine lv_iadd hx hb dX6_behind_18 ?_
      refine lv_goto (tgt := 24) hx hb dX6_behind_19 (by decide) ?_
      exact x_iret X O rfl _ (Option.some.inj hf).symm rfl dX6_behind_24
  · replace hf := if_f c_1 hf
    refine lv_iload_n hx hb dX6_behind_4 rfl (lv_at hl 1 rfl) ?_
    refine lv_iload_n hx hb dX6_behind_5 rfl (lv_at hl 3 rfl) ?_
    refine lv_isub hx hb dX6_behind_6 ?_
    refine lv_goto (tgt := 24) hx hb dX6_behind_7 (by decide) ?_
    exact x_iret X O rfl _ (Option.some.inj hf).symm rfl dX6_behind_24
theorem hdV_X6_behind : yX6_behind.cls = RX6 ∧ (yX6_behind.cls ≠ "java/lang/invoke/MethodHandle" ∧ yX6_behind.cls ≠ "java/lang/invoke/VarHandle" ∧ (parseMethodDescriptor yX6_behind.desc).map (fun d => d.parameters.length) = some 3) := by decide +kernel
def M_X6_comesOf_b36 (σ : ST) (x1 : Int32) (x2 : Int32) (x3 : Int32) (x4 : Int32) (x7 : Int64) (x9 : Int32) (s0 : Int32) : Option (ST) :=
  bn2 (M_X6_behind σ x1 x9 x4) (fun σ_1 r_2 => bn2 (M_X6_behind σ_1 x2 s0 x4) (fun σ_3 r_4 => lt1 ((9 * r_2) + r_4) (fun x11_5 => ck (okI x11_5 81) (ck (okI x11_5 81) (lt1 (sL σ_3 42 0 0 (Int32.toNatClampNeg x11_5) ((gL σ_3 42 0 0 (Int32.toNatClampNeg x11_5)) + x7)) (fun σ_8 => bn2 (M_X6_worthOf σ_8 x9 s0 x3) (fun σ_9 r_10 => lt1 (sL σ_9 99 0 0 43 ((gL σ_8 99 0 0 43) + (x7 * (r_10.toInt64)))) (fun σ_11 => bn2 (M_X6_worthOf σ_11 s0 x9 x3) (fun σ_12 r_13 => lt1 (sL σ_12 99 0 0 44 ((gL σ_11 99 0 0 44) + (x7 * (r_13.toInt64)))) (fun σ_14 => some σ_14))))))))))
theorem w_M_X6_comesOf_b36 (X : FX p m c meth s args RX6 cX6_comesOf 12 none) (K : XK D d A s) {z : ST} (σ : ST) (x1 : Int32) (x2 : Int32) (x3 : Int32) (x4 : Int32) (x7 : Int64) (x9 : Int32) (s0 : Int32) (ls : Array Slot) (H : Heap) (locs : List Loc) (O : XH D A s.heap h (xct LM okM h d σ) H locs) (hl : lv_has ls 12 [(0, .ref (h 99 0 0)), (1, .int x1), (2, .int x2), (3, .int x3), (4, .int x4), (7, .long x7), (9, .int x9)]) (hf : M_X6_comesOf_b36 σ x1 x2 x3 x4 x7 x9 s0 = some z) : W p l e (rmD 1 0 0) s m args below meth c H locs 0 0 (MQ below (Qv D (pu z) (cw h LM okM d) A) args s 0 0 A) (F0 m 36 ls [.int s0]) := by
  have hx := X.1.1; have hb := X.1.2.1
  rw [M_X6_comesOf_b36] at hf
  refine lv_istore (lv' := [(10, .int s0), (0, .ref (h 99 0 0)), (1, .int x1), (2, .int x2), (3, .int x3), (4, .int x4), (7, .long x7), (9, .int x9)]) hx hb dX6_comesOf_36 hl (by decide) rfl (fun ls hl => ?_)
  refine lv_bipush (v := 9) hx hb dX6_comesOf_38 (by decide) ?_
  refine lv_aload_n hx hb dX6_comesOf_40 rfl (lv_at hl 1 rfl) ?_
  refine lv_iload_n hx hb dX6_comesOf_41 rfl (lv_at hl 2 rfl) ?_
  refine lv_iload hx hb dX6_comesOf_42 (lv_at hl 7 rfl) ?_
  refine lv_iload hx hb dX6_comesOf_44 (lv_at hl 5 rfl) ?_
  obtain ⟨σ_1, r_2, hg, hf⟩ := bn2_s hf
  refine x_calli (x_runV (As := [.int x1, .int x9, .int x4]) (rest := [.int 9]) X K O (xct_obj rfl LM_99) rfl (m_M_X6_behind hg) EN_b EN_h (lw_V q1615 q1617 qs100 q124 q1618) 3 rfl hl.1 (Nat.le_of_ble_eq_true rfl) hdV_X6_behind ⟨by decide, by decide⟩ ⟨Nat.le_refl _, Nat.le_refl _⟩ dX6_comesOf_46) (fun r u H locs hp O _ => ?_)
  cases hp
  have O : XH D A s.heap h (xct LM okM h d σ_1) H locs := O
  refine lv_imul hx hb dX6_comesOf_49 ?_
  refine lv_aload_n hx hb dX6_comesOf_50 rfl (lv_at hl 1 rfl) ?_
  refine lv_iload_n hx hb dX6_comesOf_51 rfl (lv_at hl 3 rfl) ?_
  refine lv_iload hx hb dX6_comesOf_52 (lv_at hl 0 rfl) ?_
  refine lv_iload hx hb dX6_comesOf_54 (lv_at hl 5 rfl) ?_
  obtain ⟨σ_3, r_4, hg, hf⟩ := bn2_s hf
  refine x_calli (x_runV (As := [.int x2, .int s0, .int x4]) (rest := [.int (9 * r_2)]) X K O (xct_obj rfl LM_99) rfl (m_M_X6_behind hg) EN_b EN_h (lw_V q1615 q1617 qs100 q124 q1618) 3 rfl hl.1 (Nat.le_of_ble_eq_true rfl) hdV_X6_behind ⟨by decide, by decide⟩ ⟨Nat.le_refl _, Nat.le_refl _⟩ dX6_comesOf_56) (fun r u H locs hp O _ => ?_)
  cases hp
  have O : XH D A s.heap h (xct LM okM h d σ_3) H locs := O
  refine lv_iadd hx hb dX6_comesOf_59 ?_
  obtain ⟨x11_5, ex11_5, hf⟩ := lt1_s hf
  refine x_top (w := .int x11_5) (by rw [ex11_5]) ?_
  refine lv_istore (lv' := [(11, .int x11_5), (10, .int s0), (0, .ref (h 99 0 0)), (1, .int x1), (2, .int x2), (3, .int x3), (4, .int x4), (7, .long x7), (9, .int x9)]) hx hb dX6_comesOf_60 hl (by decide) rfl (fun ls hl => ?_)
  refine lv_aload_n hx hb dX6_comesOf_62 rfl (lv_at hl 2 rfl) ?_
  refine x_gF X K O 42 rfl LM_99 rfl rfl in_X6 (by decide) q1192 dX6_comesOf_63 ?_
  refine lv_iload hx hb dX6_comesOf_66 (lv_at hl 0 rfl) ?_
  refine lv_aload_n hx hb dX6_comesOf_68 rfl (lv_at hl 2 rfl) ?_
  refine x_gF X K O 42 rfl LM_99 rfl rfl in_X6 (by decide) q1192 dX6_comesOf_69 ?_
  refine lv_iload hx hb dX6_comesOf_72 (lv_at hl 0 rfl) ?_
  obtain ⟨c_6, hf⟩ := ck_s hf
  refine x_lld X K O rfl LM_42 c_6 (j := (Int32.toNatClampNeg x11_5)) rfl dX6_comesOf_74 ?_
  refine lv_lload hx hb dX6_comesOf_75 (lv_at hl 7 rfl) ?_
  refine lv_ladd hx hb dX6_comesOf_77 ?_
  obtain ⟨c_7, hf⟩ := ck_s hf
  obtain ⟨σ_8, eσ_8, hf⟩ := lt1_s hf
  refine x_lst X K O rfl LM_42 c_7 (j := (Int32.toNatClampNeg x11_5)) rfl dX6_comesOf_78 (fun H locs O => ?_)
  rw [← eσ_8] at O
  refine lv_aload_n hx hb dX6_comesOf_79 rfl (lv_at hl 2 rfl) ?_
  refine lv_aload_n hx hb dX6_comesOf_80 rfl (lv_at hl 2 rfl) ?_
  refine x_gL X K O 43 rfl LM_99 rfl rfl in_X6 (by decide) q1193 dX6_comesOf_81 ?_
  refine lv_lload hx hb dX6_comesOf_84 (lv_at hl 7 rfl) ?_
  refine lv_aload_n hx hb dX6_comesOf_86 rfl (lv_at hl 2 rfl) ?_
  refine lv_iload hx hb dX6_comesOf_87 (lv_at hl 8 rfl) ?_
  refine lv_iload hx hb dX6_comesOf_89 (lv_at hl 1 rfl) ?_
  refine lv_iload_n hx hb dX6_comesOf_91 rfl (lv_at hl 5 rfl) ?_
  obtain ⟨σ_9, r_10, hg, hf⟩ := bn2_s hf
  refine x_calli (x_runV (As := [.int x9, .int s0, .int x3]) (rest := [.long x7, .long (gL σ_8 99 0 0 43), .ref (h 99 0 0)]) X K O (xct_obj rfl LM_99) rfl (m_M_X6_worthOf hg) EN_b EN_h (lw_V q1496 q1498 qs78 q124 q1499) 3 rfl hl.1 (Nat.le_of_ble_eq_true rfl) hdV_X6_worthOf ⟨by decide, by decide⟩ ⟨Nat.le_refl _, Nat.le_refl _⟩ dX6_comesOf_92) (fun r u H locs hp O _ => ?_)
  cases hp
  have O : XH D A s.heap h (xct LM okM h d σ_9) H locs := O
  refine lv_i2l (v := (r_10.toInt64)) hx hb dX6_comesOf_95 rfl ?_
  refine lv_lmul hx hb dX6_comesOf_96 ?_
  refine lv_ladd hx hb dX6_comesOf_97 ?_
  obtain ⟨σ_11, eσ_11, hf⟩ := lt1_s hf
  refine x_pL X K O 43 rfl LM_99 rfl rfl in_X6 tyX6_ok nmX6 (by decide) q1193 rfl rfl rfl dX6_comesOf_98 (fun H locs O => ?_)
  rw [← eσ_11] at O
  refine lv_aload_n hx hb dX6_comesOf_101 rfl (lv_at hl 2 rfl) ?_
  refine lv_aload_n hx hb dX6_comesOf_102 rfl (lv_at hl 2 rfl) ?_
  refine x_gL X K O 44 rfl LM_99 rfl rfl in_X6 (by decide) q1194 dX6_comesOf_103 ?_
  refine lv_lload hx hb dX6_comesOf_106 (lv_at hl 7 rfl) ?_
  refine lv_aload_n hx hb dX6_comesOf_108 rfl (lv_at hl 2 rfl) ?_
  refine lv_iload hx hb dX6_comesOf_109 (lv_at hl 1 rfl) ?_
  refine lv_iload hx hb dX6_comesOf_111 (lv_at hl 8 rfl) ?_
  refine lv_iload_n hx hb dX6_comesOf_113 rfl (lv_at hl 5 rfl) ?_
  obtain ⟨σ_12, r_13, hg, hf⟩ := bn2_s hf
  refine x_calli (x_runV (As := [.int s0, .int x9, .int x3]) (rest := [.long x7, .long (gL σ_11 99 0 0 44), .ref (h 99 0 0)]) X K O (xct_obj rfl LM_99) rfl (m_M_X6_worthOf hg) EN_b EN_h (lw_V q1496 q1498 qs78 q124 q1499) 3 rfl hl.1 (Nat.le_of_ble_eq_true rfl) hdV_X6_worthOf ⟨by decide, by decide⟩ ⟨Nat.le_refl _, Nat.le_refl _⟩ dX6_comesOf_114) (fun r u H locs hp O _ => ?_)
  cases hp
  have O : XH D A s.heap h (xct LM okM h d σ_12) H locs := O
  refine lv_i2l (v := (r_13.toInt64)) hx hb dX6_comesOf_117 rfl ?_
  refine lv_lmul hx hb dX6_comesOf_118 ?_
  refine lv_ladd hx hb dX6_comesOf_119 ?_
  obtain ⟨σ_14, eσ_14, hf⟩ := lt1_s hf
  refine x_pL X K O 44 rfl LM_99 rfl rfl in_X6 tyX6_ok nmX6 (by decide) q1194 rfl rfl rfl dX6_comesOf_120 (fun H locs O => ?_)
  rw [← eσ_14] at O
  exact x_vret X O rfl _ (Option.some.inj hf).symm rfl dX6_comesOf_123
def M_X6_comesOf_b35 (σ : ST) (x1 : Int32) (x2 : Int32) (x3 : Int32) (x4 : Int32) (x7 : Int64) (x9 : Int32) : Option (ST) :=
  M_X6_comesOf_b36 σ x1 x2 x3 x4 x7 x9 0
theorem w_M_X6_comesOf_b35 (X : FX p m c meth s args RX6 cX6_comesOf 12 none) (K : XK D d A s) {z : ST} (σ : ST) (x1 : Int32) (x2 : Int32) (x3 : Int32) (x4 : Int32) (x7 : Int64) (x9 : Int32) (ls : Array Slot) (H : Heap) (locs : List Loc) (O : XH D A s.heap h (xct LM okM h d σ) H locs) (hl : lv_has ls 12 [(0, .ref (h 99 0 0)), (1, .int x1), (2, .int x2), (3, .int x3), (4, .int x4), (7, .long x7), (9, .int x9)]) (hf : M_X6_comesOf_b35 σ x1 x2 x3 x4 x7 x9 = some z) : W p l e (rmD 1 0 0) s m args below meth c H locs 0 0 (MQ below (Qv D (pu z) (cw h LM okM d) A) args s 0 0 A) (F0 m 35 ls []) := by
  have hx := X.1.1; have hb := X.1.2.1
  rw [M_X6_comesOf_b35] at hf
  refine lv_iconst (v := 0) hx hb dX6_comesOf_35 (by decide) ?_
  exact w_M_X6_comesOf_b36 X K _ _ _ _ _ _ _ _ ls _ _ O (lv_sub hl [0, 1, 2, 3, 4, 5, 6] rfl) hf
def M_X6_comesOf_b17 (σ : ST) (x1 : Int32) (x2 : Int32) (x3 : Int32) (x4 : Int32) (x6 : Int32) (x7 : Int64) (s0 : Int32) : Option (ST) :=
  (if x3 < x6 then M_X6_comesOf_b35 σ x1 x2 x3 x4 x7 s0 else (if x2 < x4 then M_X6_comesOf_b35 σ x1 x2 x3 x4 x7 s0 else M_X6_comesOf_b36 σ x1 x2 x3 x4 x7 s0 1))
theorem w_M_X6_comesOf_b17 (X : FX p m c meth s args RX6 cX6_comesOf 12 none) (K : XK D d A s) {z : ST} (σ : ST) (x1 : Int32) (x2 : Int32) (x3 : Int32) (x4 : Int32) (x6 : Int32) (x7 : Int64) (s0 : Int32) (ls : Array Slot) (H : Heap) (locs : List Loc) (O : XH D A s.heap h (xct LM okM h d σ) H locs) (hl : lv_has ls 12 [(0, .ref (h 99 0 0)), (1, .int x1), (2, .int x2), (3, .int x3), (4, .int x4), (6, .int x6), (7, .long x7)]) (hf : M_X6_comesOf_b17 σ x1 x2 x3 x4 x6 x7 s0 = some z) : W p l e (rmD 1 0 0) s m args below meth c H locs 0 0 (MQ below (Qv D (pu z) (cw h LM okM d) A) args s 0 0 A) (F0 m 17 ls [.int s0]) := by
  have hx := X.1.1; have hb := X.1.2.1
  rw [M_X6_comesOf_b17] at hf
  refine lv_istore (lv' := [(9, .int s0), (0, .ref (h 99 0 0)), (1, .int x1), (2, .int x2), (3, .int x3), (4, .int x4), (6, .int x6), (7, .long x7)]) hx hb dX6_comesOf_17 hl (by decide) rfl (fun ls hl => ?_)
  refine lv_iload_n hx hb dX6_comesOf_19 rfl (lv_at hl 4 rfl) ?_
  refine lv_iload hx hb dX6_comesOf_20 (lv_at hl 6 rfl) ?_
  refine lv_icmp_lt (tgt := 35) hx hb dX6_comesOf_22 (by decide) (fun c_1 => ?_) (fun c_1 => ?_)
  · replace hf := if_t c_1 hf
    exact w_M_X6_comesOf_b35 X K _ _ _ _ _ _ _ ls _ _ O (lv_sub hl [1, 2, 3, 4, 5, 7, 0] rfl) hf
  · replace hf := if_f c_1 hf
    refine lv_iload_n hx hb dX6_comesOf_25 rfl (lv_at hl 3 rfl) ?_
    refine lv_iload hx hb dX6_comesOf_26 (lv_at hl 5 rfl) ?_
    refine lv_icmp_lt (tgt := 35) hx hb dX6_comesOf_28 (by decide) (fun c_2 => ?_) (fun c_2 => ?_)
    · replace hf := if_t c_2 hf
      exact w_M_X6_comesOf_b35 X K _ _ _ _ _ _ _ ls _ _ O (lv_sub hl [1, 2, 3, 4, 5, 7, 0] rfl) hf
    · replace hf := if_f c_2 hf
      refine lv_iconst (v := 1) hx hb dX6_comesOf_31 (by decide) ?_
      refine lv_goto (tgt := 36) hx hb dX6_comesOf_32 (by decide) ?_
      exact w_M_X6_comesOf_b36 X K _ _ _ _ _ _ _ _ ls _ _ O (lv_sub hl [1, 2, 3, 4, 5, 7, 0] rfl) hf
def M_X6_comesOf_b16 (σ : ST) (x1 : Int32) (x2 : Int32) (x3 : Int32) (x4 : Int32) (x6 : Int32) (x7 : Int64) : Option (ST) :=
  M_X6_comesOf_b17 σ x1 x2 x3 x4 x6 x7 0
theorem w_M_X6_comesOf_b16 (X : FX p m c meth s args RX6 cX6_comesOf 12 none) (K : XK D d A s) {z : ST} (σ : ST) (x1 : Int32) (x2 : Int32) (x3 : Int32) (x4 : Int32) (x6 : Int32) (x7 : Int64) (ls : Array Slot) (H : Heap) (locs : List Loc) (O : XH D A s.heap h (xct LM okM h d σ) H locs) (hl : lv_has ls 12 [(0, .ref (h 99 0 0)), (1, .int x1), (2, .int x2), (3, .int x3), (4, .int x4), (6, .int x6), (7, .long x7)]) (hf : M_X6_comesOf_b16 σ x1 x2 x3 x4 x6 x7 = some z) : W p l e (rmD 1 0 0) s m args below meth c H locs 0 0 (MQ below (Qv D (pu z) (cw h LM okM d) A) args s 0 0 A) (F0 m 16 ls []) := by
  have hx := X.1.1; have hb := X.1.2.1
  rw [M_X6_comesOf_b16] at hf
  refine lv_iconst (v := 0) hx hb dX6_comesOf_16 (by decide) ?_
  exact w_M_X6_comesOf_b17 X K _ _ _ _ _ _ _ _ ls _ _ O (lv_sub hl [0, 1, 2, 3, 4, 5, 6] rfl) hf
def M_X6_comesOf (σ : ST) (p1 : Int32) (p2 : Int32) (p3 : Int32) (p4 : Int32) (p5 : Int32) (p6 : Int32) (p7 : Int64) : Option (ST) :=
  (if p3 < p5 then M_X6_comesOf_b16 σ p1 p2 p3 p4 p6 p7 else (if p1 < p4 then M_X6_comesOf_b16 σ p1 p2 p3 p4 p6 p7 else M_X6_comesOf_b17 σ p1 p2 p3 p4 p6 p7 1))
theorem m_M_X6_comesOf {l : Launch} {D : va_G} {d : Nat → ClassId} {h : IX} {p1 : Int32} {p2 : Int32} {p3 : Int32} {p4 : Int32} {p5 : Int32} {p6 : Int32} {p7 : Int64} {σ : ST} {z : ST} (hf : M_X6_comesOf σ p1 p2 p3 p4 p5 p6 p7 = some z) : XM l D d EN yX6_comesOf cX6_comesOf 12 none 1 0 0 [.ref (h 99 0 0), .int p1, .int p2, .int p3, .int p4, .int p5, .int p6, .long p7] h (xct LM okM h d σ) (Qv D (pu z) (cw h LM okM d)) := by
  refine XM.of (by decide +kernel) (Nat.le_of_ble_eq_true rfl) ?_
  intro p e s m below meth c A ls X _ K _ O hl
  have hl : lv_has ls 12 [(0, .ref (h 99 0 0)), (1, .int p1), (2, .int p2), (3, .int p3), (4, .int p4), (5, .int p5), (6, .int p6), (7, .long p7)] := hl
  have hx := X.1.1; have hb := X.1.2.1
  rw [M_X6_comesOf] at hf
  refine lv_iload_n hx hb dX6_comesOf_0 rfl (lv_at hl 3 rfl) ?_
  refine lv_iload hx hb dX6_comesOf_1 (lv_at hl 5 rfl) ?_
  refine lv_icmp_lt (tgt := 16) hx hb dX6_comesOf_3 (by decide) (fun c_1 => ?_) (fun c_1 => ?_)
  · replace hf := if_t c_1 hf
    exact w_M_X6_comesOf_b16 X K _ _ _ _ _ _ _ ls _ _ O (lv_sub hl [0, 1, 2, 3, 4, 6, 7] rfl) hf
  · replace hf := if_f c_1 hf
    refine lv_iload_n hx hb dX6_comesOf_6 rfl (lv_at hl 1 rfl) ?_
    refine lv_iload hx hb dX6_comesOf_7 (lv_at hl 4 rfl) ?_
    refine lv_icmp_lt (tgt := 16) hx hb dX6_comesOf_9 (by decide) (fun c_2 => ?_) (fun c_2 => ?_)
    · replace hf := if_t c_2 hf
      exact w_M_X6_comesOf_b16 X K _ _ _ _ _ _ _ ls _ _ O (lv_sub hl [0, 1, 2, 3, 4, 6, 7] rfl) hf
    · replace hf := if_f c_2 hf
      refine lv_iconst (v := 1) hx hb dX6_comesOf_12 (by decide) ?_
      refine lv_goto (tgt := 17) hx hb dX6_comesOf_13 (by decide) ?_
      exact w_M_X6_comesOf_b17 X K _ _ _ _ _ _ _ _ ls _ _ O (lv_sub hl [0, 1, 2, 3, 4, 6, 7] rfl) hf
theorem hdV_X6_comesOf : yX6_comesOf.cls = RX6 ∧ (yX6_comesOf.cls ≠ "java/lang/invoke/MethodHandle" ∧ yX6_comesOf.cls ≠ "java/lang/invoke/VarHandle" ∧ (parseMethodDescriptor yX6_comesOf.desc).map (fun d => d.parameters.length) = some 7) := by decide +kernel
def M_X6_onceMore_b179 : Nat → ST → Int32 → Option (ST)
  | 0, _, _ => none
  | n + 1, σ, x6 =>
    (if 81 ≤ x6 then some σ else ck (okI x6 81) (ck (okI x6 81) (lt1 (sL σ 41 0 0 (Int32.toNatClampNeg x6) (gL σ 42 0 0 (Int32.toNatClampNeg x6))) (fun σ_4 => lt1 (x6 + 1) (fun x6_5 => (M_X6_onceMore_b179 n) σ_4 x6_5)))))
theorem w_M_X6_onceMore_b179 (X : FX p m c meth s args RX6 cX6_onceMore 12 none) (K : XK D d A s) {z : ST} : ∀ (n : Nat) (σ : ST) (x6 : Int32) (ls : Array Slot) (H : Heap) (locs : List Loc), XH D A s.heap h (xct LM okM h d σ) H locs → lv_has ls 12 [(0, .ref (h 99 0 0)), (6, .int x6)] → M_X6_onceMore_b179 n σ x6 = some z → W p l e (rmD 2 0 0) s m args below meth c H locs 0 0 (MQ below (Qv D (pu z) (cw h LM okM d) A) args s 0 0 A) (F0 m 179 ls []) := by
  have hx := X.1.1; have hb := X.1.2.1
  intro n
  induction n with
  | zero =>
    intro σ x6 ls H locs O hl hf
    exact absurd hf (fun q => by cases q)
  | succ n ih =>
    intro σ x6 ls H locs O hl hf
    rw [M_X6_onceMore_b179] at hf
    refine lv_iload hx hb dX6_onceMore_179 (lv_at hl 1 rfl) ?_
    refine lv_bipush (v := 81) hx hb dX6_onceMore_181 (by decide) ?_
    refine lv_icmp_ge (tgt := 206) hx hb dX6_onceMore_183 (by decide) (fun c_1 => ?_) (fun c_1 => ?_)
    · replace hf := if_t c_1 hf
      exact x_vret X O rfl _ (Option.some.inj hf).symm rfl dX6_onceMore_206
    · replace hf := if_f c_1 hf
      refine lv_aload_n hx hb dX6_onceMore_186 rfl (lv_at hl 0 rfl) ?_
      refine x_gF X K O 41 rfl LM_99 rfl rfl in_X6 (by decide) q1191 dX6_onceMore_187 ?_
      refine lv_iload hx hb dX6_onceMore_190 (lv_at hl 1 rfl) ?_
      refine lv_aload_n hx hb dX6_onceMore_192 rfl (lv_at hl 0 rfl) ?_
      refine x_gF X K O 42 rfl LM_99 rfl rfl in_X6 (by decide) q1192 dX6_onceMore_193 ?_
      refine lv_iload hx hb dX6_onceMore_196 (lv_at hl 1 rfl) ?_
      obtain ⟨c_2, hf⟩ := ck_s hf
      refine x_lld X K O rfl LM_42 c_2 (j := (Int32.toNatClampNeg x6)) rfl dX6_onceMore_198 ?_
      obtain ⟨c_3, hf⟩ := ck_s hf
      obtain ⟨σ_4, eσ_4, hf⟩ := lt1_s hf
      refine x_lst X K O rfl LM_41 c_3 (j := (Int32.toNatClampNeg x6)) rfl dX6_onceMore_199 (fun H locs O => ?_)
      rw [← eσ_4] at O
      obtain ⟨x6_5, ex6_5, hf⟩ := lt1_s hf
      refine lv_iinc (v := x6_5) (lv' := [(6, .int x6_5), (0, .ref (h 99 0 0))]) hx hb dX6_onceMore_200 hl (k := 1) rfl (by rw [ex6_5]; rfl) (by decide) rfl (fun ls hl => ?_)
      refine lv_goto (tgt := 179) hx hb dX6_onceMore_203 (by decide) ?_
      exact ih _ _ ls _ _ O (lv_sub hl [1, 0] rfl) hf
def M_X6_onceMore_b170 (kb49 : ST → Int32 → Int32 → Int32 → Int32 → Int32 → Int32 → Option (ST)) (σ : ST) (x1 : Int32) (x2 : Int32) (x3 : Int32) (x4 : Int32) (x5 : Int32) (x6 : Int32) : Option (ST) :=
  lt1 (x6 + 1) (fun x6_1 => kb49 σ x1 x2 x3 x4 x5 x6_1)
theorem w_M_X6_onceMore_b170 (X : FX p m c meth s args RX6 cX6_onceMore 12 none) (K : XK D d A s) {z : ST} {kb49 : ST → Int32 → Int32 → Int32 → Int32 → Int32 → Int32 → Option (ST)} (hkb49 : ∀ (σ : ST) (x1 : Int32) (x2 : Int32) (x3 : Int32) (x4 : Int32) (x5 : Int32) (x6 : Int32) (ls : Array Slot) (H : Heap) (locs : List Loc), XH D A s.heap h (xct LM okM h d σ) H locs → lv_has ls 12 [(0, .ref (h 99 0 0)), (1, .int x1), (2, .int x2), (3, .int x3), (4, .int x4), (5, .int x5), (6, .int x6)] → kb49 σ x1 x2 x3 x4 x5 x6 = some z → W p l e (rmD 2 0 0) s m args below meth c H locs 0 0 (MQ below (Qv D (pu z) (cw h LM okM d) A) args s 0 0 A) (F0 m 49 ls [])) (σ : ST) (x1 : Int32) (x2 : Int32) (x3 : Int32) (x4 : Int32) (x5 : Int32) (x6 : Int32) (ls : Array Slot) (H : Heap) (locs : List Loc) (O : XH D A s.heap h (xct LM okM h d σ) H locs) (hl : lv_has ls 12 [(0, .ref (h 99 0 0)), (1, .int x1), (2, .int x2), (3, .int x3), (4, .int x4), (5, .int x5), (6, .int x6)]) (hf : M_X6_onceMore_b170 kb49 σ x1 x2 x3 x4 x5 x6 = some z) : W p l e (rmD 2 0 0) s m args below meth c H locs 0 0 (MQ below (Qv D (pu z) (cw h LM okM d) A) args s 0 0 A) (F0 m 170 ls []) := by
  have hx := X.1.1; have hb := X.1.2.1
  rw [M_X6_onceMore_b170] at hf
  obtain ⟨x6_1, ex6_1, hf⟩ := lt1_s hf
  refine lv_iinc (v := x6_1) (lv' := [(6, .int x6_1), (0, .ref (h 99 0 0)), (1, .int x1), (2, .int x2), (3, .int x3), (4, .int x4), (5, .int x5)]) hx hb dX6_onceMore_170 hl (k := 6) rfl (by rw [ex6_1]; rfl) (by decide) rfl (fun ls hl => ?_)
  refine lv_goto (tgt := 49) hx hb dX6_onceMore_173 (by decide) ?_
  exact hkb49 _ _ _ _ _ _ _ ls _ _ O (lv_sub hl [1, 2, 3, 4, 5, 6, 0] rfl) hf
def M_X6_onceMore_b83 (kb49 : ST → Int32 → Int32 → Int32 → Int32 → Int32 → Int32 → Option (ST)) : Nat → ST → Int32 → Int32 → Int32 → Int32 → Int32 → Int32 → Int64 → Int32 → Option (ST)
  | 0, _, _, _, _, _, _, _, _, _ => none
  | n + 1, σ, x1, x2, x3, x4, x5, x6, x7, x9 =>
    (if x5 ≤ x9 then bn1 (M_X6_comesOf σ (x6 / 9) (x6 - x6 / 9 * 9) x5 x1 x2 x3 x7) (fun σ_2 => M_X6_onceMore_b170 kb49 σ_2 x1 x2 x3 x4 x5 x6) else ck (okI x6 81) (ck (okI (10 + x9) 23) (ck (decide (¬ (x4.toInt64) = 0)) (lt1 (((gL σ 41 0 0 (Int32.toNatClampNeg x6)) * (Int32.toInt64 (gI σ 6 0 0 (Int32.toNatClampNeg (10 + x9))))) / (x4.toInt64)) (fun x10_6 => bn1 (M_X6_comesOf σ (x6 / 9) (x6 - x6 / 9 * 9) x9 x1 x2 x3 x10_6) (fun σ_7 => lt1 (x7 - x10_6) (fun x7_8 => lt1 (x9 + 1) (fun x9_9 => (M_X6_onceMore_b83 kb49 n) σ_7 x1 x2 x3 x4 x5 x6 x7_8 x9_9))))))))
theorem w_M_X6_onceMore_b83 (X : FX p m c meth s args RX6 cX6_onceMore 12 none) (K : XK D d A s) {z : ST} {kb49 : ST → Int32 → Int32 → Int32 → Int32 → Int32 → Int32 → Option (ST)} (hkb49 : ∀ (σ : ST) (x1 : Int32) (x2 : Int32) (x3 : Int32) (x4 : Int32) (x5 : Int32) (x6 : Int32) (ls : Array Slot) (H : Heap) (locs : List Loc), XH D A s.heap h (xct LM okM h d σ) H locs → lv_has ls 12 [(0, .ref (h 99 0 0)), (1, .int x1), (2, .int x2), (3, .int x3), (4, .int x4), (5, .int x5), (6, .int x6)] → kb49 σ x1 x2 x3 x4 x5 x6 = some z → W p l e (rmD 2 0 0) s m args below meth c H locs 0 0 (MQ below (Qv D (pu z) (cw h LM okM d) A) args s 0 0 A) (F0 m 49 ls [])) : ∀ (n : Nat) (σ : ST) (x1 : Int32) (x2 : Int32) (x3 : Int32) (x4 : Int32) (x5 : Int32) (x6 : Int32) (x7 : Int64) (x9 : Int32) (ls : Array Slot) (H : Heap) (locs : List Loc), XH D A s.heap h (xct LM okM h d σ) H locs → lv_has ls 12 [(0, .ref (h 99 0 0)), (1, .int x1), (2, .int x2), (3, .int x3), (4, .int x4), (5, .int x5), (6, .int x6), (7, .long x7), (9, .int x9)] → M_X6_onceMore_b83 kb49 n σ x1 x2 x3 x4 x5 x6 x7 x9 = some z → W p l e (rmD 2 0 0) s m args below meth c H locs 0 0 (MQ below (Qv D (pu z) (cw h LM okM d) A) args s 0 0 A) (F0 m 83 ls []) := by
  have hx := X.1.1; have hb := X.1.2.1
  intro n
  induction n with
  | zero =>
    intro σ x1 x2 x3 x4 x5 x6 x7 x9 ls H locs O hl hf
    exact absurd hf (fun q => by cases q)
  | succ n ih =>
    intro σ x1 x2 x3 x4 x5 x6 x7 x9 ls H locs O hl hf
    rw [M_X6_onceMore_b83] at hf
    refine lv_iload hx hb dX6_onceMore_83 (lv_at hl 8 rfl) ?_
    refine lv_iload hx hb dX6_onceMore_85 (lv_at hl 5 rfl) ?_
    refine lv_icmp_ge (tgt := 149) hx hb dX6_onceMore_87 (by decide) (fun c_1 => ?_) (fun c_1 => ?_)
    · replace hf := if_t c_1 hf
      refine lv_aload_n hx hb dX6_onceMore_149 rfl (lv_at hl 0 rfl) ?_
      refine lv_iload hx hb dX6_onceMore_150 (lv_at hl 6 rfl) ?_
      refine lv_bipush (v := 9) hx hb dX6_onceMore_152 (by decide) ?_
      refine lv_idiv hx hb dX6_onceMore_154 (by decide) ?_
      refine lv_iload hx hb dX6_onceMore_155 (lv_at hl 6 rfl) ?_
      refine lv_bipush (v := 9) hx hb dX6_onceMore_157 (by decide) ?_
      refine lv_irem hx hb dX6_onceMore_159 (by decide) ?_
      refine lv_iload hx hb dX6_onceMore_160 (lv_at hl 5 rfl) ?_
      refine lv_iload_n hx hb dX6_onceMore_162 rfl (lv_at hl 1 rfl) ?_
      refine lv_iload_n hx hb dX6_onceMore_163 rfl (lv_at hl 2 rfl) ?_
      refine lv_iload_n hx hb dX6_onceMore_164 rfl (lv_at hl 3 rfl) ?_
      refine lv_lload hx hb dX6_onceMore_165 (lv_at hl 7 rfl) ?_
      obtain ⟨σ_2, hg, hf⟩ := bn1_s hf
      refine x_callv (x_runV (As := [.int (x6 / 9), .int (x6 - x6 / 9 * 9), .int x5, .int x1, .int x2, .int x3, .long x7]) (rest := []) X K O (xct_obj rfl LM_99) rfl (m_M_X6_comesOf hg) EN_b EN_h (lw_V q1611 q1613 qs99 q124 q1614) 7 rfl hl.1 (Nat.le_of_ble_eq_true rfl) hdV_X6_comesOf ⟨by decide, by decide⟩ ⟨Nat.le_refl _, Nat.le_refl _⟩ dX6_onceMore_167) (fun u H locs hp O _ => ?_)
      cases hp
      have O : XH D A s.heap h (xct LM okM h d σ_2) H locs := O
      exact w_M_X6_onceMore_b170 X K hkb49 _ _ _ _ _ _ _ ls _ _ O (lv_sub hl [0, 1, 2, 3, 4, 5, 6] rfl) hf
    · replace hf := if_f c_1 hf
      refine lv_aload_n hx hb dX6_onceMore_90 rfl (lv_at hl 0 rfl) ?_
      refine x_gF X K O 41 rfl LM_99 rfl rfl in_X6 (by decide) q1191 dX6_onceMore_91 ?_
      refine lv_iload hx hb dX6_onceMore_94 (lv_at hl 6 rfl) ?_
      obtain ⟨c_3, hf⟩ := ck_s hf
      refine x_lld X K O rfl LM_41 c_3 (j := (Int32.toNatClampNeg x6)) rfl dX6_onceMore_96 ?_
      refine lv_aload_n hx hb dX6_onceMore_97 rfl (lv_at hl 0 rfl) ?_
      refine x_gF X K O 6 rfl LM_99 rfl rfl in_X6 (by decide) q1156 dX6_onceMore_98 ?_
      refine lv_bipush (v := 10) hx hb dX6_onceMore_101 (by decide) ?_
      refine lv_iload hx hb dX6_onceMore_103 (lv_at hl 8 rfl) ?_
      refine lv_iadd hx hb dX6_onceMore_105 ?_
      obtain ⟨c_4, hf⟩ := ck_s hf
      refine x_ild X K O rfl LM_6 c_4 (j := (Int32.toNatClampNeg (10 + x9))) rfl dX6_onceMore_106 ?_
      refine lv_i2l (v := (Int32.toInt64 (gI σ 6 0 0 (Int32.toNatClampNeg (10 + x9))))) hx hb dX6_onceMore_107 rfl ?_
      refine lv_lmul hx hb dX6_onceMore_108 ?_
      refine lv_iload hx hb dX6_onceMore_109 (lv_at hl 4 rfl) ?_
      refine lv_i2l (v := (x4.toInt64)) hx hb dX6_onceMore_111 rfl ?_
      obtain ⟨c_5, hf⟩ := ck_s hf
      refine lv_ldiv hx hb dX6_onceMore_112 (of_decide_eq_true c_5) ?_
      obtain ⟨x10_6, ex10_6, hf⟩ := lt1_s hf
      refine x_top (w := .long x10_6) (by rw [ex10_6]) ?_
      refine lv_lstore (lv' := [(10, .long x10_6), (0, .ref (h 99 0 0)), (1, .int x1), (2, .int x2), (3, .int x3), (4, .int x4), (5, .int x5), (6, .int x6), (7, .long x7), (9, .int x9)]) hx hb dX6_onceMore_113 hl (by decide) rfl (fun ls hl => ?_)
      refine lv_aload_n hx hb dX6_onceMore_115 rfl (lv_at hl 1 rfl) ?_
      refine lv_iload hx hb dX6_onceMore_116 (lv_at hl 7 rfl) ?_
      refine lv_bipush (v := 9) hx hb dX6_onceMore_118 (by decide) ?_
      refine lv_idiv hx hb dX6_onceMore_120 (by decide) ?_
      refine lv_iload hx hb dX6_onceMore_121 (lv_at hl 7 rfl) ?_
      refine lv_bipush (v := 9) hx hb dX6_onceMore_123 (by decide) ?_
      refine lv_irem hx hb dX6_onceMore_125 (by decide) ?_
      refine lv_iload hx hb dX6_onceMore_126 (lv_at hl 9 rfl) ?_
      refine lv_iload_n hx hb dX6_onceMore_128 rfl (lv_at hl 2 rfl) ?_
      refine lv_iload_n hx hb dX6_onceMore_129 rfl (lv_at hl 3 rfl) ?_
      refine lv_iload_n hx hb dX6_onceMore_130 rfl (lv_at hl 4 rfl) ?_
      refine lv_lload hx hb dX6_onceMore_131 (lv_at hl 0 rfl) ?_
      obtain ⟨σ_7, hg, hf⟩ := bn1_s hf
      refine x_callv (x_runV (As := [.int (x6 / 9), .int (x6 - x6 / 9 * 9), .int x9, .int x1, .int x2, .int x3, .long x10_6]) (rest := []) X K O (xct_obj rfl LM_99) rfl (m_M_X6_comesOf hg) EN_b EN_h (lw_V q1611 q1613 qs99 q124 q1614) 7 rfl hl.1 (Nat.le_of_ble_eq_true rfl) hdV_X6_comesOf ⟨by decide, by decide⟩ ⟨Nat.le_refl _, Nat.le_refl _⟩ dX6_onceMore_133) (fun u H locs hp O _ => ?_)
      cases hp
      have O : XH D A s.heap h (xct LM okM h d σ_7) H locs := O
      refine lv_lload hx hb dX6_onceMore_136 (lv_at hl 8 rfl) ?_
      refine lv_lload hx hb dX6_onceMore_138 (lv_at hl 0 rfl) ?_
      refine lv_lsub hx hb dX6_onceMore_140 ?_
      obtain ⟨x7_8, ex7_8, hf⟩ := lt1_s hf
      refine x_top (w := .long x7_8) (by rw [ex7_8]) ?_
      refine lv_lstore (lv' := [(7, .long x7_8), (10, .long x10_6), (0, .ref (h 99 0 0)), (1, .int x1), (2, .int x2), (3, .int x3), (4, .int x4), (5, .int x5), (6, .int x6), (9, .int x9)]) hx hb dX6_onceMore_141 hl (by decide) rfl (fun ls hl => ?_)
      obtain ⟨x9_9, ex9_9, hf⟩ := lt1_s hf
      refine lv_iinc (v := x9_9) (lv' := [(9, .int x9_9), (7, .long x7_8), (10, .long x10_6), (0, .ref (h 99 0 0)), (1, .int x1), (2, .int x2), (3, .int x3), (4, .int x4), (5, .int x5), (6, .int x6)]) hx hb dX6_onceMore_143 hl (k := 9) rfl (by rw [ex9_9]; rfl) (by decide) rfl (fun ls hl => ?_)
      refine lv_goto (tgt := 83) hx hb dX6_onceMore_146 (by decide) ?_
      exact ih _ _ _ _ _ _ _ _ _ ls _ _ O (lv_sub hl [3, 4, 5, 6, 7, 8, 9, 1, 0] rfl) hf
def M_X6_onceMore_b49 : Nat → ST → Int32 → Int32 → Int32 → Int32 → Int32 → Int32 → Option (ST)
  | 0, _, _, _, _, _, _, _ => none
  | n + 1, σ, x1, x2, x3, x4, x5, x6 =>
    (if 81 ≤ x6 then M_X6_onceMore_b179 FUEL σ 0 else ck (okI x6 81) ((if (lg_cmp (gL σ 41 0 0 (Int32.toNatClampNeg x6)) 0) = 0 then M_X6_onceMore_b170 (M_X6_onceMore_b49 n) σ x1 x2 x3 x4 x5 x6 else ck (okI x6 81) (lt1 (gL σ 41 0 0 (Int32.toNatClampNeg x6)) (fun x7_5 => M_X6_onceMore_b83 (M_X6_onceMore_b49 n) FUEL σ x1 x2 x3 x4 x5 x6 x7_5 1)))))
theorem w_M_X6_onceMore_b49 (X : FX p m c meth s args RX6 cX6_onceMore 12 none) (K : XK D d A s) {z : ST} : ∀ (n : Nat) (σ : ST) (x1 : Int32) (x2 : Int32) (x3 : Int32) (x4 : Int32) (x5 : Int32) (x6 : Int32) (ls : Array Slot) (H : Heap) (locs : List Loc), XH D A s.heap h (xct LM okM h d σ) H locs → lv_has ls 12 [(0, .ref (h 99 0 0)), (1, .int x1), (2, .int x2), (3, .int x3), (4, .int x4), (5, .int x5), (6, .int x6)] → M_X6_onceMore_b49 n σ x1 x2 x3 x4 x5 x6 = some z → W p l e (rmD 2 0 0) s m args below meth c H locs 0 0 (MQ below (Qv D (pu z) (cw h LM okM d) A) args s 0 0 A) (F0 m 49 ls []) := by
  have hx := X.1.1; have hb := X.1.2.1
  intro n
  induction n with
  | zero =>
    intro σ x1 x2 x3 x4 x5 x6 ls H locs O hl hf
    exact absurd hf (fun q => by cases q)
  | succ n ih =>
    intro σ x1 x2 x3 x4 x5 x6 ls H locs O hl hf
    rw [M_X6_onceMore_b49] at hf
    refine lv_iload hx hb dX6_onceMore_49 (lv_at hl 6 rfl) ?_
    refine lv_bipush (v := 81) hx hb dX6_onceMore_51 (by decide) ?_
    refine lv_icmp_ge (tgt := 176) hx hb dX6_onceMore_53 (by decide) (fun c_1 => ?_) (fun c_1 => ?_)
    · replace hf := if_t c_1 hf
      refine lv_iconst (v := 0) hx hb dX6_onceMore_176 (by decide) ?_
      refine lv_istore (lv' := [(6, .int 0), (0, .ref (h 99 0 0)), (1, .int x1), (2, .int x2), (3, .int x3), (4, .int x4), (5, .int x5)]) hx hb dX6_onceMore_177 hl (by decide) rfl (fun ls hl => ?_)
      exact w_M_X6_onceMore_b179 X K _ _ _ ls _ _ O (lv_sub hl [1, 0] rfl) hf
    · replace hf := if_f c_1 hf
      refine lv_aload_n hx hb dX6_onceMore_56 rfl (lv_at hl 0 rfl) ?_
      refine x_gF X K O 41 rfl LM_99 rfl rfl in_X6 (by decide) q1191 dX6_onceMore_57 ?_
      refine lv_iload hx hb dX6_onceMore_60 (lv_at hl 6 rfl) ?_
      obtain ⟨c_2, hf⟩ := ck_s hf
      refine x_lld X K O rfl LM_41 c_2 (j := (Int32.toNatClampNeg x6)) rfl dX6_onceMore_62 ?_
      refine lv_lconst (v := 0) hx hb dX6_onceMore_63 (by decide) ?_
      refine W.lcmp hx hb dX6_onceMore_64 ?_
      refine lv_if_ne (tgt := 71) hx hb dX6_onceMore_65 (by decide) (fun c_3 => ?_) (fun c_3 => ?_)
      · replace hf := if_f c_3 hf
        refine lv_aload_n hx hb dX6_onceMore_71 rfl (lv_at hl 0 rfl) ?_
        refine x_gF X K O 41 rfl LM_99 rfl rfl in_X6 (by decide) q1191 dX6_onceMore_72 ?_
        refine lv_iload hx hb dX6_onceMore_75 (lv_at hl 6 rfl) ?_
        obtain ⟨c_4, hf⟩ := ck_s hf
        refine x_lld X K O rfl LM_41 c_4 (j := (Int32.toNatClampNeg x6)) rfl dX6_onceMore_77 ?_
        obtain ⟨x7_5, ex7_5, hf⟩ := lt1_s hf
        refine x_top (w := .long x7_5) (by rw [ex7_5]) ?_
        refine lv_lstore (lv' := [(7, .long x7_5), (0, .ref (h 99 0 0)), (1, .int x1), (2, .int x2), (3, .int x3), (4, .int x4), (5, .int x5), (6, .int x6)]) hx hb dX6_onceMore_78 hl (by decide) rfl (fun ls hl => ?_)
        refine lv_iconst (v := 1) hx hb dX6_onceMore_80 (by decide) ?_
        refine lv_istore (lv' := [(9, .int 1), (7, .long x7_5), (0, .ref (h 99 0 0)), (1, .int x1), (2, .int x2), (3, .int x3), (4, .int x4), (5, .int x5), (6, .int x6)]) hx hb dX6_onceMore_81 hl (by decide) rfl (fun ls hl => ?_)
        exact w_M_X6_onceMore_b83 X K ih _ _ _ _ _ _ _ _ _ _ ls _ _ O (lv_sub hl [2, 3, 4, 5, 6, 7, 8, 1, 0] rfl) hf
      · replace hf := if_t c_3 hf
        refine lv_goto (tgt := 170) hx hb dX6_onceMore_68 (by decide) ?_
        exact w_M_X6_onceMore_b170 X K ih _ _ _ _ _ _ _ ls _ _ O (lv_sub hl [0, 1, 2, 3, 4, 5, 6] rfl) hf
def M_X6_onceMore_b25 : Nat → ST → Int32 → Int32 → Int32 → Int32 → Int32 → Int32 → Option (ST)
  | 0, _, _, _, _, _, _, _ => none
  | n + 1, σ, x1, x2, x3, x4, x5, x6 =>
    (if 81 ≤ x6 then M_X6_onceMore_b49 FUEL σ x1 x2 x3 x4 x5 0 else ck (okI x6 81) (lt1 (sL σ 42 0 0 (Int32.toNatClampNeg x6) 0) (fun σ_3 => lt1 (x6 + 1) (fun x6_4 => (M_X6_onceMore_b25 n) σ_3 x1 x2 x3 x4 x5 x6_4))))
theorem w_M_X6_onceMore_b25 (X : FX p m c meth s args RX6 cX6_onceMore 12 none) (K : XK D d A s) {z : ST} : ∀ (n : Nat) (σ : ST) (x1 : Int32) (x2 : Int32) (x3 : Int32) (x4 : Int32) (x5 : Int32) (x6 : Int32) (ls : Array Slot) (H : Heap) (locs : List Loc), XH D A s.heap h (xct LM okM h d σ) H locs → lv_has ls 12 [(0, .ref (h 99 0 0)), (1, .int x1), (2, .int x2), (3, .int x3), (4, .int x4), (5, .int x5), (6, .int x6)] → M_X6_onceMore_b25 n σ x1 x2 x3 x4 x5 x6 = some z → W p l e (rmD 2 0 0) s m args below meth c H locs 0 0 (MQ below (Qv D (pu z) (cw h LM okM d) A) args s 0 0 A) (F0 m 25 ls []) := by
  have hx := X.1.1; have hb := X.1.2.1
  intro n
  induction n with
  | zero =>
    intro σ x1 x2 x3 x4 x5 x6 ls H locs O hl hf
    exact absurd hf (fun q => by cases q)
  | succ n ih =>
    intro σ x1 x2 x3 x4 x5 x6 ls H locs O hl hf
    rw [M_X6_onceMore_b25] at hf
    refine lv_iload hx hb dX6_onceMore_25 (lv_at hl 6 rfl) ?_
    refine lv_bipush (v := 81) hx hb dX6_onceMore_27 (by decide) ?_
    refine lv_icmp_ge (tgt := 46) hx hb dX6_onceMore_29 (by decide) (fun c_1 => ?_) (fun c_1 => ?_)
    · replace hf := if_t c_1 hf
      refine lv_iconst (v := 0) hx hb dX6_onceMore_46 (by decide) ?_
      refine lv_istore (lv' := [(6, .int 0), (0, .ref (h 99 0 0)), (1, .int x1), (2, .int x2), (3, .int x3), (4, .int x4), (5, .int x5)]) hx hb dX6_onceMore_47 hl (by decide) rfl (fun ls hl => ?_)
      exact w_M_X6_onceMore_b49 X K _ _ _ _ _ _ _ _ ls _ _ O (lv_sub hl [1, 2, 3, 4, 5, 6, 0] rfl) hf
    · replace hf := if_f c_1 hf
      refine lv_aload_n hx hb dX6_onceMore_32 rfl (lv_at hl 0 rfl) ?_
      refine x_gF X K O 42 rfl LM_99 rfl rfl in_X6 (by decide) q1192 dX6_onceMore_33 ?_
      refine lv_iload hx hb dX6_onceMore_36 (lv_at hl 6 rfl) ?_
      refine lv_lconst (v := 0) hx hb dX6_onceMore_38 (by decide) ?_
      obtain ⟨c_2, hf⟩ := ck_s hf
      obtain ⟨σ_3, eσ_3, hf⟩ := lt1_s hf
      refine x_lst X K O rfl LM_42 c_2 (j := (Int32.toNatClampNeg x6)) rfl dX6_onceMore_39 (fun H locs O => ?_)
      rw [← eσ_3] at O
      obtain ⟨x6_4, ex6_4, hf⟩ := lt1_s hf
      refine lv_iinc (v := x6_4) (lv' := [(6, .int x6_4), (0, .ref (h 99 0 0)), (1, .int x1), (2, .int x2), (3, .int x3), (4, .int x4), (5, .int x5)]) hx hb dX6_onceMore_40 hl (k := 6) rfl (by rw [ex6_4]; rfl) (by decide) rfl (fun ls hl => ?_)
      refine lv_goto (tgt := 25) hx hb dX6_onceMore_43 (by decide) ?_
      exact ih _ _ _ _ _ _ _ ls _ _ O (lv_sub hl [1, 2, 3, 4, 5, 6, 0] rfl) hf
def M_X6_onceMore (σ : ST) (p1 : Int32) (p2 : Int32) (p3 : Int32) : Option (ST) :=
  bn2 (M_X6_weights σ) (fun σ_1 r_2 => bn2 (M_X6_greatestSize σ_1) (fun σ_3 r_4 => lt1 (sL σ_3 99 0 0 43 0) (fun σ_5 => lt1 (sL σ_5 99 0 0 44 0) (fun σ_6 => M_X6_onceMore_b25 FUEL σ_6 p1 p2 p3 r_2 r_4 0))))
theorem m_M_X6_onceMore {l : Launch} {D : va_G} {d : Nat → ClassId} {h : IX} {p1 : Int32} {p2 : Int32} {p3 : Int32} {σ : ST} {z : ST} (hf : M_X6_onceMore σ p1 p2 p3 = some z) : XM l D d EN yX6_onceMore cX6_onceMore 12 none 2 0 0 [.ref (h 99 0 0), .int p1, .int p2, .int p3] h (xct LM okM h d σ) (Qv D (pu z) (cw h LM okM d)) := by
  refine XM.of (by decide +kernel) (Nat.le_of_ble_eq_true rfl) ?_
  intro p e s m below meth c A ls X _ K _ O hl
  have hl : lv_has ls 12 [(0, .ref (h 99 0 0)), (1, .int p1), (2, .int p2), (3, .int p3)] := hl
  have hx := X.1.1; have hb := X.1.2.1
  rw [M_X6_onceMore] at hf
  refine lv_aload_n hx hb dX6_onceMore_0 rfl (lv_at hl 0 rfl) ?_
  obtain ⟨σ_1, r_2, hg, hf⟩ := bn2_s hf
  refine x_calli (x_runV (As := []) (rest := []) X K O (xct_obj rfl LM_99) rfl (m_M_X6_weights hg) EN_b EN_h (lw_V q1530 q1532 qs84 q124 q1533) 0 rfl hl.1 (Nat.le_of_ble_eq_true rfl) hdV_X6_weights ⟨by decide, by decide⟩ ⟨Nat.le_refl _, Nat.le_refl _⟩ dX6_onceMore_1) (fun r u H locs hp O _ => ?_)
  cases hp
  have O : XH D A s.heap h (xct LM okM h d σ_1) H locs := O
  refine lv_istore (lv' := [(4, .int r_2), (0, .ref (h 99 0 0)), (1, .int p1), (2, .int p2), (3, .int p3)]) hx hb dX6_onceMore_4 hl (by decide) rfl (fun ls hl => ?_)
  refine lv_aload_n hx hb dX6_onceMore_6 rfl (lv_at hl 1 rfl) ?_
  obtain ⟨σ_3, r_4, hg, hf⟩ := bn2_s hf
  refine x_calli (x_runV (As := []) (rest := []) X K O (xct_obj rfl LM_99) rfl (m_M_X6_greatestSize hg) EN_b EN_h (lw_V q1578 q1580 qs93 q124 q1581) 0 rfl hl.1 (Nat.le_of_ble_eq_true rfl) hdV_X6_greatestSize ⟨by decide, by decide⟩ ⟨Nat.le_refl _, Nat.le_refl _⟩ dX6_onceMore_7) (fun r u H locs hp O _ => ?_)
  cases hp
  have O : XH D A s.heap h (xct LM okM h d σ_3) H locs := O
  refine lv_istore (lv' := [(5, .int r_4), (4, .int r_2), (0, .ref (h 99 0 0)), (1, .int p1), (2, .int p2), (3, .int p3)]) hx hb dX6_onceMore_10 hl (by decide) rfl (fun ls hl => ?_)
  refine lv_aload_n hx hb dX6_onceMore_12 rfl (lv_at hl 2 rfl) ?_
  refine lv_lconst (v := 0) hx hb dX6_onceMore_13 (by decide) ?_
  obtain ⟨σ_5, eσ_5, hf⟩ := lt1_s hf
  refine x_pL X K O 43 rfl LM_99 rfl rfl in_X6 tyX6_ok nmX6 (by decide) q1193 rfl rfl rfl dX6_onceMore_14 (fun H locs O => ?_)
  rw [← eσ_5] at O
  refine lv_aload_n hx hb dX6_onceMore_17 rfl (lv_at hl 2 rfl) ?_
  refine lv_lconst (v := 0) hx hb dX6_onceMore_18 (by decide) ?_
  obtain ⟨σ_6, eσ_6, hf⟩ := lt1_s hf
  refine x_pL X K O 44 rfl LM_99 rfl rfl in_X6 tyX6_ok nmX6 (by decide) q1194 rfl rfl rfl dX6_onceMore_19 (fun H locs O => ?_)
  rw [← eσ_6] at O
  refine lv_iconst (v := 0) hx hb dX6_onceMore_22 (by decide) ?_
  refine lv_istore (lv' := [(6, .int 0), (5, .int r_4), (4, .int r_2), (0, .ref (h 99 0 0)), (1, .int p1), (2, .int p2), (3, .int p3)]) hx hb dX6_onceMore_23 hl (by decide) rfl (fun ls hl => ?_)
  exact w_M_X6_onceMore_b25 X K _ _ _ _ _ _ _ _ ls _ _ O (lv_sub hl [3, 4, 5, 6, 2, 1, 0] rfl) hf
theorem hdV_X6_onceMore : yX6_onceMore.cls = RX6 ∧ (yX6_onceMore.cls ≠ "java/lang/invoke/MethodHandle" ∧ yX6_onceMore.cls ≠ "java/lang/invoke/VarHandle" ∧ (parseMethodDescriptor yX6_onceMore.desc).map (fun d => d.parameters.length) = some 3) := by decide +kernel
def M_X6_pairs_b51 : Nat → ST → Int32 → Int32 → Int32 → Int32 → Int32 → Option (ST)
  | 0, _, _, _, _, _, _ => none
  | n + 1, σ, x1, x4, x5, x6, x7 =>
    (if x1 ≤ x7 then some σ else bn1 (M_X6_onceMore σ x4 x5 x6) (fun σ_2 => bn2 (M_X6_millions σ_2 (gL σ_2 99 0 0 43)) (fun σ_3 r_4 => lt1 (sL σ_3 99 0 0 45 ((gL σ_2 99 0 0 45) + r_4)) (fun σ_5 => bn2 (M_X6_millions σ_5 (gL σ_5 99 0 0 44)) (fun σ_6 r_7 => lt1 (sL σ_6 99 0 0 46 ((gL σ_5 99 0 0 46) + r_7)) (fun σ_8 => lt1 (x7 + 1) (fun x7_9 => (M_X6_pairs_b51 n) σ_8 x1 x4 x5 x6 x7_9)))))))
theorem w_M_X6_pairs_b51 (X : FX p m c meth s args RX6 cX6_pairs 8 none) (K : XK D d A s) {z : ST} : ∀ (n : Nat) (σ : ST) (x1 : Int32) (x4 : Int32) (x5 : Int32) (x6 : Int32) (x7 : Int32) (ls : Array Slot) (H : Heap) (locs : List Loc), XH D A s.heap h (xct LM okM h d σ) H locs → lv_has ls 8 [(0, .ref (h 99 0 0)), (1, .int x1), (4, .int x4), (5, .int x5), (6, .int x6), (7, .int x7)] → M_X6_pairs_b51 n σ x1 x4 x5 x6 x7 = some z → W p l e (rmD 3 0 0) s m args below meth c H locs 0 0 (MQ below (Qv D (pu z) (cw h LM okM d) A) args s 0 0 A) (F0 m 51 ls []) := by
  have hx := X.1.1; have hb := X.1.2.1
  intro n
  induction n with
  | zero =>
    intro σ x1 x4 x5 x6 x7 ls H locs O hl hf
    exact absurd hf (fun q => by cases q)
  | succ n ih =>
    intro σ x1 x4 x5 x6 x7 ls H locs O hl hf
    rw [M_X6_pairs_b51] at hf
    refine lv_iload hx hb dX6_pairs_51 (lv_at hl 5 rfl) ?_
    refine lv_iload_n hx hb dX6_pairs_53 rfl (lv_at hl 1 rfl) ?_
    refine lv_icmp_ge (tgt := 107) hx hb dX6_pairs_54 (by decide) (fun c_1 => ?_) (fun c_1 => ?_)
    · replace hf := if_t c_1 hf
      exact x_vret X O rfl _ (Option.some.inj hf).symm rfl dX6_pairs_107
    · replace hf := if_f c_1 hf
      refine lv_aload_n hx hb dX6_pairs_57 rfl (lv_at hl 0 rfl) ?_
      refine lv_iload hx hb dX6_pairs_58 (lv_at hl 2 rfl) ?_
      refine lv_iload hx hb dX6_pairs_60 (lv_at hl 3 rfl) ?_
      refine lv_iload hx hb dX6_pairs_62 (lv_at hl 4 rfl) ?_
      obtain ⟨σ_2, hg, hf⟩ := bn1_s hf
      refine x_callv (x_runV (As := [.int x4, .int x5, .int x6]) (rest := []) X K O (xct_obj rfl LM_99) rfl (m_M_X6_onceMore hg) EN_b EN_h (lw_V q1607 q1609 qs98 q124 q1610) 3 rfl hl.1 (Nat.le_of_ble_eq_true rfl) hdV_X6_onceMore ⟨by decide, by decide⟩ ⟨Nat.le_refl _, Nat.le_refl _⟩ dX6_pairs_64) (fun u H locs hp O _ => ?_)
      cases hp
      have O : XH D A s.heap h (xct LM okM h d σ_2) H locs := O
      refine lv_aload_n hx hb dX6_pairs_67 rfl (lv_at hl 0 rfl) ?_
      refine lv_aload_n hx hb dX6_pairs_68 rfl (lv_at hl 0 rfl) ?_
      refine x_gL X K O 45 rfl LM_99 rfl rfl in_X6 (by decide) q1195 dX6_pairs_69 ?_
      refine lv_aload_n hx hb dX6_pairs_72 rfl (lv_at hl 0 rfl) ?_
      refine lv_aload_n hx hb dX6_pairs_73 rfl (lv_at hl 0 rfl) ?_
      refine x_gL X K O 43 rfl LM_99 rfl rfl in_X6 (by decide) q1193 dX6_pairs_74 ?_
      obtain ⟨σ_3, r_4, hg, hf⟩ := bn2_s hf
      refine x_calll (x_runV (As := [.long (gL σ_2 99 0 0 43)]) (rest := [.long (gL σ_2 99 0 0 45), .ref (h 99 0 0)]) X K O (xct_obj rfl LM_99) rfl (m_M_X6_millions hg) EN_b EN_h (lw_V q1591 q1593 qs95 q124 q1594) 1 rfl hl.1 (Nat.le_of_ble_eq_true rfl) hdV_X6_millions ⟨by decide, by decide⟩ ⟨Nat.le_refl _, Nat.le_refl _⟩ dX6_pairs_77) (fun r u H locs hp O _ => ?_)
      cases hp
      have O : XH D A s.heap h (xct LM okM h d σ_3) H locs := O
      refine lv_ladd hx hb dX6_pairs_80 ?_
      obtain ⟨σ_5, eσ_5, hf⟩ := lt1_s hf
      refine x_pL X K O 45 rfl LM_99 rfl rfl in_X6 tyX6_ok nmX6 (by decide) q1195 rfl rfl rfl dX6_pairs_81 (fun H locs O => ?_)
      rw [← eσ_5] at O
      refine lv_aload_n hx hb dX6_pairs_84 rfl (lv_at hl 0 rfl) ?_
      refine lv_aload_n hx hb dX6_pairs_85 rfl (lv_at hl 0 rfl) ?_
      refine x_gL X K O 46 rfl LM_99 rfl rfl in_X6 (by decide) q1196 dX6_pairs_86 ?_
      refine lv_aload_n hx hb dX6_pairs_89 rfl (lv_at hl 0 rfl) ?_
      refine lv_aload_n hx hb dX6_pairs_90 rfl (lv_at hl 0 rfl) ?_
      refine x_gL X K O 44 rfl LM_99 rfl rfl in_X6 (by decide) q1194 dX6_pairs_91 ?_
      obtain ⟨σ_6, r_7, hg, hf⟩ := bn2_s hf
      refine x_calll (x_runV (As := [.long (gL σ_5 99 0 0 44)]) (rest := [.long (gL σ_5 99 0 0 46), .ref (h 99 0 0)]) X K O (xct_obj rfl LM_99) rfl (m_M_X6_millions hg) EN_b EN_h (lw_V q1591 q1593 qs95 q124 q1594) 1 rfl hl.1 (Nat.le_of_ble_eq_true rfl) hdV_X6_millions ⟨by decide, by decide⟩ ⟨Nat.le_refl _, Nat.le_refl _⟩ dX6_pairs_94) (fun r u H locs hp O _ => ?_)
      cases hp
      have O : XH D A s.heap h (xct LM okM h d σ_6) H locs := O
      refine lv_ladd hx hb dX6_pairs_97 ?_
      obtain ⟨σ_8, eσ_8, hf⟩ := lt1_s hf
      refine x_pL X K O 46 rfl LM_99 rfl rfl in_X6 tyX6_ok nmX6 (by decide) q1196 rfl rfl rfl dX6_pairs_98 (fun H locs O => ?_)
      rw [← eσ_8] at O
      obtain ⟨x7_9, ex7_9, hf⟩ := lt1_s hf
      refine lv_iinc (v := x7_9) (lv' := [(7, .int x7_9), (0, .ref (h 99 0 0)), (1, .int x1), (4, .int x4), (5, .int x5), (6, .int x6)]) hx hb dX6_pairs_101 hl (k := 5) rfl (by rw [ex7_9]; rfl) (by decide) rfl (fun ls hl => ?_)
      refine lv_goto (tgt := 51) hx hb dX6_pairs_104 (by decide) ?_
      exact ih _ _ _ _ _ _ ls _ _ O (lv_sub hl [1, 2, 3, 4, 5, 0] rfl) hf
def M_X6_pairs_b3 : Nat → ST → Int32 → Int32 → Int32 → Int32 → Int32 → Int32 → Int32 → Option (ST)
  | 0, _, _, _, _, _, _, _, _ => none
  | n + 1, σ, x1, x2, x3, x4, x5, x6, x7 =>
    (if 81 ≤ x7 then ck (okI ((9 * x2) + x3) 81) (lt1 (sL σ 41 0 0 (Int32.toNatClampNeg ((9 * x2) + x3)) 1000000000) (fun σ_3 => lt1 (sL σ_3 99 0 0 45 0) (fun σ_4 => lt1 (sL σ_4 99 0 0 46 0) (fun σ_5 => M_X6_pairs_b51 FUEL σ_5 x1 x4 x5 x6 0)))) else ck (okI x7 81) (lt1 (sL σ 41 0 0 (Int32.toNatClampNeg x7) 0) (fun σ_7 => lt1 (x7 + 1) (fun x7_8 => (M_X6_pairs_b3 n) σ_7 x1 x2 x3 x4 x5 x6 x7_8))))
theorem w_M_X6_pairs_b3 (X : FX p m c meth s args RX6 cX6_pairs 8 none) (K : XK D d A s) {z : ST} : ∀ (n : Nat) (σ : ST) (x1 : Int32) (x2 : Int32) (x3 : Int32) (x4 : Int32) (x5 : Int32) (x6 : Int32) (x7 : Int32) (ls : Array Slot) (H : Heap) (locs : List Loc), XH D A s.heap h (xct LM okM h d σ) H locs → lv_has ls 8 [(0, .ref (h 99 0 0)), (1, .int x1), (2, .int x2), (3, .int x3), (4, .int x4), (5, .int x5), (6, .int x6), (7, .int x7)] → M_X6_pairs_b3 n σ x1 x2 x3 x4 x5 x6 x7 = some z → W p l e (rmD 3 0 0) s m args below meth c H locs 0 0 (MQ below (Qv D (pu z) (cw h LM okM d) A) args s 0 0 A) (F0 m 3 ls []) := by
  have hx := X.1.1; have hb := X.1.2.1
  intro n
  induction n with
  | zero =>
    intro σ x1 x2 x3 x4 x5 x6 x7 ls H locs O hl hf
    exact absurd hf (fun q => by cases q)
  | succ n ih =>
    intro σ x1 x2 x3 x4 x5 x6 x7 ls H locs O hl hf
    rw [M_X6_pairs_b3] at hf
    refine lv_iload hx hb dX6_pairs_3 (lv_at hl 7 rfl) ?_
    refine lv_bipush (v := 81) hx hb dX6_pairs_5 (by decide) ?_
    refine lv_icmp_ge (tgt := 24) hx hb dX6_pairs_7 (by decide) (fun c_1 => ?_) (fun c_1 => ?_)
    · replace hf := if_t c_1 hf
      refine lv_aload_n hx hb dX6_pairs_24 rfl (lv_at hl 0 rfl) ?_
      refine x_gF X K O 41 rfl LM_99 rfl rfl in_X6 (by decide) q1191 dX6_pairs_25 ?_
      refine lv_bipush (v := 9) hx hb dX6_pairs_28 (by decide) ?_
      refine lv_iload_n hx hb dX6_pairs_30 rfl (lv_at hl 2 rfl) ?_
      refine lv_imul hx hb dX6_pairs_31 ?_
      refine lv_iload_n hx hb dX6_pairs_32 rfl (lv_at hl 3 rfl) ?_
      refine lv_iadd hx hb dX6_pairs_33 ?_
      refine lv_ldc2 (v := 1000000000) hx hb X.1.2.2.2.1 (X.1.2.2.2.2 _ q1573) dX6_pairs_34 ?_
      obtain ⟨c_2, hf⟩ := ck_s hf
      obtain ⟨σ_3, eσ_3, hf⟩ := lt1_s hf
      refine x_lst X K O rfl LM_41 c_2 (j := (Int32.toNatClampNeg ((9 * x2) + x3))) rfl dX6_pairs_37 (fun H locs O => ?_)
      rw [← eσ_3] at O
      refine lv_aload_n hx hb dX6_pairs_38 rfl (lv_at hl 0 rfl) ?_
      refine lv_lconst (v := 0) hx hb dX6_pairs_39 (by decide) ?_
      obtain ⟨σ_4, eσ_4, hf⟩ := lt1_s hf
      refine x_pL X K O 45 rfl LM_99 rfl rfl in_X6 tyX6_ok nmX6 (by decide) q1195 rfl rfl rfl dX6_pairs_40 (fun H locs O => ?_)
      rw [← eσ_4] at O
      refine lv_aload_n hx hb dX6_pairs_43 rfl (lv_at hl 0 rfl) ?_
      refine lv_lconst (v := 0) hx hb dX6_pairs_44 (by decide) ?_
      obtain ⟨σ_5, eσ_5, hf⟩ := lt1_s hf
      refine x_pL X K O 46 rfl LM_99 rfl rfl in_X6 tyX6_ok nmX6 (by decide) q1196 rfl rfl rfl dX6_pairs_45 (fun H locs O => ?_)
      rw [← eσ_5] at O
      refine lv_iconst (v := 0) hx hb dX6_pairs_48 (by decide) ?_
      refine lv_istore (lv' := [(7, .int 0), (0, .ref (h 99 0 0)), (1, .int x1), (2, .int x2), (3, .int x3), (4, .int x4), (5, .int x5), (6, .int x6)]) hx hb dX6_pairs_49 hl (by decide) rfl (fun ls hl => ?_)
      exact w_M_X6_pairs_b51 X K _ _ _ _ _ _ _ ls _ _ O (lv_sub hl [1, 2, 5, 6, 7, 0] rfl) hf
    · replace hf := if_f c_1 hf
      refine lv_aload_n hx hb dX6_pairs_10 rfl (lv_at hl 0 rfl) ?_
      refine x_gF X K O 41 rfl LM_99 rfl rfl in_X6 (by decide) q1191 dX6_pairs_11 ?_
      refine lv_iload hx hb dX6_pairs_14 (lv_at hl 7 rfl) ?_
      refine lv_lconst (v := 0) hx hb dX6_pairs_16 (by decide) ?_
      obtain ⟨c_6, hf⟩ := ck_s hf
      obtain ⟨σ_7, eσ_7, hf⟩ := lt1_s hf
      refine x_lst X K O rfl LM_41 c_6 (j := (Int32.toNatClampNeg x7)) rfl dX6_pairs_17 (fun H locs O => ?_)
      rw [← eσ_7] at O
      obtain ⟨x7_8, ex7_8, hf⟩ := lt1_s hf
      refine lv_iinc (v := x7_8) (lv' := [(7, .int x7_8), (0, .ref (h 99 0 0)), (1, .int x1), (2, .int x2), (3, .int x3), (4, .int x4), (5, .int x5), (6, .int x6)]) hx hb dX6_pairs_18 hl (k := 7) rfl (by rw [ex7_8]; rfl) (by decide) rfl (fun ls hl => ?_)
      refine lv_goto (tgt := 3) hx hb dX6_pairs_21 (by decide) ?_
      exact ih _ _ _ _ _ _ _ _ ls _ _ O (lv_sub hl [1, 2, 3, 4, 5, 6, 7, 0] rfl) hf
def M_X6_pairs (σ : ST) (p1 : Int32) (p2 : Int32) (p3 : Int32) (p4 : Int32) (p5 : Int32) (p6 : Int32) : Option (ST) :=
  M_X6_pairs_b3 FUEL σ p1 p2 p3 p4 p5 p6 0
theorem m_M_X6_pairs {l : Launch} {D : va_G} {d : Nat → ClassId} {h : IX} {p1 : Int32} {p2 : Int32} {p3 : Int32} {p4 : Int32} {p5 : Int32} {p6 : Int32} {σ : ST} {z : ST} (hf : M_X6_pairs σ p1 p2 p3 p4 p5 p6 = some z) : XM l D d EN yX6_pairs cX6_pairs 8 none 3 0 0 [.ref (h 99 0 0), .int p1, .int p2, .int p3, .int p4, .int p5, .int p6] h (xct LM okM h d σ) (Qv D (pu z) (cw h LM okM d)) := by
  refine XM.of (by decide +kernel) (Nat.le_of_ble_eq_true rfl) ?_
  intro p e s m below meth c A ls X _ K _ O hl
  have hl : lv_has ls 8 [(0, .ref (h 99 0 0)), (1, .int p1), (2, .int p2), (3, .int p3), (4, .int p4), (5, .int p5), (6, .int p6)] := hl
  have hx := X.1.1; have hb := X.1.2.1
  rw [M_X6_pairs] at hf
  refine lv_iconst (v := 0) hx hb dX6_pairs_0 (by decide) ?_
  refine lv_istore (lv' := [(7, .int 0), (0, .ref (h 99 0 0)), (1, .int p1), (2, .int p2), (3, .int p3), (4, .int p4), (5, .int p5), (6, .int p6)]) hx hb dX6_pairs_1 hl (by decide) rfl (fun ls hl => ?_)
  exact w_M_X6_pairs_b3 X K _ _ _ _ _ _ _ _ _ ls _ _ O (lv_sub hl [1, 2, 3, 4, 5, 6, 7, 0] rfl) hf
theorem hdV_X6_canPair : yX6_canPair.cls = RX6 ∧ (yX6_canPair.cls ≠ "java/lang/invoke/MethodHandle" ∧ yX6_canPair.cls ≠ "java/lang/invoke/VarHandle" ∧ (parseMethodDescriptor yX6_canPair.desc).map (fun d => d.parameters.length) = some 4) := by decide +kernel
theorem hdV_X6_pairs : yX6_pairs.cls = RX6 ∧ (yX6_pairs.cls ≠ "java/lang/invoke/MethodHandle" ∧ yX6_pairs.cls ≠ "java/lang/invoke/VarHandle" ∧ (parseMethodDescriptor yX6_pairs.desc).map (fun d => d.parameters.length) = some 6) := by decide +kernel
def M_X6_pair (σ : ST) (p1 : Int32) (p2 : Int32) (p3 : Int32) (p4 : Int32) (p5 : Int32) (p6 : Int32) (p7 : Int32) : Option (ST × Int64) :=
  lt1 (sI σ 99 0 0 0 0) (fun σ_1 => bn2 (M_X6_canPair σ_1 p1 p2 p3 p4) (fun σ_2 r_3 => (if r_3 = 0 then some (σ_2, (-1000000000)) else bn2 (M_X6_isIn σ_2 p5 1 13) (fun σ_5 r_6 => (if r_6 = 0 then some (σ_5, (-1000000000)) else bn2 (M_X6_isIn σ_5 p6 1 13) (fun σ_8 r_9 => (if r_9 = 0 then some (σ_8, (-1000000000)) else bn2 (M_X6_isIn σ_8 p7 0 1) (fun σ_11 r_12 => (if r_12 = 0 then some (σ_11, (-1000000000)) else bn1 (M_X6_pairs σ_11 p1 p2 p3 p4 p5 p6) (fun σ_14 => (if p7 = 0 then some (σ_14, (gL σ_14 99 0 0 45)) else some (σ_14, (gL σ_14 99 0 0 46)))))))))))))
theorem m_M_X6_pair {l : Launch} {D : va_G} {d : Nat → ClassId} {h : IX} {p1 : Int32} {p2 : Int32} {p3 : Int32} {p4 : Int32} {p5 : Int32} {p6 : Int32} {p7 : Int32} {σ : ST} {z : ST × Int64} (hf : M_X6_pair σ p1 p2 p3 p4 p5 p6 p7 = some z) : XM l D d EN yX6_pair cX6_pair 8 (some .long) 4 0 0 [.ref (h 99 0 0), .int p1, .int p2, .int p3, .int p4, .int p5, .int p6, .int p7] h (xct LM okM h d σ) (Ql D (pz z) (cw h LM okM d)) := by
  refine XM.of (by decide +kernel) (Nat.le_of_ble_eq_true rfl) ?_
  intro p e s m below meth c A ls X _ K _ O hl
  have hl : lv_has ls 8 [(0, .ref (h 99 0 0)), (1, .int p1), (2, .int p2), (3, .int p3), (4, .int p4), (5, .int p5), (6, .int p6), (7, .int p7)] := hl
  have hx := X.1.1; have hb := X.1.2.1
  rw [M_X6_pair] at hf
  refine lv_aload_n hx hb dX6_pair_0 rfl (lv_at hl 0 rfl) ?_
  refine lv_iconst (v := 0) hx hb dX6_pair_1 (by decide) ?_
  obtain ⟨σ_1, eσ_1, hf⟩ := lt1_s hf
  refine x_pI X K O 0 rfl LM_99 rfl rfl in_X6 tyX6_ok nmX6 (by decide) q1150 rfl rfl rfl dX6_pair_2 (fun H locs O => ?_)
  rw [← eσ_1] at O
  refine lv_aload_n hx hb dX6_pair_5 rfl (lv_at hl 0 rfl) ?_
  refine lv_iload_n hx hb dX6_pair_6 rfl (lv_at hl 1 rfl) ?_
  refine lv_iload_n hx hb dX6_pair_7 rfl (lv_at hl 2 rfl) ?_
  refine lv_iload_n hx hb dX6_pair_8 rfl (lv_at hl 3 rfl) ?_
  refine lv_iload hx hb dX6_pair_9 (lv_at hl 4 rfl) ?_
  obtain ⟨σ_2, r_3, hg, hf⟩ := bn2_s hf
  refine x_calli (x_runV (As := [.int p1, .int p2, .int p3, .int p4]) (rest := []) X K O (xct_obj rfl LM_99) rfl (m_M_X6_canPair hg) EN_b EN_h (lw_V q1599 q1601 qs96 q124 q1602) 4 rfl hl.1 (Nat.le_of_ble_eq_true rfl) hdV_X6_canPair ⟨by decide, by decide⟩ ⟨Nat.le_refl _, Nat.le_refl _⟩ dX6_pair_11) (fun r u H locs hp O _ => ?_)
  cases hp
  have O : XH D A s.heap h (xct LM okM h d σ_2) H locs := O
  refine lv_if_eq (tgt := 52) hx hb dX6_pair_14 (by decide) (fun c_4 => ?_) (fun c_4 => ?_)
  · replace hf := if_t c_4 hf
    refine lv_ldc2 (v := (-1000000000)) hx hb X.1.2.2.2.1 (X.1.2.2.2.2 _ q1542) dX6_pair_52 ?_
    exact x_lret X O rfl _ (Option.some.inj hf).symm rfl dX6_pair_55
  · replace hf := if_f c_4 hf
    refine lv_aload_n hx hb dX6_pair_17 rfl (lv_at hl 0 rfl) ?_
    refine lv_iload hx hb dX6_pair_18 (lv_at hl 5 rfl) ?_
    refine lv_iconst (v := 1) hx hb dX6_pair_20 (by decide) ?_
    refine lv_bipush (v := 13) hx hb dX6_pair_21 (by decide) ?_
    obtain ⟨σ_5, r_6, hg, hf⟩ := bn2_s hf
    refine x_calli (x_runV (As := [.int p5, .int 1, .int 13]) (rest := []) X K O (xct_obj rfl LM_99) rfl (m_M_X6_isIn hg) EN_b EN_h (lw_V q1327 q1329 qs45 q124 q1330) 3 rfl hl.1 (Nat.le_of_ble_eq_true rfl) hdV_X6_isIn ⟨by decide, by decide⟩ ⟨Nat.le_refl _, Nat.le_refl _⟩ dX6_pair_23) (fun r u H locs hp O _ => ?_)
    cases hp
    have O : XH D A s.heap h (xct LM okM h d σ_5) H locs := O
    refine lv_if_eq (tgt := 52) hx hb dX6_pair_26 (by decide) (fun c_7 => ?_) (fun c_7 => ?_)
    · replace hf := if_t c_7 hf
      refine lv_ldc2 (v := (-1000000000)) hx hb X.1.2.2.2.1 (X.1.2.2.2.2 _ q1542) dX6_pair_52 ?_
      exact x_lret X O rfl _ (Option.some.inj hf).symm rfl dX6_pair_55
    · replace hf := if_f c_7 hf
      refine lv_aload_n hx hb dX6_pair_29 rfl (lv_at hl 0 rfl) ?_
      refine lv_iload hx hb dX6_pair_30 (lv_at hl 6 rfl) ?_
      refine lv_iconst (v := 1) hx hb dX6_pair_32 (by decide) ?_
      refine lv_bipush (v := 13) hx hb dX6_pair_33 (by decide) ?_
      obtain ⟨σ_8, r_9, hg, hf⟩ := bn2_s hf
      refine x_calli (x_runV (As := [.int p6, .int 1, .int 13]) (rest := []) X K O (xct_obj rfl LM_99) rfl (m_M_X6_isIn hg) EN_b EN_h (lw_V q1327 q1329 qs45 q124 q1330) 3 rfl hl.1 (Nat.le_of_ble_eq_true rfl) hdV_X6_isIn ⟨by decide, by decide⟩ ⟨Nat.le_refl _, Nat.le_refl _⟩ dX6_pair_35) (fun r u H locs hp O _ => ?_)
      cases hp
      have O : XH D A s.heap h (xct LM okM h d σ_8) H locs := O
      refine lv_if_eq (tgt := 52) hx hb dX6_pair_38 (by decide) (fun c_10 => ?_) (fun c_10 => ?_)
      · replace hf := if_t c_10 hf
        refine lv_ldc2 (v := (-1000000000)) hx hb X.1.2.2.2.1 (X.1.2.2.2.2 _ q1542) dX6_pair_52 ?_
        exact x_lret X O rfl _ (Option.some.inj hf).symm rfl dX6_pair_55
      · replace hf := if_f c_10 hf
        refine lv_aload_n hx hb dX6_pair_41 rfl (lv_at hl 0 rfl) ?_
        refine lv_iload hx hb dX6_pair_42 (lv_at hl 7 rfl) ?_
        refine lv_iconst (v := 0) hx hb dX6_pair_44 (by decide) ?_
        refine lv_iconst (v := 1) hx hb dX6_pair_45 (by decide) ?_
        obtain ⟨σ_11, r_12, hg, hf⟩ := bn2_s hf
        refine x_calli (x_runV (As := [.int p7, .int 0, .int 1]) (rest := []) X K O (xct_obj rfl LM_99) rfl (m_M_X6_isIn hg) EN_b EN_h (lw_V q1327 q1329 qs45 q124 q1330) 3 rfl hl.1 (Nat.le_of_ble_eq_true rfl) hdV_X6_isIn ⟨by decide, by decide⟩ ⟨Nat.le_refl _, Nat.le_refl _⟩ dX6_pair_46) (fun r u H locs hp O _ => ?_)
        cases hp
        have O : XH D A s.heap h (xct LM okM h d σ_11) H locs := O
        refine lv_if_ne (tgt := 56) hx hb dX6_pair_49 (by decide) (fun c_13 => ?_) (fun c_13 => ?_)
        · replace hf := if_f c_13 hf
          refine lv_aload_n hx hb dX6_pair_56 rfl (lv_at hl 0 rfl) ?_
          refine lv_iload_n hx hb dX6_pair_57 rfl (lv_at hl 1 rfl) ?_
          refine lv_iload_n hx hb dX6_pair_58 rfl (lv_at hl 2 rfl) ?_
          refine lv_iload_n hx hb dX6_pair_59 rfl (lv_at hl 3 rfl) ?_
          refine lv_iload hx hb dX6_pair_60 (lv_at hl 4 rfl) ?_
          refine lv_iload hx hb dX6_pair_62 (lv_at hl 5 rfl) ?_
          refine lv_iload hx hb dX6_pair_64 (lv_at hl 6 rfl) ?_
          obtain ⟨σ_14, hg, hf⟩ := bn1_s hf
          refine x_callv (x_runV (As := [.int p1, .int p2, .int p3, .int p4, .int p5, .int p6]) (rest := []) X K O (xct_obj rfl LM_99) rfl (m_M_X6_pairs hg) EN_b EN_h (lw_V q1603 q1605 qs97 q124 q1606) 6 rfl hl.1 (Nat.le_of_ble_eq_true rfl) hdV_X6_pairs ⟨by decide, by decide⟩ ⟨Nat.le_refl _, Nat.le_refl _⟩ dX6_pair_66) (fun u H locs hp O _ => ?_)
          cases hp
          have O : XH D A s.heap h (xct LM okM h d σ_14) H locs := O
          refine lv_iload hx hb dX6_pair_69 (lv_at hl 7 rfl) ?_
          refine lv_if_ne (tgt := 81) hx hb dX6_pair_71 (by decide) (fun c_15 => ?_) (fun c_15 => ?_)
          · replace hf := if_f c_15 hf
            refine lv_aload_n hx hb dX6_pair_81 rfl (lv_at hl 0 rfl) ?_
            refine x_gL X K O 46 rfl LM_99 rfl rfl in_X6 (by decide) q1196 dX6_pair_82 ?_
            exact x_lret X O rfl _ (Option.some.inj hf).symm rfl dX6_pair_85
          · replace hf := if_t c_15 hf
            refine lv_aload_n hx hb dX6_pair_74 rfl (lv_at hl 0 rfl) ?_
            refine x_gL X K O 45 rfl LM_99 rfl rfl in_X6 (by decide) q1195 dX6_pair_75 ?_
            refine lv_goto (tgt := 85) hx hb dX6_pair_78 (by decide) ?_
            exact x_lret X O rfl _ (Option.some.inj hf).symm rfl dX6_pair_85
        · replace hf := if_t c_13 hf
          refine lv_ldc2 (v := (-1000000000)) hx hb X.1.2.2.2.1 (X.1.2.2.2.2 _ q1542) dX6_pair_52 ?_
          exact x_lret X O rfl _ (Option.some.inj hf).symm rfl dX6_pair_55
def M_X6_holdsAt_b2 : Nat → ST → Int32 → Int32 → Int32 → Option (ST × Int32)
  | 0, _, _, _, _ => none
  | n + 1, σ, x1, x2, x3 =>
    (if 13 < x3 then some (σ, 1) else ck (okI ((14 * x3) + x2) 196) (ck (okI ((14 * x1) + x2) 196) ((if 0 < (lg_cmp (gL σ 47 0 0 (Int32.toNatClampNeg ((14 * x3) + x2))) (gL σ 47 0 0 (Int32.toNatClampNeg ((14 * x1) + x2)))) then some (σ, 0) else ck (okI ((14 * x1) + x3) 196) (ck (okI ((14 * x1) + x2) 196) ((if (lg_cmp (gL σ 48 0 0 (Int32.toNatClampNeg ((14 * x1) + x3))) (gL σ 48 0 0 (Int32.toNatClampNeg ((14 * x1) + x2)))) ≤ 0 then lt1 (x3 + 1) (fun x3_8 => (M_X6_holdsAt_b2 n) σ x1 x2 x3_8) else some (σ, 0))))))))
theorem w_M_X6_holdsAt_b2 (X : FX p m c meth s args RX6 cX6_holdsAt 4 (some .boolean)) (K : XK D d A s) {z : ST × Int32} : ∀ (n : Nat) (σ : ST) (x1 : Int32) (x2 : Int32) (x3 : Int32) (ls : Array Slot) (H : Heap) (locs : List Loc), XH D A s.heap h (xct LM okM h d σ) H locs → lv_has ls 4 [(0, .ref (h 99 0 0)), (1, .int x1), (2, .int x2), (3, .int x3)] → M_X6_holdsAt_b2 n σ x1 x2 x3 = some z → W p l e (rmD 0 0 0) s m args below meth c H locs 0 0 (MQ below (Qi D (pz z) (cw h LM okM d) A) args s 0 0 A) (F0 m 2 ls []) := by
  have hx := X.1.1; have hb := X.1.2.1
  intro n
  induction n with
  | zero =>
    intro σ x1 x2 x3 ls H locs O hl hf
    exact absurd hf (fun q => by cases q)
  | succ n ih =>
    intro σ x1 x2 x3 ls H locs O hl hf
    rw [M_X6_holdsAt_b2] at hf
    refine lv_iload_n hx hb dX6_holdsAt_2 rfl (lv_at hl 3 rfl) ?_
    refine lv_bipush (v := 13) hx hb dX6_holdsAt_3 (by decide) ?_
    refine lv_icmp_gt (tgt := 68) hx hb dX6_holdsAt_5 (by decide) (fun c_1 => ?_) (fun c_1 => ?_)
    · replace hf := if_t c_1 hf
      refine lv_iconst (v := 1) hx hb dX6_holdsAt_68 (by decide) ?_
      exact x_zret X O rfl rfl _ (Option.some.inj hf).symm rfl dX6_holdsAt_69
    · replace hf := if_f c_1 hf
      refine lv_aload_n hx hb dX6_holdsAt_8 rfl (lv_at hl 0 rfl) ?_
      refine x_gF X K O 47 rfl LM_99 rfl rfl in_X6 (by decide) q1197 dX6_holdsAt_9 ?_
      refine lv_bipush (v := 14) hx hb dX6_holdsAt_12 (by decide) ?_
      refine lv_iload_n hx hb dX6_holdsAt_14 rfl (lv_at hl 3 rfl) ?_
      refine lv_imul hx hb dX6_holdsAt_15 ?_
      refine lv_iload_n hx hb dX6_holdsAt_16 rfl (lv_at hl 2 rfl) ?_
      refine lv_iadd hx hb dX6_holdsAt_17 ?_
      obtain ⟨c_2, hf⟩ := ck_s hf
      refine x_lld X K O rfl LM_47 c_2 (j := (Int32.toNatClampNeg ((14 * x3) + x2))) rfl dX6_holdsAt_18 ?_
      refine lv_aload_n hx hb dX6_holdsAt_19 rfl (lv_at hl 0 rfl) ?_
      refine x_gF X K O 47 rfl LM_99 rfl rfl in_X6 (by decide) q1197 dX6_holdsAt_20 ?_
      refine lv_bipush (v := 14) hx hb dX6_holdsAt_23 (by decide) ?_
      refine lv_iload_n hx hb dX6_holdsAt_25 rfl (lv_at hl 1 rfl) ?_
      refine lv_imul hx hb dX6_holdsAt_26 ?_
      refine lv_iload_n hx hb dX6_holdsAt_27 rfl (lv_at hl 2 rfl) ?_
      refine lv_iadd hx hb dX6_holdsAt_28 ?_
      obtain ⟨c_3, hf⟩ := ck_s hf
      refine x_lld X K O rfl LM_47 c_3 (j := (Int32.toNatClampNeg ((14 * x1) + x2))) rfl dX6_holdsAt_29 ?_
      refine W.lcmp hx hb dX6_holdsAt_30 ?_
      refine lv_if_gt (tgt := 60) hx hb dX6_holdsAt_31 (by decide) (fun c_4 => ?_) (fun c_4 => ?_)
      · replace hf := if_t c_4 hf
        refine lv_iconst (v := 0) hx hb dX6_holdsAt_60 (by decide) ?_
        exact x_zret X O rfl rfl _ (Option.some.inj hf).symm rfl dX6_holdsAt_61
      · replace hf := if_f c_4 hf
        refine lv_aload_n hx hb dX6_holdsAt_34 rfl (lv_at hl 0 rfl) ?_
        refine x_gF X K O 48 rfl LM_99 rfl rfl in_X6 (by decide) q1198 dX6_holdsAt_35 ?_
        refine lv_bipush (v := 14) hx hb dX6_holdsAt_38 (by decide) ?_
        refine lv_iload_n hx hb dX6_holdsAt_40 rfl (lv_at hl 1 rfl) ?_
        refine lv_imul hx hb dX6_holdsAt_41 ?_
        refine lv_iload_n hx hb dX6_holdsAt_42 rfl (lv_at hl 3 rfl) ?_
        refine lv_iadd hx hb dX6_holdsAt_43 ?_
        obtain ⟨c_5, hf⟩ := ck_s hf
        refine x_lld X K O rfl LM_48 c_5 (j := (Int32.toNatClampNeg ((14 * x1) + x3))) rfl dX6_holdsAt_44 ?_
        refine lv_aload_n hx hb dX6_holdsAt_45 rfl (lv_at hl 0 rfl) ?_
        refine x_gF X K O 48 rfl LM_99 rfl rfl in_X6 (by decide) q1198 dX6_holdsAt_46 ?_
        refine lv_bipush (v := 14) hx hb dX6_holdsAt_49 (by decide) ?_
        refine lv_iload_n hx hb dX6_holdsAt_51 rfl (lv_at hl 1 rfl) ?_
        refine lv_imul hx hb dX6_holdsAt_52 ?_
        refine lv_iload_n hx hb dX6_holdsAt_53 rfl (lv_at hl 2 rfl) ?_
        refine lv_iadd hx hb dX6_holdsAt_54 ?_
        obtain ⟨c_6, hf⟩ := ck_s hf
        refine x_lld X K O rfl LM_48 c_6 (j := (Int32.toNatClampNeg ((14 * x1) + x2))) rfl dX6_holdsAt_55 ?_
        refine W.lcmp hx hb dX6_holdsAt_56 ?_
        refine lv_if_le (tgt := 62) hx hb dX6_holdsAt_57 (by decide) (fun c_7 => ?_) (fun c_7 => ?_)
        · replace hf := if_t c_7 hf
          obtain ⟨x3_8, ex3_8, hf⟩ := lt1_s hf
          refine lv_iinc (v := x3_8) (lv' := [(3, .int x3_8), (0, .ref (h 99 0 0)), (1, .int x1), (2, .int x2)]) hx hb dX6_holdsAt_62 hl (k := 3) rfl (by rw [ex3_8]; rfl) (by decide) rfl (fun ls hl => ?_)
          refine lv_goto (tgt := 2) hx hb dX6_holdsAt_65 (by decide) ?_
          exact ih _ _ _ _ ls _ _ O (lv_sub hl [1, 2, 3, 0] rfl) hf
        · replace hf := if_f c_7 hf
          refine lv_iconst (v := 0) hx hb dX6_holdsAt_60 (by decide) ?_
          exact x_zret X O rfl rfl _ (Option.some.inj hf).symm rfl dX6_holdsAt_61
def M_X6_holdsAt (σ : ST) (p1 : Int32) (p2 : Int32) : Option (ST × Int32) :=
  M_X6_holdsAt_b2 FUEL σ p1 p2 1
theorem m_M_X6_holdsAt {l : Launch} {D : va_G} {d : Nat → ClassId} {h : IX} {p1 : Int32} {p2 : Int32} {σ : ST} {z : ST × Int32} (hf : M_X6_holdsAt σ p1 p2 = some z) : XM l D d EN yX6_holdsAt cX6_holdsAt 4 (some .boolean) 0 0 0 [.ref (h 99 0 0), .int p1, .int p2] h (xct LM okM h d σ) (Qi D (pz z) (cw h LM okM d)) := by
  refine XM.of (by decide +kernel) (Nat.le_of_ble_eq_true rfl) ?_
  intro p e s m below meth c A ls X _ K _ O hl
  have hl : lv_has ls 4 [(0, .ref (h 99 0 0)), (1, .int p1), (2, .int p2)] := hl
  have hx := X.1.1; have hb := X.1.2.1
  rw [M_X6_holdsAt] at hf
  refine lv_iconst (v := 1) hx hb dX6_holdsAt_0 (by decide) ?_
  refine lv_istore_n (lv' := [(3, .int 1), (0, .ref (h 99 0 0)), (1, .int p1), (2, .int p2)]) hx hb dX6_holdsAt_1 rfl hl (by decide) rfl (fun ls hl => ?_)
  exact w_M_X6_holdsAt_b2 X K _ _ _ _ _ ls _ _ O (lv_sub hl [1, 2, 3, 0] rfl) hf
theorem hdV_X6_holdsAt : yX6_holdsAt.cls = RX6 ∧ (yX6_holdsAt.cls ≠ "java/lang/invoke/MethodHandle" ∧ yX6_holdsAt.cls ≠ "java/lang/invoke/VarHandle" ∧ (parseMethodDescriptor yX6_holdsAt.desc).map (fun d => d.parameters.length) = some 2) := by decide +kernel
def M_X6_holds_b237 (kb124 : ST → Int32 → Int32 → Int32 → Int32 → Int64 → Int32 → Option (ST × Int32)) (kb134 : ST → Int32 → Int32 → Int32 → Int32 → Int64 → Int32 → Int32 → Option (ST × Int32)) (σ : ST) (x5 : Int32) (x6 : Int32) (x7 : Int32) (x8 : Int32) (x9 : Int64) (x11 : Int32) (x12 : Int32) : Option (ST × Int32) :=
  lt1 (x12 + 1) (fun x12_1 => kb134 σ x5 x6 x7 x8 x9 x11 x12_1)
theorem w_M_X6_holds_b237 (X : FX p m c meth s args RX6 cX6_holds 15 (some .int)) (K : XK D d A s) {z : ST × Int32} {kb124 : ST → Int32 → Int32 → Int32 → Int32 → Int64 → Int32 → Option (ST × Int32)} (hkb124 : ∀ (σ : ST) (x5 : Int32) (x6 : Int32) (x7 : Int32) (x8 : Int32) (x9 : Int64) (x11 : Int32) (ls : Array Slot) (H : Heap) (locs : List Loc), XH D A s.heap h (xct LM okM h d σ) H locs → lv_has ls 15 [(0, .ref (h 99 0 0)), (5, .int x5), (6, .int x6), (7, .int x7), (8, .int x8), (9, .long x9), (11, .int x11)] → kb124 σ x5 x6 x7 x8 x9 x11 = some z → W p l e (rmD 4 0 0) s m args below meth c H locs 0 0 (MQ below (Qi D (pz z) (cw h LM okM d) A) args s 0 0 A) (F0 m 124 ls [])) {kb134 : ST → Int32 → Int32 → Int32 → Int32 → Int64 → Int32 → Int32 → Option (ST × Int32)} (hkb134 : ∀ (σ : ST) (x5 : Int32) (x6 : Int32) (x7 : Int32) (x8 : Int32) (x9 : Int64) (x11 : Int32) (x12 : Int32) (ls : Array Slot) (H : Heap) (locs : List Loc), XH D A s.heap h (xct LM okM h d σ) H locs → lv_has ls 15 [(0, .ref (h 99 0 0)), (5, .int x5), (6, .int x6), (7, .int x7), (8, .int x8), (9, .long x9), (11, .int x11), (12, .int x12)] → kb134 σ x5 x6 x7 x8 x9 x11 x12 = some z → W p l e (rmD 4 0 0) s m args below meth c H locs 0 0 (MQ below (Qi D (pz z) (cw h LM okM d) A) args s 0 0 A) (F0 m 134 ls [])) (σ : ST) (x5 : Int32) (x6 : Int32) (x7 : Int32) (x8 : Int32) (x9 : Int64) (x11 : Int32) (x12 : Int32) (ls : Array Slot) (H : Heap) (locs : List Loc) (O : XH D A s.heap h (xct LM okM h d σ) H locs) (hl : lv_has ls 15 [(0, .ref (h 99 0 0)), (5, .int x5), (6, .int x6), (7, .int x7), (8, .int x8), (9, .long x9), (11, .int x11), (12, .int x12)]) (hf : M_X6_holds_b237 kb124 kb134 σ x5 x6 x7 x8 x9 x11 x12 = some z) : W p l e (rmD 4 0 0) s m args below meth c H locs 0 0 (MQ below (Qi D (pz z) (cw h LM okM d) A) args s 0 0 A) (F0 m 237 ls []) := by
  have hx := X.1.1; have hb := X.1.2.1
  rw [M_X6_holds_b237] at hf
  obtain ⟨x12_1, ex12_1, hf⟩ := lt1_s hf
  refine lv_iinc (v := x12_1) (lv' := [(12, .int x12_1), (0, .ref (h 99 0 0)), (5, .int x5), (6, .int x6), (7, .int x7), (8, .int x8), (9, .long x9), (11, .int x11)]) hx hb dX6_holds_237 hl (k := 7) rfl (by rw [ex12_1]; rfl) (by decide) rfl (fun ls hl => ?_)
  refine lv_goto (tgt := 134) hx hb dX6_holds_240 (by decide) ?_
  exact hkb134 _ _ _ _ _ _ _ _ ls _ _ O (lv_sub hl [1, 2, 3, 4, 5, 6, 7, 0] rfl) hf
def M_X6_holds_b223 (kb124 : ST → Int32 → Int32 → Int32 → Int32 → Int64 → Int32 → Option (ST × Int32)) (kb134 : ST → Int32 → Int32 → Int32 → Int32 → Int64 → Int32 → Int32 → Option (ST × Int32)) (σ : ST) (x5 : Int32) (x6 : Int32) (x7 : Int32) (x11 : Int32) (x12 : Int32) (x13 : Int64) : Option (ST × Int32) :=
  lt1 ((20 * x11) + x12) (fun x8_1 => M_X6_holds_b237 kb124 kb134 σ x5 x6 x7 x8_1 x13 x11 x12)
theorem w_M_X6_holds_b223 (X : FX p m c meth s args RX6 cX6_holds 15 (some .int)) (K : XK D d A s) {z : ST × Int32} {kb124 : ST → Int32 → Int32 → Int32 → Int32 → Int64 → Int32 → Option (ST × Int32)} (hkb124 : ∀ (σ : ST) (x5 : Int32) (x6 : Int32) (x7 : Int32) (x8 : Int32) (x9 : Int64) (x11 : Int32) (ls : Array Slot) (H : Heap) (locs : List Loc), XH D A s.heap h (xct LM okM h d σ) H locs → lv_has ls 15 [(0, .ref (h 99 0 0)), (5, .int x5), (6, .int x6), (7, .int x7), (8, .int x8), (9, .long x9), (11, .int x11)] → kb124 σ x5 x6 x7 x8 x9 x11 = some z → W p l e (rmD 4 0 0) s m args below meth c H locs 0 0 (MQ below (Qi D (pz z) (cw h LM okM d) A) args s 0 0 A) (F0 m 124 ls [])) {kb134 : ST → Int32 → Int32 → Int32 → Int32 → Int64 → Int32 → Int32 → Option (ST × Int32)} (hkb134 : ∀ (σ : ST) (x5 : Int32) (x6 : Int32) (x7 : Int32) (x8 : Int32) (x9 : Int64) (x11 : Int32) (x12 : Int32) (ls : Array Slot) (H : Heap) (locs : List Loc), XH D A s.heap h (xct LM okM h d σ) H locs → lv_has ls 15 [(0, .ref (h 99 0 0)), (5, .int x5), (6, .int x6), (7, .int x7), (8, .int x8), (9, .long x9), (11, .int x11), (12, .int x12)] → kb134 σ x5 x6 x7 x8 x9 x11 x12 = some z → W p l e (rmD 4 0 0) s m args below meth c H locs 0 0 (MQ below (Qi D (pz z) (cw h LM okM d) A) args s 0 0 A) (F0 m 134 ls [])) (σ : ST) (x5 : Int32) (x6 : Int32) (x7 : Int32) (x11 : Int32) (x12 : Int32) (x13 : Int64) (ls : Array Slot) (H : Heap) (locs : List Loc) (O : XH D A s.heap h (xct LM okM h d σ) H locs) (hl : lv_has ls 15 [(0, .ref (h 99 0 0)), (5, .int x5), (6, .int x6), (7, .int x7), (11, .int x11), (12, .int x12), (13, .long x13)]) (hf : M_X6_holds_b223 kb124 kb134 σ x5 x6 x7 x11 x12 x13 = some z) : W p l e (rmD 4 0 0) s m args below meth c H locs 0 0 (MQ below (Qi D (pz z) (cw h LM okM d) A) args s 0 0 A) (F0 m 223 ls []) := by
  have hx := X.1.1; have hb := X.1.2.1
  rw [M_X6_holds_b223] at hf
  refine lv_bipush (v := 20) hx hb dX6_holds_223 (by decide) ?_
  refine lv_iload hx hb dX6_holds_225 (lv_at hl 4 rfl) ?_
  refine lv_imul hx hb dX6_holds_227 ?_
  refine lv_iload hx hb dX6_holds_228 (lv_at hl 5 rfl) ?_
  refine lv_iadd hx hb dX6_holds_230 ?_
  obtain ⟨x8_1, ex8_1, hf⟩ := lt1_s hf
  refine x_top (w := .int x8_1) (by rw [ex8_1]) ?_
  refine lv_istore (lv' := [(8, .int x8_1), (0, .ref (h 99 0 0)), (5, .int x5), (6, .int x6), (7, .int x7), (11, .int x11), (12, .int x12), (13, .long x13)]) hx hb dX6_holds_231 hl (by decide) rfl (fun ls hl => ?_)
  refine lv_lload hx hb dX6_holds_233 (lv_at hl 7 rfl) ?_
  refine lv_lstore (lv' := [(9, .long x13), (8, .int x8_1), (0, .ref (h 99 0 0)), (5, .int x5), (6, .int x6), (7, .int x7), (11, .int x11), (12, .int x12), (13, .long x13)]) hx hb dX6_holds_235 hl (by decide) rfl (fun ls hl => ?_)
  exact w_M_X6_holds_b237 X K hkb124 hkb134 _ _ _ _ _ _ _ _ ls _ _ O (lv_sub hl [2, 3, 4, 5, 1, 0, 6, 7] rfl) hf
def M_X6_holds_b177 (kb124 : ST → Int32 → Int32 → Int32 → Int32 → Int64 → Int32 → Option (ST × Int32)) (kb134 : ST → Int32 → Int32 → Int32 → Int32 → Int64 → Int32 → Int32 → Option (ST × Int32)) (σ : ST) (x5 : Int32) (x6 : Int32) (x7 : Int32) (x8 : Int32) (x9 : Int64) (x11 : Int32) (x12 : Int32) : Option (ST × Int32) :=
  ck (okI ((14 * x11) + x12) 196) (ck (okI ((14 * x11) + x12) 196) (lt1 ((gL σ 47 0 0 (Int32.toNatClampNeg ((14 * x11) + x12))) + (gL σ 48 0 0 (Int32.toNatClampNeg ((14 * x11) + x12)))) (fun x13_3 => (if x8 = (-1) then M_X6_holds_b223 kb124 kb134 σ x5 x6 x7 x11 x12 x13_3 else (if 0 < (lg_cmp x13_3 x9) then M_X6_holds_b223 kb124 kb134 σ x5 x6 x7 x11 x12 x13_3 else M_X6_holds_b237 kb124 kb134 σ x5 x6 x7 x8 x9 x11 x12)))))
theorem w_M_X6_holds_b177 (X : FX p m c meth s args RX6 cX6_holds 15 (some .int)) (K : XK D d A s) {z : ST × Int32} {kb124 : ST → Int32 → Int32 → Int32 → Int32 → Int64 → Int32 → Option (ST × Int32)} (hkb124 : ∀ (σ : ST) (x5 : Int32) (x6 : Int32) (x7 : Int32) (x8 : Int32) (x9 : Int64) (x11 : Int32) (ls : Array Slot) (H : Heap) (locs : List Loc), XH D A s.heap h (xct LM okM h d σ) H locs → lv_has ls 15 [(0, .ref (h 99 0 0)), (5, .int x5), (6, .int x6), (7, .int x7), (8, .int x8), (9, .long x9), (11, .int x11)] → kb124 σ x5 x6 x7 x8 x9 x11 = some z → W p l e (rmD 4 0 0) s m args below meth c H locs 0 0 (MQ below (Qi D (pz z) (cw h LM okM d) A) args s 0 0 A) (F0 m 124 ls [])) {kb134 : ST → Int32 → Int32 → Int32 → Int32 → Int64 → Int32 → Int32 → Option (ST × Int32)} (hkb134 : ∀ (σ : ST) (x5 : Int32) (x6 : Int32) (x7 : Int32) (x8 : Int32) (x9 : Int64) (x11 : Int32) (x12 : Int32) (ls : Array Slot) (H : Heap) (locs : List Loc), XH D A s.heap h (xct LM okM h d σ) H locs → lv_has ls 15 [(0, .ref (h 99 0 0)), (5, .int x5), (6, .int x6), (7, .int x7), (8, .int x8), (9, .long x9), (11, .int x11), (12, .int x12)] → kb134 σ x5 x6 x7 x8 x9 x11 x12 = some z → W p l e (rmD 4 0 0) s m args below meth c H locs 0 0 (MQ below (Qi D (pz z) (cw h LM okM d) A) args s 0 0 A) (F0 m 134 ls [])) (σ : ST) (x5 : Int32) (x6 : Int32) (x7 : Int32) (x8 : Int32) (x9 : Int64) (x11 : Int32) (x12 : Int32) (ls : Array Slot) (H : Heap) (locs : List Loc) (O : XH D A s.heap h (xct LM okM h d σ) H locs) (hl : lv_has ls 15 [(0, .ref (h 99 0 0)), (5, .int x5), (6, .int x6), (7, .int x7), (8, .int x8), (9, .long x9), (11, .int x11), (12, .int x12)]) (hf : M_X6_holds_b177 kb124 kb134 σ x5 x6 x7 x8 x9 x11 x12 = some z) : W p l e (rmD 4 0 0) s m args below meth c H locs 0 0 (MQ below (Qi D (pz z) (cw h LM okM d) A) args s 0 0 A) (F0 m 177 ls []) := by
  have hx := X.1.1; have hb := X.1.2.1
  rw [M_X6_holds_b177] at hf
  refine lv_aload_n hx hb dX6_holds_177 rfl (lv_at hl 0 rfl) ?_
  refine x_gF X K O 47 rfl LM_99 rfl rfl in_X6 (by decide) q1197 dX6_holds_178 ?_
  refine lv_bipush (v := 14) hx hb dX6_holds_181 (by decide) ?_
  refine lv_iload hx hb dX6_holds_183 (lv_at hl 6 rfl) ?_
  refine lv_imul hx hb dX6_holds_185 ?_
  refine lv_iload hx hb dX6_holds_186 (lv_at hl 7 rfl) ?_
  refine lv_iadd hx hb dX6_holds_188 ?_
  obtain ⟨c_1, hf⟩ := ck_s hf
  refine x_lld X K O rfl LM_47 c_1 (j := (Int32.toNatClampNeg ((14 * x11) + x12))) rfl dX6_holds_189 ?_
  refine lv_aload_n hx hb dX6_holds_190 rfl (lv_at hl 0 rfl) ?_
  refine x_gF X K O 48 rfl LM_99 rfl rfl in_X6 (by decide) q1198 dX6_holds_191 ?_
  refine lv_bipush (v := 14) hx hb dX6_holds_194 (by decide) ?_
  refine lv_iload hx hb dX6_holds_196 (lv_at hl 6 rfl) ?_
  refine lv_imul hx hb dX6_holds_198 ?_
  refine lv_iload hx hb dX6_holds_199 (lv_at hl 7 rfl) ?_
  refine lv_iadd hx hb dX6_holds_201 ?_
  obtain ⟨c_2, hf⟩ := ck_s hf
  refine x_lld X K O rfl LM_48 c_2 (j := (Int32.toNatClampNeg ((14 * x11) + x12))) rfl dX6_holds_202 ?_
  refine lv_ladd hx hb dX6_holds_203 ?_
  obtain ⟨x13_3, ex13_3, hf⟩ := lt1_s hf
  refine x_top (w := .long x13_3) (by rw [ex13_3]) ?_
  refine lv_lstore (lv' := [(13, .long x13_3), (0, .ref (h 99 0 0)), (5, .int x5), (6, .int x6), (7, .int x7), (8, .int x8), (9, .long x9), (11, .int x11), (12, .int x12)]) hx hb dX6_holds_204 hl (by decide) rfl (fun ls hl => ?_)
  refine lv_iload hx hb dX6_holds_206 (lv_at hl 5 rfl) ?_
  refine lv_iconst (v := (-1)) hx hb dX6_holds_208 (by decide) ?_
  refine lv_icmp_eq (tgt := 223) hx hb dX6_holds_209 (by decide) (fun c_4 => ?_) (fun c_4 => ?_)
  · replace hf := if_t c_4 hf
    exact w_M_X6_holds_b223 X K hkb124 hkb134 _ _ _ _ _ _ _ ls _ _ O (lv_sub hl [1, 2, 3, 4, 7, 8, 0] rfl) hf
  · replace hf := if_f c_4 hf
    refine lv_lload hx hb dX6_holds_212 (lv_at hl 0 rfl) ?_
    refine lv_lload hx hb dX6_holds_214 (lv_at hl 6 rfl) ?_
    refine W.lcmp hx hb dX6_holds_216 ?_
    refine lv_if_gt (tgt := 223) hx hb dX6_holds_217 (by decide) (fun c_5 => ?_) (fun c_5 => ?_)
    · replace hf := if_t c_5 hf
      exact w_M_X6_holds_b223 X K hkb124 hkb134 _ _ _ _ _ _ _ ls _ _ O (lv_sub hl [1, 2, 3, 4, 7, 8, 0] rfl) hf
    · replace hf := if_f c_5 hf
      refine lv_goto (tgt := 237) hx hb dX6_holds_220 (by decide) ?_
      exact w_M_X6_holds_b237 X K hkb124 hkb134 _ _ _ _ _ _ _ _ ls _ _ O (lv_sub hl [1, 2, 3, 4, 5, 6, 7, 8] rfl) hf
def M_X6_holds_b134 (kb124 : ST → Int32 → Int32 → Int32 → Int32 → Int64 → Int32 → Option (ST × Int32)) : Nat → ST → Int32 → Int32 → Int32 → Int32 → Int64 → Int32 → Int32 → Option (ST × Int32)
  | 0, _, _, _, _, _, _, _, _ => none
  | n + 1, σ, x5, x6, x7, x8, x9, x11, x12 =>
    (if 13 < x12 then lt1 (x11 + 1) (fun x11_2 => kb124 σ x5 x6 x7 x8 x9 x11_2) else bn2 (M_X6_holdsAt σ x11 x12) (fun σ_3 r_4 => (if r_4 = 0 then M_X6_holds_b237 kb124 (M_X6_holds_b134 kb124 n) σ_3 x5 x6 x7 x8 x9 x11 x12 else lt1 (x6 + 1) (fun x6_6 => (if x7 = (-1) then lt1 ((20 * x11) + x12) (fun x7_8 => M_X6_holds_b177 kb124 (M_X6_holds_b134 kb124 n) σ_3 x5 x6_6 x7_8 x8 x9 x11 x12) else M_X6_holds_b177 kb124 (M_X6_holds_b134 kb124 n) σ_3 x5 x6_6 x7 x8 x9 x11 x12)))))
theorem w_M_X6_holds_b134 (X : FX p m c meth s args RX6 cX6_holds 15 (some .int)) (K : XK D d A s) {z : ST × Int32} {kb124 : ST → Int32 → Int32 → Int32 → Int32 → Int64 → Int32 → Option (ST × Int32)} (hkb124 : ∀ (σ : ST) (x5 : Int32) (x6 : Int32) (x7 : Int32) (x8 : Int32) (x9 : Int64) (x11 : Int32) (ls : Array Slot) (H : Heap) (locs : List Loc), XH D A s.heap h (xct LM okM h d σ) H locs → lv_has ls 15 [(0, .ref (h 99 0 0)), (5, .int x5), (6, .int x6), (7, .int x7), (8, .int x8), (9, .long x9), (11, .int x11)] → kb124 σ x5 x6 x7 x8 x9 x11 = some z → W p l e (rmD 4 0 0) s m args below meth c H locs 0 0 (MQ below (Qi D (pz z) (cw h LM okM d) A) args s 0 0 A) (F0 m 124 ls [])) : ∀ (n : Nat) (σ : ST) (x5 : Int32) (x6 : Int32) (x7 : Int32) (x8 : Int32) (x9 : Int64) (x11 : Int32) (x12 : Int32) (ls : Array Slot) (H : Heap) (locs : List Loc), XH D A s.heap h (xct LM okM h d σ) H locs → lv_has ls 15 [(0, .ref (h 99 0 0)), (5, .int x5), (6, .int x6), (7, .int x7), (8, .int x8), (9, .long x9), (11, .int x11), (12, .int x12)] → M_X6_holds_b134 kb124 n σ x5 x6 x7 x8 x9 x11 x12 = some z → W p l e (rmD 4 0 0) s m args below meth c H locs 0 0 (MQ below (Qi D (pz z) (cw h LM okM d) A) args s 0 0 A) (F0 m 134 ls []) := by
  have hx := X.1.1; have hb := X.1.2.1
  intro n
  induction n with
  | zero =>
    intro σ x5 x6 x7 x8 x9 x11 x12 ls H locs O hl hf
    exact absurd hf (fun q => by cases q)
  | succ n ih =>
    intro σ x5 x6 x7 x8 x9 x11 x12 ls H locs O hl hf
    rw [M_X6_holds_b134] at hf
    refine lv_iload hx hb dX6_holds_134 (lv_at hl 7 rfl) ?_
    refine lv_bipush (v := 13) hx hb dX6_holds_136 (by decide) ?_
    refine lv_icmp_gt (tgt := 243) hx hb dX6_holds_138 (by decide) (fun c_1 => ?_) (fun c_1 => ?_)
    · replace hf := if_t c_1 hf
      obtain ⟨x11_2, ex11_2, hf⟩ := lt1_s hf
      refine lv_iinc (v := x11_2) (lv' := [(11, .int x11_2), (0, .ref (h 99 0 0)), (5, .int x5), (6, .int x6), (7, .int x7), (8, .int x8), (9, .long x9), (12, .int x12)]) hx hb dX6_holds_243 hl (k := 6) rfl (by rw [ex11_2]; rfl) (by decide) rfl (fun ls hl => ?_)
      refine lv_goto (tgt := 124) hx hb dX6_holds_246 (by decide) ?_
      exact hkb124 _ _ _ _ _ _ _ ls _ _ O (lv_sub hl [1, 2, 3, 4, 5, 6, 0] rfl) hf
    · replace hf := if_f c_1 hf
      refine lv_aload_n hx hb dX6_holds_141 rfl (lv_at hl 0 rfl) ?_
      refine lv_iload hx hb dX6_holds_142 (lv_at hl 6 rfl) ?_
      refine lv_iload hx hb dX6_holds_144 (lv_at hl 7 rfl) ?_
      obtain ⟨σ_3, r_4, hg, hf⟩ := bn2_s hf
      refine x_calli (x_runV (As := [.int x11, .int x12]) (rest := []) X K O (xct_obj rfl LM_99) rfl (m_M_X6_holdsAt hg) EN_b EN_h (lw_V q1623 q1625 qs101 q124 q1626) 2 rfl hl.1 (Nat.le_of_ble_eq_true rfl) hdV_X6_holdsAt ⟨by decide, by decide⟩ ⟨Nat.le_refl _, Nat.le_refl _⟩ dX6_holds_146) (fun r u H locs hp O _ => ?_)
      cases hp
      have O : XH D A s.heap h (xct LM okM h d σ_3) H locs := O
      refine lv_if_ne (tgt := 155) hx hb dX6_holds_149 (by decide) (fun c_5 => ?_) (fun c_5 => ?_)
      · replace hf := if_f c_5 hf
        refine lv_iload hx hb dX6_holds_155 (lv_at hl 2 rfl) ?_
        refine lv_iconst (v := 1) hx hb dX6_holds_157 (by decide) ?_
        refine lv_iadd hx hb dX6_holds_158 ?_
        obtain ⟨x6_6, ex6_6, hf⟩ := lt1_s hf
        refine x_top (w := .int x6_6) (by rw [ex6_6]) ?_
        refine lv_istore (lv' := [(6, .int x6_6), (0, .ref (h 99 0 0)), (5, .int x5), (7, .int x7), (8, .int x8), (9, .long x9), (11, .int x11), (12, .int x12)]) hx hb dX6_holds_159 hl (by decide) rfl (fun ls hl => ?_)
        refine lv_iload hx hb dX6_holds_161 (lv_at hl 3 rfl) ?_
        refine lv_iconst (v := (-1)) hx hb dX6_holds_163 (by decide) ?_
        refine lv_icmp_ne (tgt := 177) hx hb dX6_holds_164 (by decide) (fun c_7 => ?_) (fun c_7 => ?_)
        · replace hf := if_f c_7 hf
          exact w_M_X6_holds_b177 X K hkb124 ih _ _ _ _ _ _ _ _ ls _ _ O (lv_sub hl [1, 2, 0, 3, 4, 5, 6, 7] rfl) hf
        · replace hf := if_t c_7 hf
          refine lv_bipush (v := 20) hx hb dX6_holds_167 (by decide) ?_
          refine lv_iload hx hb dX6_holds_169 (lv_at hl 6 rfl) ?_
          refine lv_imul hx hb dX6_holds_171 ?_
          refine lv_iload hx hb dX6_holds_172 (lv_at hl 7 rfl) ?_
          refine lv_iadd hx hb dX6_holds_174 ?_
          obtain ⟨x7_8, ex7_8, hf⟩ := lt1_s hf
          refine x_top (w := .int x7_8) (by rw [ex7_8]) ?_
          refine lv_istore (lv' := [(7, .int x7_8), (6, .int x6_6), (0, .ref (h 99 0 0)), (5, .int x5), (8, .int x8), (9, .long x9), (11, .int x11), (12, .int x12)]) hx hb dX6_holds_175 hl (by decide) rfl (fun ls hl => ?_)
          exact w_M_X6_holds_b177 X K hkb124 ih _ _ _ _ _ _ _ _ ls _ _ O (lv_sub hl [2, 3, 1, 0, 4, 5, 6, 7] rfl) hf
      · replace hf := if_t c_5 hf
        refine lv_goto (tgt := 237) hx hb dX6_holds_152 (by decide) ?_
        exact w_M_X6_holds_b237 X K hkb124 ih _ _ _ _ _ _ _ _ ls _ _ O (lv_sub hl [0, 1, 2, 3, 4, 5, 6, 7] rfl) hf
def M_X6_holds_b124 : Nat → ST → Int32 → Int32 → Int32 → Int32 → Int64 → Int32 → Option (ST × Int32)
  | 0, _, _, _, _, _, _, _ => none
  | n + 1, σ, x5, x6, x7, x8, x9, x11 =>
    (if 13 < x11 then (if x5 = 0 then some (σ, x6) else (if x5 = 1 then some (σ, x7) else some (σ, x8))) else M_X6_holds_b134 (M_X6_holds_b124 n) FUEL σ x5 x6 x7 x8 x9 x11 1)
theorem w_M_X6_holds_b124 (X : FX p m c meth s args RX6 cX6_holds 15 (some .int)) (K : XK D d A s) {z : ST × Int32} : ∀ (n : Nat) (σ : ST) (x5 : Int32) (x6 : Int32) (x7 : Int32) (x8 : Int32) (x9 : Int64) (x11 : Int32) (ls : Array Slot) (H : Heap) (locs : List Loc), XH D A s.heap h (xct LM okM h d σ) H locs → lv_has ls 15 [(0, .ref (h 99 0 0)), (5, .int x5), (6, .int x6), (7, .int x7), (8, .int x8), (9, .long x9), (11, .int x11)] → M_X6_holds_b124 n σ x5 x6 x7 x8 x9 x11 = some z → W p l e (rmD 4 0 0) s m args below meth c H locs 0 0 (MQ below (Qi D (pz z) (cw h LM okM d) A) args s 0 0 A) (F0 m 124 ls []) := by
  have hx := X.1.1; have hb := X.1.2.1
  intro n
  induction n with
  | zero =>
    intro σ x5 x6 x7 x8 x9 x11 ls H locs O hl hf
    exact absurd hf (fun q => by cases q)
  | succ n ih =>
    intro σ x5 x6 x7 x8 x9 x11 ls H locs O hl hf
    rw [M_X6_holds_b124] at hf
    refine lv_iload hx hb dX6_holds_124 (lv_at hl 6 rfl) ?_
    refine lv_bipush (v := 13) hx hb dX6_holds_126 (by decide) ?_
    refine lv_icmp_gt (tgt := 249) hx hb dX6_holds_128 (by decide) (fun c_1 => ?_) (fun c_1 => ?_)
    · replace hf := if_t c_1 hf
      refine lv_iload hx hb dX6_holds_249 (lv_at hl 1 rfl) ?_
      refine lv_if_ne (tgt := 259) hx hb dX6_holds_251 (by decide) (fun c_2 => ?_) (fun c_2 => ?_)
      · replace hf := if_f c_2 hf
        refine lv_iload hx hb dX6_holds_259 (lv_at hl 1 rfl) ?_
        refine lv_iconst (v := 1) hx hb dX6_holds_261 (by decide) ?_
        refine lv_icmp_ne (tgt := 270) hx hb dX6_holds_262 (by decide) (fun c_3 => ?_) (fun c_3 => ?_)
        · replace hf := if_f c_3 hf
          refine lv_iload hx hb dX6_holds_270 (lv_at hl 4 rfl) ?_
          exact x_iret X O rfl _ (Option.some.inj hf).symm rfl dX6_holds_272
        · replace hf := if_t c_3 hf
          refine lv_iload hx hb dX6_holds_265 (lv_at hl 3 rfl) ?_
          refine lv_goto (tgt := 272) hx hb dX6_holds_267 (by decide) ?_
          exact x_iret X O rfl _ (Option.some.inj hf).symm rfl dX6_holds_272
      · replace hf := if_t c_2 hf
        refine lv_iload hx hb dX6_holds_254 (lv_at hl 2 rfl) ?_
        refine lv_goto (tgt := 272) hx hb dX6_holds_256 (by decide) ?_
        exact x_iret X O rfl _ (Option.some.inj hf).symm rfl dX6_holds_272
    · replace hf := if_f c_1 hf
      refine lv_iconst (v := 1) hx hb dX6_holds_131 (by decide) ?_
      refine lv_istore (lv' := [(12, .int 1), (0, .ref (h 99 0 0)), (5, .int x5), (6, .int x6), (7, .int x7), (8, .int x8), (9, .long x9), (11, .int x11)]) hx hb dX6_holds_132 hl (by decide) rfl (fun ls hl => ?_)
      exact w_M_X6_holds_b134 X K ih _ _ _ _ _ _ _ _ _ ls _ _ O (lv_sub hl [1, 2, 3, 4, 5, 6, 7, 0] rfl) hf
def M_X6_holds_b43 (kb33 : ST → Int32 → Int32 → Int32 → Int32 → Int32 → Int32 → Option (ST × Int32)) : Nat → ST → Int32 → Int32 → Int32 → Int32 → Int32 → Int32 → Int32 → Option (ST × Int32)
  | 0, _, _, _, _, _, _, _, _ => none
  | n + 1, σ, x1, x2, x3, x4, x5, x6, x7 =>
    (if 13 < x7 then lt1 (x6 + 1) (fun x6_2 => kb33 σ x1 x2 x3 x4 x5 x6_2) else bn1 (M_X6_pairs σ x1 x2 x3 x4 x6 x7) (fun σ_3 => ck (okI ((14 * x6) + x7) 196) (lt1 (sL σ_3 47 0 0 (Int32.toNatClampNeg ((14 * x6) + x7)) (gL σ_3 99 0 0 45)) (fun σ_5 => ck (okI ((14 * x6) + x7) 196) (lt1 (sL σ_5 48 0 0 (Int32.toNatClampNeg ((14 * x6) + x7)) (gL σ_5 99 0 0 46)) (fun σ_7 => lt1 (x7 + 1) (fun x7_8 => (M_X6_holds_b43 kb33 n) σ_7 x1 x2 x3 x4 x5 x6 x7_8)))))))
theorem w_M_X6_holds_b43 (X : FX p m c meth s args RX6 cX6_holds 15 (some .int)) (K : XK D d A s) {z : ST × Int32} {kb33 : ST → Int32 → Int32 → Int32 → Int32 → Int32 → Int32 → Option (ST × Int32)} (hkb33 : ∀ (σ : ST) (x1 : Int32) (x2 : Int32) (x3 : Int32) (x4 : Int32) (x5 : Int32) (x6 : Int32) (ls : Array Slot) (H : Heap) (locs : List Loc), XH D A s.heap h (xct LM okM h d σ) H locs → lv_has ls 15 [(0, .ref (h 99 0 0)), (1, .int x1), (2, .int x2), (3, .int x3), (4, .int x4), (5, .int x5), (6, .int x6)] → kb33 σ x1 x2 x3 x4 x5 x6 = some z → W p l e (rmD 4 0 0) s m args below meth c H locs 0 0 (MQ below (Qi D (pz z) (cw h LM okM d) A) args s 0 0 A) (F0 m 33 ls [])) : ∀ (n : Nat) (σ : ST) (x1 : Int32) (x2 : Int32) (x3 : Int32) (x4 : Int32) (x5 : Int32) (x6 : Int32) (x7 : Int32) (ls : Array Slot) (H : Heap) (locs : List Loc), XH D A s.heap h (xct LM okM h d σ) H locs → lv_has ls 15 [(0, .ref (h 99 0 0)), (1, .int x1), (2, .int x2), (3, .int x3), (4, .int x4), (5, .int x5), (6, .int x6), (7, .int x7)] → M_X6_holds_b43 kb33 n σ x1 x2 x3 x4 x5 x6 x7 = some z → W p l e (rmD 4 0 0) s m args below meth c H locs 0 0 (MQ below (Qi D (pz z) (cw h LM okM d) A) args s 0 0 A) (F0 m 43 ls []) := by
  have hx := X.1.1; have hb := X.1.2.1
  intro n
  induction n with
  | zero =>
    intro σ x1 x2 x3 x4 x5 x6 x7 ls H locs O hl hf
    exact absurd hf (fun q => by cases q)
  | succ n ih =>
    intro σ x1 x2 x3 x4 x5 x6 x7 ls H locs O hl hf
    rw [M_X6_holds_b43] at hf
    refine lv_iload hx hb dX6_holds_43 (lv_at hl 7 rfl) ?_
    refine lv_bipush (v := 13) hx hb dX6_holds_45 (by decide) ?_
    refine lv_icmp_gt (tgt := 103) hx hb dX6_holds_47 (by decide) (fun c_1 => ?_) (fun c_1 => ?_)
    · replace hf := if_t c_1 hf
      obtain ⟨x6_2, ex6_2, hf⟩ := lt1_s hf
      refine lv_iinc (v := x6_2) (lv' := [(6, .int x6_2), (0, .ref (h 99 0 0)), (1, .int x1), (2, .int x2), (3, .int x3), (4, .int x4), (5, .int x5), (7, .int x7)]) hx hb dX6_holds_103 hl (k := 6) rfl (by rw [ex6_2]; rfl) (by decide) rfl (fun ls hl => ?_)
      refine lv_goto (tgt := 33) hx hb dX6_holds_106 (by decide) ?_
      exact hkb33 _ _ _ _ _ _ _ ls _ _ O (lv_sub hl [1, 2, 3, 4, 5, 6, 0] rfl) hf
    · replace hf := if_f c_1 hf
      refine lv_aload_n hx hb dX6_holds_50 rfl (lv_at hl 0 rfl) ?_
      refine lv_iload_n hx hb dX6_holds_51 rfl (lv_at hl 1 rfl) ?_
      refine lv_iload_n hx hb dX6_holds_52 rfl (lv_at hl 2 rfl) ?_
      refine lv_iload_n hx hb dX6_holds_53 rfl (lv_at hl 3 rfl) ?_
      refine lv_iload hx hb dX6_holds_54 (lv_at hl 4 rfl) ?_
      refine lv_iload hx hb dX6_holds_56 (lv_at hl 6 rfl) ?_
      refine lv_iload hx hb dX6_holds_58 (lv_at hl 7 rfl) ?_
      obtain ⟨σ_3, hg, hf⟩ := bn1_s hf
      refine x_callv (x_runV (As := [.int x1, .int x2, .int x3, .int x4, .int x6, .int x7]) (rest := []) X K O (xct_obj rfl LM_99) rfl (m_M_X6_pairs hg) EN_b EN_h (lw_V q1603 q1605 qs97 q124 q1606) 6 rfl hl.1 (Nat.le_of_ble_eq_true rfl) hdV_X6_pairs ⟨by decide, by decide⟩ ⟨Nat.le_refl _, Nat.le_refl _⟩ dX6_holds_60) (fun u H locs hp O _ => ?_)
      cases hp
      have O : XH D A s.heap h (xct LM okM h d σ_3) H locs := O
      refine lv_aload_n hx hb dX6_holds_63 rfl (lv_at hl 0 rfl) ?_
      refine x_gF X K O 47 rfl LM_99 rfl rfl in_X6 (by decide) q1197 dX6_holds_64 ?_
      refine lv_bipush (v := 14) hx hb dX6_holds_67 (by decide) ?_
      refine lv_iload hx hb dX6_holds_69 (lv_at hl 6 rfl) ?_
      refine lv_imul hx hb dX6_holds_71 ?_
      refine lv_iload hx hb dX6_holds_72 (lv_at hl 7 rfl) ?_
      refine lv_iadd hx hb dX6_holds_74 ?_
      refine lv_aload_n hx hb dX6_holds_75 rfl (lv_at hl 0 rfl) ?_
      refine x_gL X K O 45 rfl LM_99 rfl rfl in_X6 (by decide) q1195 dX6_holds_76 ?_
      obtain ⟨c_4, hf⟩ := ck_s hf
      obtain ⟨σ_5, eσ_5, hf⟩ := lt1_s hf
      refine x_lst X K O rfl LM_47 c_4 (j := (Int32.toNatClampNeg ((14 * x6) + x7))) rfl dX6_holds_79 (fun H locs O => ?_)
      rw [← eσ_5] at O
      refine lv_aload_n hx hb dX6_holds_80 rfl (lv_at hl 0 rfl) ?_
      refine x_gF X K O 48 rfl LM_99 rfl rfl in_X6 (by decide) q1198 dX6_holds_81 ?_
      refine lv_bipush (v := 14) hx hb dX6_holds_84 (by decide) ?_
      refine lv_iload hx hb dX6_holds_86 (lv_at hl 6 rfl) ?_
      refine lv_imul hx hb dX6_holds_88 ?_
      refine lv_iload hx hb dX6_holds_89 (lv_at hl 7 rfl) ?_
      refine lv_iadd hx hb dX6_holds_91 ?_
      refine lv_aload_n hx hb dX6_holds_92 rfl (lv_at hl 0 rfl) ?_
      refine x_gL X K O 46 rfl LM_99 rfl rfl in_X6 (by decide) q1196 dX6_holds_93 ?_
      obtain ⟨c_6, hf⟩ := ck_s hf
      obtain ⟨σ_7, eσ_7, hf⟩ := lt1_s hf
      refine x_lst X K O rfl LM_48 c_6 (j := (Int32.toNatClampNeg ((14 * x6) + x7))) rfl dX6_holds_96 (fun H locs O => ?_)
      rw [← eσ_7] at O
      obtain ⟨x7_8, ex7_8, hf⟩ := lt1_s hf
      refine lv_iinc (v := x7_8) (lv' := [(7, .int x7_8), (0, .ref (h 99 0 0)), (1, .int x1), (2, .int x2), (3, .int x3), (4, .int x4), (5, .int x5), (6, .int x6)]) hx hb dX6_holds_97 hl (k := 7) rfl (by rw [ex7_8]; rfl) (by decide) rfl (fun ls hl => ?_)
      refine lv_goto (tgt := 43) hx hb dX6_holds_100 (by decide) ?_
      exact ih _ _ _ _ _ _ _ _ ls _ _ O (lv_sub hl [1, 2, 3, 4, 5, 6, 7, 0] rfl) hf
def M_X6_holds_b33 : Nat → ST → Int32 → Int32 → Int32 → Int32 → Int32 → Int32 → Option (ST × Int32)
  | 0, _, _, _, _, _, _, _ => none
  | n + 1, σ, x1, x2, x3, x4, x5, x6 =>
    (if 13 < x6 then M_X6_holds_b124 FUEL σ x5 0 (-1) (-1) 0 1 else M_X6_holds_b43 (M_X6_holds_b33 n) FUEL σ x1 x2 x3 x4 x5 x6 1)
theorem w_M_X6_holds_b33 (X : FX p m c meth s args RX6 cX6_holds 15 (some .int)) (K : XK D d A s) {z : ST × Int32} : ∀ (n : Nat) (σ : ST) (x1 : Int32) (x2 : Int32) (x3 : Int32) (x4 : Int32) (x5 : Int32) (x6 : Int32) (ls : Array Slot) (H : Heap) (locs : List Loc), XH D A s.heap h (xct LM okM h d σ) H locs → lv_has ls 15 [(0, .ref (h 99 0 0)), (1, .int x1), (2, .int x2), (3, .int x3), (4, .int x4), (5, .int x5), (6, .int x6)] → M_X6_holds_b33 n σ x1 x2 x3 x4 x5 x6 = some z → W p l e (rmD 4 0 0) s m args below meth c H locs 0 0 (MQ below (Qi D (pz z) (cw h LM okM d) A) args s 0 0 A) (F0 m 33 ls []) := by
  have hx := X.1.1; have hb := X.1.2.1
  intro n
  induction n with
  | zero =>
    intro σ x1 x2 x3 x4 x5 x6 ls H locs O hl hf
    exact absurd hf (fun q => by cases q)
  | succ n ih =>
    intro σ x1 x2 x3 x4 x5 x6 ls H locs O hl hf
    rw [M_X6_holds_b33] at hf
    refine lv_iload hx hb dX6_holds_33 (lv_at hl 6 rfl) ?_
    refine lv_bipush (v := 13) hx hb dX6_holds_35 (by decide) ?_
    refine lv_icmp_gt (tgt := 109) hx hb dX6_holds_37 (by decide) (fun c_1 => ?_) (fun c_1 => ?_)
    · replace hf := if_t c_1 hf
      refine lv_iconst (v := 0) hx hb dX6_holds_109 (by decide) ?_
      refine lv_istore (lv' := [(6, .int 0), (0, .ref (h 99 0 0)), (1, .int x1), (2, .int x2), (3, .int x3), (4, .int x4), (5, .int x5)]) hx hb dX6_holds_110 hl (by decide) rfl (fun ls hl => ?_)
      refine lv_iconst (v := (-1)) hx hb dX6_holds_112 (by decide) ?_
      refine lv_istore (lv' := [(7, .int (-1)), (6, .int 0), (0, .ref (h 99 0 0)), (1, .int x1), (2, .int x2), (3, .int x3), (4, .int x4), (5, .int x5)]) hx hb dX6_holds_113 hl (by decide) rfl (fun ls hl => ?_)
      refine lv_iconst (v := (-1)) hx hb dX6_holds_115 (by decide) ?_
      refine lv_istore (lv' := [(8, .int (-1)), (7, .int (-1)), (6, .int 0), (0, .ref (h 99 0 0)), (1, .int x1), (2, .int x2), (3, .int x3), (4, .int x4), (5, .int x5)]) hx hb dX6_holds_116 hl (by decide) rfl (fun ls hl => ?_)
      refine lv_lconst (v := 0) hx hb dX6_holds_118 (by decide) ?_
      refine lv_lstore (lv' := [(9, .long 0), (8, .int (-1)), (7, .int (-1)), (6, .int 0), (0, .ref (h 99 0 0)), (1, .int x1), (2, .int x2), (3, .int x3), (4, .int x4), (5, .int x5)]) hx hb dX6_holds_119 hl (by decide) rfl (fun ls hl => ?_)
      refine lv_iconst (v := 1) hx hb dX6_holds_121 (by decide) ?_
      refine lv_istore (lv' := [(11, .int 1), (9, .long 0), (8, .int (-1)), (7, .int (-1)), (6, .int 0), (0, .ref (h 99 0 0)), (1, .int x1), (2, .int x2), (3, .int x3), (4, .int x4), (5, .int x5)]) hx hb dX6_holds_122 hl (by decide) rfl (fun ls hl => ?_)
      exact w_M_X6_holds_b124 X K _ _ _ _ _ _ _ _ ls _ _ O (lv_sub hl [5, 10, 4, 3, 2, 1, 0] rfl) hf
    · replace hf := if_f c_1 hf
      refine lv_iconst (v := 1) hx hb dX6_holds_40 (by decide) ?_
      refine lv_istore (lv' := [(7, .int 1), (0, .ref (h 99 0 0)), (1, .int x1), (2, .int x2), (3, .int x3), (4, .int x4), (5, .int x5), (6, .int x6)]) hx hb dX6_holds_41 hl (by decide) rfl (fun ls hl => ?_)
      exact w_M_X6_holds_b43 X K ih _ _ _ _ _ _ _ _ _ ls _ _ O (lv_sub hl [1, 2, 3, 4, 5, 6, 7, 0] rfl) hf
def M_X6_holds (σ : ST) (p1 : Int32) (p2 : Int32) (p3 : Int32) (p4 : Int32) (p5 : Int32) : Option (ST × Int32) :=
  lt1 (sI σ 99 0 0 0 0) (fun σ_1 => bn2 (M_X6_canPair σ_1 p1 p2 p3 p4) (fun σ_2 r_3 => (if r_3 = 0 then some (σ_2, (-1)) else bn2 (M_X6_isIn σ_2 p5 0 2) (fun σ_5 r_6 => (if r_6 = 0 then some (σ_5, (-1)) else M_X6_holds_b33 FUEL σ_5 p1 p2 p3 p4 p5 1)))))
theorem m_M_X6_holds {l : Launch} {D : va_G} {d : Nat → ClassId} {h : IX} {p1 : Int32} {p2 : Int32} {p3 : Int32} {p4 : Int32} {p5 : Int32} {σ : ST} {z : ST × Int32} (hf : M_X6_holds σ p1 p2 p3 p4 p5 = some z) : XM l D d EN yX6_holds cX6_holds 15 (some .int) 4 0 0 [.ref (h 99 0 0), .int p1, .int p2, .int p3, .int p4, .int p5] h (xct LM okM h d σ) (Qi D (pz z) (cw h LM okM d)) := by
  refine XM.of (by decide +kernel) (Nat.le_of_ble_eq_true rfl) ?_
  intro p e s m below meth c A ls X _ K _ O hl
  have hl : lv_has ls 15 [(0, .ref (h 99 0 0)), (1, .int p1), (2, .int p2), (3, .int p3), (4, .int p4), (5, .int p5)] := hl
  have hx := X.1.1; have hb := X.1.2.1
  rw [M_X6_holds] at hf
  refine lv_aload_n hx hb dX6_holds_0 rfl (lv_at hl 0 rfl) ?_
  refine lv_iconst (v := 0) hx hb dX6_holds_1 (by decide) ?_
  obtain ⟨σ_1, eσ_1, hf⟩ := lt1_s hf
  refine x_pI X K O 0 rfl LM_99 rfl rfl in_X6 tyX6_ok nmX6 (by decide) q1150 rfl rfl rfl dX6_holds_2 (fun H locs O => ?_)
  rw [← eσ_1] at O
  refine lv_aload_n hx hb dX6_holds_5 rfl (lv_at hl 0 rfl) ?_
  refine lv_iload_n hx hb dX6_holds_6 rfl (lv_at hl 1 rfl) ?_
  refine lv_iload_n hx hb dX6_holds_7 rfl (lv_at hl 2 rfl) ?_
  refine lv_iload_n hx hb dX6_holds_8 rfl (lv_at hl 3 rfl) ?_
  refine lv_iload hx hb dX6_holds_9 (lv_at hl 4 rfl) ?_
  obtain ⟨σ_2, r_3, hg, hf⟩ := bn2_s hf
  refine x_calli (x_runV (As := [.int p1, .int p2, .int p3, .int p4]) (rest := []) X K O (xct_obj rfl LM_99) rfl (m_M_X6_canPair hg) EN_b EN_h (lw_V q1599 q1601 qs96 q124 q1602) 4 rfl hl.1 (Nat.le_of_ble_eq_true rfl) hdV_X6_canPair ⟨by decide, by decide⟩ ⟨Nat.le_refl _, Nat.le_refl _⟩ dX6_holds_11) (fun r u H locs hp O _ => ?_)
  cases hp
  have O : XH D A s.heap h (xct LM okM h d σ_2) H locs := O
  refine lv_if_eq (tgt := 28) hx hb dX6_holds_14 (by decide) (fun c_4 => ?_) (fun c_4 => ?_)
  · replace hf := if_t c_4 hf
    refine lv_iconst (v := (-1)) hx hb dX6_holds_28 (by decide) ?_
    exact x_iret X O rfl _ (Option.some.inj hf).symm rfl dX6_holds_29
  · replace hf := if_f c_4 hf
    refine lv_aload_n hx hb dX6_holds_17 rfl (lv_at hl 0 rfl) ?_
    refine lv_iload hx hb dX6_holds_18 (lv_at hl 5 rfl) ?_
    refine lv_iconst (v := 0) hx hb dX6_holds_20 (by decide) ?_
    refine lv_iconst (v := 2) hx hb dX6_holds_21 (by decide) ?_
    obtain ⟨σ_5, r_6, hg, hf⟩ := bn2_s hf
    refine x_calli (x_runV (As := [.int p5, .int 0, .int 2]) (rest := []) X K O (xct_obj rfl LM_99) rfl (m_M_X6_isIn hg) EN_b EN_h (lw_V q1327 q1329 qs45 q124 q1330) 3 rfl hl.1 (Nat.le_of_ble_eq_true rfl) hdV_X6_isIn ⟨by decide, by decide⟩ ⟨Nat.le_refl _, Nat.le_refl _⟩ dX6_holds_22) (fun r u H locs hp O _ => ?_)
    cases hp
    have O : XH D A s.heap h (xct LM okM h d σ_5) H locs := O
    refine lv_if_ne (tgt := 30) hx hb dX6_holds_25 (by decide) (fun c_7 => ?_) (fun c_7 => ?_)
    · replace hf := if_f c_7 hf
      refine lv_iconst (v := 1) hx hb dX6_holds_30 (by decide) ?_
      refine lv_istore (lv' := [(6, .int 1), (0, .ref (h 99 0 0)), (1, .int p1), (2, .int p2), (3, .int p3), (4, .int p4), (5, .int p5)]) hx hb dX6_holds_31 hl (by decide) rfl (fun ls hl => ?_)
      exact w_M_X6_holds_b33 X K _ _ _ _ _ _ _ _ ls _ _ O (lv_sub hl [1, 2, 3, 4, 5, 6, 0] rfl) hf
    · replace hf := if_t c_7 hf
      refine lv_iconst (v := (-1)) hx hb dX6_holds_28 (by decide) ?_
      exact x_iret X O rfl _ (Option.some.inj hf).symm rfl dX6_holds_29
def M_X6_safe_b65 (kb9 : ST → Int32 → Int32 → Option (ST × Int32)) (σ : ST) (x1 : Int32) (x2 : Int32) : Option (ST × Int32) :=
  lt1 (x2 + 1) (fun x2_1 => kb9 σ x1 x2_1)
theorem w_M_X6_safe_b65 (X : FX p m c meth s args RX6 cX6_safe 5 (some .int)) (K : XK D d A s) {z : ST × Int32} {kb9 : ST → Int32 → Int32 → Option (ST × Int32)} (hkb9 : ∀ (σ : ST) (x1 : Int32) (x2 : Int32) (ls : Array Slot) (H : Heap) (locs : List Loc), XH D A s.heap h (xct LM okM h d σ) H locs → lv_has ls 5 [(0, .ref (h 99 0 0)), (1, .int x1), (2, .int x2)] → kb9 σ x1 x2 = some z → W p l e (rmD 3 0 0) s m args below meth c H locs 0 0 (MQ below (Qi D (pz z) (cw h LM okM d) A) args s 0 0 A) (F0 m 9 ls [])) (σ : ST) (x1 : Int32) (x2 : Int32) (ls : Array Slot) (H : Heap) (locs : List Loc) (O : XH D A s.heap h (xct LM okM h d σ) H locs) (hl : lv_has ls 5 [(0, .ref (h 99 0 0)), (1, .int x1), (2, .int x2)]) (hf : M_X6_safe_b65 kb9 σ x1 x2 = some z) : W p l e (rmD 3 0 0) s m args below meth c H locs 0 0 (MQ below (Qi D (pz z) (cw h LM okM d) A) args s 0 0 A) (F0 m 65 ls []) := by
  have hx := X.1.1; have hb := X.1.2.1
  rw [M_X6_safe_b65] at hf
  obtain ⟨x2_1, ex2_1, hf⟩ := lt1_s hf
  refine lv_iinc (v := x2_1) (lv' := [(2, .int x2_1), (0, .ref (h 99 0 0)), (1, .int x1)]) hx hb dX6_safe_65 hl (k := 2) rfl (by rw [ex2_1]; rfl) (by decide) rfl (fun ls hl => ?_)
  refine lv_goto (tgt := 9) hx hb dX6_safe_68 (by decide) ?_
  exact hkb9 _ _ _ ls _ _ O (lv_sub hl [1, 2, 0] rfl) hf
def M_X6_safe_b55 (kb9 : ST → Int32 → Int32 → Option (ST × Int32)) (σ : ST) (x1 : Int32) (x2 : Int32) (x3 : Int32) : Option (ST × Int32) :=
  (if x3 = 0 then M_X6_safe_b65 kb9 σ x1 x2 else lt1 (x1 ||| (1 <<< (x2 &&& 31))) (fun x1_2 => M_X6_safe_b65 kb9 σ x1_2 x2))
theorem w_M_X6_safe_b55 (X : FX p m c meth s args RX6 cX6_safe 5 (some .int)) (K : XK D d A s) {z : ST × Int32} {kb9 : ST → Int32 → Int32 → Option (ST × Int32)} (hkb9 : ∀ (σ : ST) (x1 : Int32) (x2 : Int32) (ls : Array Slot) (H : Heap) (locs : List Loc), XH D A s.heap h (xct LM okM h d σ) H locs → lv_has ls 5 [(0, .ref (h 99 0 0)), (1, .int x1), (2, .int x2)] → kb9 σ x1 x2 = some z → W p l e (rmD 3 0 0) s m args below meth c H locs 0 0 (MQ below (Qi D (pz z) (cw h LM okM d) A) args s 0 0 A) (F0 m 9 ls [])) (σ : ST) (x1 : Int32) (x2 : Int32) (x3 : Int32) (ls : Array Slot) (H : Heap) (locs : List Loc) (O : XH D A s.heap h (xct LM okM h d σ) H locs) (hl : lv_has ls 5 [(0, .ref (h 99 0 0)), (1, .int x1), (2, .int x2), (3, .int x3)]) (hf : M_X6_safe_b55 kb9 σ x1 x2 x3 = some z) : W p l e (rmD 3 0 0) s m args below meth c H locs 0 0 (MQ below (Qi D (pz z) (cw h LM okM d) A) args s 0 0 A) (F0 m 55 ls []) := by
  have hx := X.1.1; have hb := X.1.2.1
  rw [M_X6_safe_b55] at hf
  refine lv_iload_n hx hb dX6_safe_55 rfl (lv_at hl 3 rfl) ?_
  refine lv_if_eq (tgt := 65) hx hb dX6_safe_56 (by decide) (fun c_1 => ?_) (fun c_1 => ?_)
  · replace hf := if_t c_1 hf
    exact w_M_X6_safe_b65 X K hkb9 _ _ _ ls _ _ O (lv_sub hl [0, 1, 2] rfl) hf
  · replace hf := if_f c_1 hf
    refine lv_iload_n hx hb dX6_safe_59 rfl (lv_at hl 1 rfl) ?_
    refine lv_iconst (v := 1) hx hb dX6_safe_60 (by decide) ?_
    refine lv_iload_n hx hb dX6_safe_61 rfl (lv_at hl 2 rfl) ?_
    refine lv_ishl hx hb dX6_safe_62 ?_
    refine lv_ior hx hb dX6_safe_63 ?_
    obtain ⟨x1_2, ex1_2, hf⟩ := lt1_s hf
    refine x_top (w := .int x1_2) (by rw [ex1_2]) ?_
    refine lv_istore_n (lv' := [(1, .int x1_2), (0, .ref (h 99 0 0)), (2, .int x2), (3, .int x3)]) hx hb dX6_safe_64 rfl hl (by decide) rfl (fun ls hl => ?_)
    exact w_M_X6_safe_b65 X K hkb9 _ _ _ ls _ _ O (lv_sub hl [1, 0, 2] rfl) hf
def M_X6_safe_b48 (kb9 : ST → Int32 → Int32 → Option (ST × Int32)) (kb22 : ST → Int32 → Int32 → Int32 → Int32 → Option (ST × Int32)) (σ : ST) (x1 : Int32) (x2 : Int32) (x4 : Int32) (s0 : Int32) : Option (ST × Int32) :=
  lt1 (x4 + 1) (fun x4_1 => kb22 σ x1 x2 s0 x4_1)
theorem w_M_X6_safe_b48 (X : FX p m c meth s args RX6 cX6_safe 5 (some .int)) (K : XK D d A s) {z : ST × Int32} {kb9 : ST → Int32 → Int32 → Option (ST × Int32)} (hkb9 : ∀ (σ : ST) (x1 : Int32) (x2 : Int32) (ls : Array Slot) (H : Heap) (locs : List Loc), XH D A s.heap h (xct LM okM h d σ) H locs → lv_has ls 5 [(0, .ref (h 99 0 0)), (1, .int x1), (2, .int x2)] → kb9 σ x1 x2 = some z → W p l e (rmD 3 0 0) s m args below meth c H locs 0 0 (MQ below (Qi D (pz z) (cw h LM okM d) A) args s 0 0 A) (F0 m 9 ls [])) {kb22 : ST → Int32 → Int32 → Int32 → Int32 → Option (ST × Int32)} (hkb22 : ∀ (σ : ST) (x1 : Int32) (x2 : Int32) (x3 : Int32) (x4 : Int32) (ls : Array Slot) (H : Heap) (locs : List Loc), XH D A s.heap h (xct LM okM h d σ) H locs → lv_has ls 5 [(0, .ref (h 99 0 0)), (1, .int x1), (2, .int x2), (3, .int x3), (4, .int x4)] → kb22 σ x1 x2 x3 x4 = some z → W p l e (rmD 3 0 0) s m args below meth c H locs 0 0 (MQ below (Qi D (pz z) (cw h LM okM d) A) args s 0 0 A) (F0 m 22 ls [])) (σ : ST) (x1 : Int32) (x2 : Int32) (x4 : Int32) (s0 : Int32) (ls : Array Slot) (H : Heap) (locs : List Loc) (O : XH D A s.heap h (xct LM okM h d σ) H locs) (hl : lv_has ls 5 [(0, .ref (h 99 0 0)), (1, .int x1), (2, .int x2), (4, .int x4)]) (hf : M_X6_safe_b48 kb9 kb22 σ x1 x2 x4 s0 = some z) : W p l e (rmD 3 0 0) s m args below meth c H locs 0 0 (MQ below (Qi D (pz z) (cw h LM okM d) A) args s 0 0 A) (F0 m 48 ls [.int s0]) := by
  have hx := X.1.1; have hb := X.1.2.1
  rw [M_X6_safe_b48] at hf
  refine lv_istore_n (lv' := [(3, .int s0), (0, .ref (h 99 0 0)), (1, .int x1), (2, .int x2), (4, .int x4)]) hx hb dX6_safe_48 rfl hl (by decide) rfl (fun ls hl => ?_)
  obtain ⟨x4_1, ex4_1, hf⟩ := lt1_s hf
  refine lv_iinc (v := x4_1) (lv' := [(4, .int x4_1), (3, .int s0), (0, .ref (h 99 0 0)), (1, .int x1), (2, .int x2)]) hx hb dX6_safe_49 hl (k := 4) rfl (by rw [ex4_1]; rfl) (by decide) rfl (fun ls hl => ?_)
  refine lv_goto (tgt := 22) hx hb dX6_safe_52 (by decide) ?_
  exact hkb22 _ _ _ _ _ ls _ _ O (lv_sub hl [2, 3, 4, 1, 0] rfl) hf
def M_X6_safe_b22 (kb9 : ST → Int32 → Int32 → Option (ST × Int32)) : Nat → ST → Int32 → Int32 → Int32 → Int32 → Option (ST × Int32)
  | 0, _, _, _, _, _ => none
  | n + 1, σ, x1, x2, x3, x4 =>
    (if 12 < x4 then M_X6_safe_b55 kb9 σ x1 x2 x3 else (if x3 = 0 then M_X6_safe_b55 kb9 σ x1 x2 x3 else bn2 (M_X6_isLawful σ x2 x4) (fun σ_3 r_4 => (if r_4 = 0 then M_X6_safe_b48 kb9 (M_X6_safe_b22 kb9 n) σ_3 x1 x2 x4 1 else M_X6_safe_b48 kb9 (M_X6_safe_b22 kb9 n) σ_3 x1 x2 x4 0))))
theorem w_M_X6_safe_b22 (X : FX p m c meth s args RX6 cX6_safe 5 (some .int)) (K : XK D d A s) {z : ST × Int32} {kb9 : ST → Int32 → Int32 → Option (ST × Int32)} (hkb9 : ∀ (σ : ST) (x1 : Int32) (x2 : Int32) (ls : Array Slot) (H : Heap) (locs : List Loc), XH D A s.heap h (xct LM okM h d σ) H locs → lv_has ls 5 [(0, .ref (h 99 0 0)), (1, .int x1), (2, .int x2)] → kb9 σ x1 x2 = some z → W p l e (rmD 3 0 0) s m args below meth c H locs 0 0 (MQ below (Qi D (pz z) (cw h LM okM d) A) args s 0 0 A) (F0 m 9 ls [])) : ∀ (n : Nat) (σ : ST) (x1 : Int32) (x2 : Int32) (x3 : Int32) (x4 : Int32) (ls : Array Slot) (H : Heap) (locs : List Loc), XH D A s.heap h (xct LM okM h d σ) H locs → lv_has ls 5 [(0, .ref (h 99 0 0)), (1, .int x1), (2, .int x2), (3, .int x3), (4, .int x4)] → M_X6_safe_b22 kb9 n σ x1 x2 x3 x4 = some z → W p l e (rmD 3 0 0) s m args below meth c H locs 0 0 (MQ below (Qi D (pz z) (cw h LM okM d) A) args s 0 0 A) (F0 m 22 ls []) := by
  have hx := X.1.1; have hb := X.1.2.1
  intro n
  induction n with
  | zero =>
    intro σ x1 x2 x3 x4 ls H locs O hl hf
    exact absurd hf (fun q => by cases q)
  | succ n ih =>
    intro σ x1 x2 x3 x4 ls H locs O hl hf
    rw [M_X6_safe_b22] at hf
    refine lv_iload hx hb dX6_safe_22 (lv_at hl 4 rfl) ?_
    refine lv_bipush (v := 12) hx hb dX6_safe_24 (by decide) ?_
    refine lv_icmp_gt (tgt := 55) hx hb dX6_safe_26 (by decide) (fun c_1 => ?_) (fun c_1 => ?_)
    · replace hf := if_t c_1 hf
      exact w_M_X6_safe_b55 X K hkb9 _ _ _ _ ls _ _ O (lv_sub hl [0, 1, 2, 3] rfl) hf
    · replace hf := if_f c_1 hf
      refine lv_iload_n hx hb dX6_safe_29 rfl (lv_at hl 3 rfl) ?_
      refine lv_if_eq (tgt := 55) hx hb dX6_safe_30 (by decide) (fun c_2 => ?_) (fun c_2 => ?_)
      · replace hf := if_t c_2 hf
        exact w_M_X6_safe_b55 X K hkb9 _ _ _ _ ls _ _ O (lv_sub hl [0, 1, 2, 3] rfl) hf
      · replace hf := if_f c_2 hf
        refine lv_aload_n hx hb dX6_safe_33 rfl (lv_at hl 0 rfl) ?_
        refine lv_iload_n hx hb dX6_safe_34 rfl (lv_at hl 2 rfl) ?_
        refine lv_iload hx hb dX6_safe_35 (lv_at hl 4 rfl) ?_
        obtain ⟨σ_3, r_4, hg, hf⟩ := bn2_s hf
        refine x_calli (x_runV (As := [.int x2, .int x4]) (rest := []) X K O (xct_obj rfl LM_99) rfl (m_M_X6_isLawful hg) EN_b EN_h (lw_V q1468 q1470 qs72 q124 q1471) 2 rfl hl.1 (Nat.le_of_ble_eq_true rfl) hdV_X6_isLawful ⟨by decide, by decide⟩ ⟨Nat.le_refl _, Nat.le_refl _⟩ dX6_safe_37) (fun r u H locs hp O _ => ?_)
        cases hp
        have O : XH D A s.heap h (xct LM okM h d σ_3) H locs := O
        refine lv_if_ne (tgt := 47) hx hb dX6_safe_40 (by decide) (fun c_5 => ?_) (fun c_5 => ?_)
        · replace hf := if_f c_5 hf
          refine lv_iconst (v := 0) hx hb dX6_safe_47 (by decide) ?_
          exact w_M_X6_safe_b48 X K hkb9 ih _ _ _ _ _ ls _ _ O (lv_sub hl [0, 1, 2, 4] rfl) hf
        · replace hf := if_t c_5 hf
          refine lv_iconst (v := 1) hx hb dX6_safe_43 (by decide) ?_
          refine lv_goto (tgt := 48) hx hb dX6_safe_44 (by decide) ?_
          exact w_M_X6_safe_b48 X K hkb9 ih _ _ _ _ _ ls _ _ O (lv_sub hl [0, 1, 2, 4] rfl) hf
def M_X6_safe_b9 : Nat → ST → Int32 → Int32 → Option (ST × Int32)
  | 0, _, _, _ => none
  | n + 1, σ, x1, x2 =>
    (if (gI σ 99 0 0 2) ≤ x2 then some (σ, x1) else M_X6_safe_b22 (M_X6_safe_b9 n) FUEL σ x1 x2 1 1)
theorem w_M_X6_safe_b9 (X : FX p m c meth s args RX6 cX6_safe 5 (some .int)) (K : XK D d A s) {z : ST × Int32} : ∀ (n : Nat) (σ : ST) (x1 : Int32) (x2 : Int32) (ls : Array Slot) (H : Heap) (locs : List Loc), XH D A s.heap h (xct LM okM h d σ) H locs → lv_has ls 5 [(0, .ref (h 99 0 0)), (1, .int x1), (2, .int x2)] → M_X6_safe_b9 n σ x1 x2 = some z → W p l e (rmD 3 0 0) s m args below meth c H locs 0 0 (MQ below (Qi D (pz z) (cw h LM okM d) A) args s 0 0 A) (F0 m 9 ls []) := by
  have hx := X.1.1; have hb := X.1.2.1
  intro n
  induction n with
  | zero =>
    intro σ x1 x2 ls H locs O hl hf
    exact absurd hf (fun q => by cases q)
  | succ n ih =>
    intro σ x1 x2 ls H locs O hl hf
    rw [M_X6_safe_b9] at hf
    refine lv_iload_n hx hb dX6_safe_9 rfl (lv_at hl 2 rfl) ?_
    refine lv_aload_n hx hb dX6_safe_10 rfl (lv_at hl 0 rfl) ?_
    refine x_gI X K O 2 rfl LM_99 rfl rfl in_X6 (by decide) q1152 dX6_safe_11 ?_
    refine lv_icmp_ge (tgt := 71) hx hb dX6_safe_14 (by decide) (fun c_1 => ?_) (fun c_1 => ?_)
    · replace hf := if_t c_1 hf
      refine lv_iload_n hx hb dX6_safe_71 rfl (lv_at hl 1 rfl) ?_
      exact x_iret X O rfl _ (Option.some.inj hf).symm rfl dX6_safe_72
    · replace hf := if_f c_1 hf
      refine lv_iconst (v := 1) hx hb dX6_safe_17 (by decide) ?_
      refine lv_istore_n (lv' := [(3, .int 1), (0, .ref (h 99 0 0)), (1, .int x1), (2, .int x2)]) hx hb dX6_safe_18 rfl hl (by decide) rfl (fun ls hl => ?_)
      refine lv_iconst (v := 1) hx hb dX6_safe_19 (by decide) ?_
      refine lv_istore (lv' := [(4, .int 1), (3, .int 1), (0, .ref (h 99 0 0)), (1, .int x1), (2, .int x2)]) hx hb dX6_safe_20 hl (by decide) rfl (fun ls hl => ?_)
      exact w_M_X6_safe_b22 X K ih _ _ _ _ _ _ ls _ _ O (lv_sub hl [2, 3, 4, 1, 0] rfl) hf
def M_X6_safe (σ : ST) : Option (ST × Int32) :=
  lt1 (sI σ 99 0 0 0 0) (fun σ_1 => M_X6_safe_b9 FUEL σ_1 0 0)
theorem m_M_X6_safe {l : Launch} {D : va_G} {d : Nat → ClassId} {h : IX} {σ : ST} {z : ST × Int32} (hf : M_X6_safe σ = some z) : XM l D d EN yX6_safe cX6_safe 5 (some .int) 3 0 0 [.ref (h 99 0 0)] h (xct LM okM h d σ) (Qi D (pz z) (cw h LM okM d)) := by
  refine XM.of (by decide +kernel) (Nat.le_of_ble_eq_true rfl) ?_
  intro p e s m below meth c A ls X _ K _ O hl
  have hl : lv_has ls 5 [(0, .ref (h 99 0 0))] := hl
  have hx := X.1.1; have hb := X.1.2.1
  rw [M_X6_safe] at hf
  refine lv_aload_n hx hb dX6_safe_0 rfl (lv_at hl 0 rfl) ?_
  refine lv_iconst (v := 0) hx hb dX6_safe_1 (by decide) ?_
  obtain ⟨σ_1, eσ_1, hf⟩ := lt1_s hf
  refine x_pI X K O 0 rfl LM_99 rfl rfl in_X6 tyX6_ok nmX6 (by decide) q1150 rfl rfl rfl dX6_safe_2 (fun H locs O => ?_)
  rw [← eσ_1] at O
  refine lv_iconst (v := 0) hx hb dX6_safe_5 (by decide) ?_
  refine lv_istore_n (lv' := [(1, .int 0), (0, .ref (h 99 0 0))]) hx hb dX6_safe_6 rfl hl (by decide) rfl (fun ls hl => ?_)
  refine lv_iconst (v := 0) hx hb dX6_safe_7 (by decide) ?_
  refine lv_istore_n (lv' := [(2, .int 0), (1, .int 0), (0, .ref (h 99 0 0))]) hx hb dX6_safe_8 rfl hl (by decide) rfl (fun ls hl => ?_)
  exact w_M_X6_safe_b9 X K _ _ _ _ ls _ _ O (lv_sub hl [2, 1, 0] rfl) hf
def M_X6_isAhead (σ : ST) (p1 : Int32) (p2 : Int32) : Option (ST × Int32) :=
  bn2 (M_X6_fact σ p1 2) (fun σ_1 r_2 => bn2 (M_X6_fact σ_1 p1 3) (fun σ_3 r_4 => bn2 (M_X6_fact σ_3 p2 2) (fun σ_5 r_6 => bn2 (M_X6_fact σ_5 p2 3) (fun σ_7 r_8 => lt1 (((r_2 - r_4) - r_6) + r_8) (fun x3_9 => (if x3_9 = 0 then bn2 (M_X6_fact σ_7 p1 4) (fun σ_11 r_12 => bn2 (M_X6_fact σ_11 p2 4) (fun σ_13 r_14 => (if r_12 = r_14 then (if p2 ≤ p1 then some (σ_13, 0) else some (σ_13, 1)) else bn2 (M_X6_fact σ_13 p1 4) (fun σ_17 r_18 => bn2 (M_X6_fact σ_17 p2 4) (fun σ_19 r_20 => (if r_18 ≤ r_20 then some (σ_19, 0) else some (σ_19, 1))))))) else (if x3_9 ≤ 0 then some (σ_7, 0) else some (σ_7, 1))))))))
theorem m_M_X6_isAhead {l : Launch} {D : va_G} {d : Nat → ClassId} {h : IX} {p1 : Int32} {p2 : Int32} {σ : ST} {z : ST × Int32} (hf : M_X6_isAhead σ p1 p2 = some z) : XM l D d EN yX6_isAhead cX6_isAhead 4 (some .boolean) 1 0 0 [.ref (h 99 0 0), .int p1, .int p2] h (xct LM okM h d σ) (Qi D (pz z) (cw h LM okM d)) := by
  refine XM.of (by decide +kernel) (Nat.le_of_ble_eq_true rfl) ?_
  intro p e s m below meth c A ls X _ K _ O hl
  have hl : lv_has ls 4 [(0, .ref (h 99 0 0)), (1, .int p1), (2, .int p2)] := hl
  have hx := X.1.1; have hb := X.1.2.1
  rw [M_X6_isAhead] at hf
  refine lv_aload_n hx hb dX6_isAhead_0 rfl (lv_at hl 0 rfl) ?_
  refine lv_iload_n hx hb dX6_isAhead_1 rfl (lv_at hl 1 rfl) ?_
  refine lv_iconst (v := 2) hx hb dX6_isAhead_2 (by decide) ?_
  obtain ⟨σ_1, r_2, hg, hf⟩ := bn2_s hf
  refine x_calli (x_runV (As := [.int p1, .int 2]) (rest := []) X K O (xct_obj rfl LM_99) rfl (m_M_X6_fact hg) EN_b EN_h (lw_V q1447 q1449 qs68 q124 q1450) 2 rfl hl.1 (Nat.le_of_ble_eq_true rfl) hdV_X6_fact ⟨by decide, by decide⟩ ⟨Nat.le_refl _, Nat.le_refl _⟩ dX6_isAhead_3) (fun r u H locs hp O _ => ?_)
  cases hp
  have O : XH D A s.heap h (xct LM okM h d σ_1) H locs := O
  refine lv_aload_n hx hb dX6_isAhead_6 rfl (lv_at hl 0 rfl) ?_
  refine lv_iload_n hx hb dX6_isAhead_7 rfl (lv_at hl 1 rfl) ?_
  refine lv_iconst (v := 3) hx hb dX6_isAhead_8 (by decide) ?_
  obtain ⟨σ_3, r_4, hg, hf⟩ := bn2_s hf
  refine x_calli (x_runV (As := [.int p1, .int 3]) (rest := [.int r_2]) X K O (xct_obj rfl LM_99) rfl (m_M_X6_fact hg) EN_b EN_h (lw_V q1447 q1449 qs68 q124 q1450) 2 rfl hl.1 (Nat.le_of_ble_eq_true rfl) hdV_X6_fact ⟨by decide, by decide⟩ ⟨Nat.le_refl _, Nat.le_refl _⟩ dX6_isAhead_9) (fun r u H locs hp O _ => ?_)
  cases hp
  have O : XH D A s.heap h (xct LM okM h d σ_3) H locs := O
  refine lv_isub hx hb dX6_isAhead_12 ?_
  refine lv_aload_n hx hb dX6_isAhead_13 rfl (lv_at hl 0 rfl) ?_
  refine lv_iload_n hx hb dX6_isAhead_14 rfl (lv_at hl 2 rfl) ?_
  refine lv_iconst (v := 2) hx hb dX6_isAhead_15 (by decide) ?_
  obtain ⟨σ_5, r_6, hg, hf⟩ := bn2_s hf
  refine x_calli (x_runV (As := [.int p2, .int 2]) (rest := [.int (r_2 - r_4)]) X K O (xct_obj rfl LM_99) rfl (m_M_X6_fact hg) EN_b EN_h (lw_V q1447 q1449 qs68 q124 q1450) 2 rfl hl.1 (Nat.le_of_ble_eq_true rfl) hdV_X6_fact ⟨by decide, by decide⟩ ⟨Nat.le_refl _, Nat.le_refl _⟩ dX6_isAhead_16) (fun r u H locs hp O _ => ?_)
  cases hp
  have O : XH D A s.heap h (xct LM okM h d σ_5) H locs := O
  refine lv_isub hx hb dX6_isAhead_19 ?_
  refine lv_aload_n hx hb dX6_isAhead_20 rfl (lv_at hl 0 rfl) ?_
  refine lv_iload_n hx hb dX6_isAhead_21 rfl (lv_at hl 2 rfl) ?_
  refine lv_iconst (v := 3) hx hb dX6_isAhead_22 (by decide) ?_
  obtain ⟨σ_7, r_8, hg, hf⟩ := bn2_s hf
  refine x_calli (x_runV (As := [.int p2, .int 3]) (rest := [.int ((r_2 - r_4) - r_6)]) X K O (xct_obj rfl LM_99) rfl (m_M_X6_fact hg) EN_b EN_h (lw_V q1447 q1449 qs68 q124 q1450) 2 rfl hl.1 (Nat.le_of_ble_eq_true rfl) hdV_X6_fact ⟨by decide, by decide⟩ ⟨Nat.le_refl _, Nat.le_refl _⟩ dX6_isAhead_23) (fun r u H locs hp O _ => ?_)
  cases hp
  have O : XH D A s.heap h (xct LM okM h d σ_7) H locs := O
  refine lv_iadd hx hb dX6_isAhead_26 ?_
  obtain ⟨x3_9, ex3_9, hf⟩ := lt1_s hf
  refine x_top (w := .int x3_9) (by rw [ex3_9]) ?_
  refine lv_istore_n (lv' := [(3, .int x3_9), (0, .ref (h 99 0 0)), (1, .int p1), (2, .int p2)]) hx hb dX6_isAhead_27 rfl hl (by decide) rfl (fun ls hl => ?_)
  refine lv_iload_n hx hb dX6_isAhead_28 rfl (lv_at hl 0 rfl) ?_
  refine lv_if_eq (tgt := 42) hx hb dX6_isAhead_29 (by decide) (fun c_10 => ?_) (fun c_10 => ?_)
  · replace hf := if_t c_10 hf
    refine lv_aload_n hx hb dX6_isAhead_42 rfl (lv_at hl 1 rfl) ?_
    refine lv_iload_n hx hb dX6_isAhead_43 rfl (lv_at hl 2 rfl) ?_
    refine lv_iconst (v := 4) hx hb dX6_isAhead_44 (by decide) ?_
    obtain ⟨σ_11, r_12, hg, hf⟩ := bn2_s hf
    refine x_calli (x_runV (As := [.int p1, .int 4]) (rest := []) X K O (xct_obj rfl LM_99) rfl (m_M_X6_fact hg) EN_b EN_h (lw_V q1447 q1449 qs68 q124 q1450) 2 rfl hl.1 (Nat.le_of_ble_eq_true rfl) hdV_X6_fact ⟨by decide, by decide⟩ ⟨Nat.le_refl _, Nat.le_refl _⟩ dX6_isAhead_45) (fun r u H locs hp O _ => ?_)
    cases hp
    have O : XH D A s.heap h (xct LM okM h d σ_11) H locs := O
    refine lv_aload_n hx hb dX6_isAhead_48 rfl (lv_at hl 1 rfl) ?_
    refine lv_iload_n hx hb dX6_isAhead_49 rfl (lv_at hl 3 rfl) ?_
    refine lv_iconst (v := 4) hx hb dX6_isAhead_50 (by decide) ?_
    obtain ⟨σ_13, r_14, hg, hf⟩ := bn2_s hf
    refine x_calli (x_runV (As := [.int p2, .int 4]) (rest := [.int r_12]) X K O (xct_obj rfl LM_99) rfl (m_M_X6_fact hg) EN_b EN_h (lw_V q1447 q1449 qs68 q124 q1450) 2 rfl hl.1 (Nat.le_of_ble_eq_true rfl) hdV_X6_fact ⟨by decide, by decide⟩ ⟨Nat.le_refl _, Nat.le_refl _⟩ dX6_isAhead_51) (fun r u H locs hp O _ => ?_)
    cases hp
    have O : XH D A s.heap h (xct LM okM h d σ_13) H locs := O
    refine lv_icmp_eq (tgt := 78) hx hb dX6_isAhead_54 (by decide) (fun c_15 => ?_) (fun c_15 => ?_)
    · replace hf := if_t c_15 hf
      refine lv_iload_n hx hb dX6_isAhead_78 rfl (lv_at hl 2 rfl) ?_
      refine lv_iload_n hx hb dX6_isAhead_79 rfl (lv_at hl 3 rfl) ?_
      refine lv_icmp_ge (tgt := 87) hx hb dX6_isAhead_80 (by decide) (fun c_16 => ?_) (fun c_16 => ?_)
      · replace hf := if_t c_16 hf
        refine lv_iconst (v := 0) hx hb dX6_isAhead_87 (by decide) ?_
        exact x_zret X O rfl rfl _ (Option.some.inj hf).symm rfl dX6_isAhead_88
      · replace hf := if_f c_16 hf
        refine lv_iconst (v := 1) hx hb dX6_isAhead_83 (by decide) ?_
        refine lv_goto (tgt := 88) hx hb dX6_isAhead_84 (by decide) ?_
        exact x_zret X O rfl rfl _ (Option.some.inj hf).symm rfl dX6_isAhead_88
    · replace hf := if_f c_15 hf
      refine lv_aload_n hx hb dX6_isAhead_57 rfl (lv_at hl 1 rfl) ?_
      refine lv_iload_n hx hb dX6_isAhead_58 rfl (lv_at hl 2 rfl) ?_
      refine lv_iconst (v := 4) hx hb dX6_isAhead_59 (by decide) ?_
      obtain ⟨σ_17, r_18, hg, hf⟩ := bn2_s hf
      refine x_calli (x_runV (As := [.int p1, .int 4]) (rest := []) X K O (xct_obj rfl LM_99) rfl (m_M_X6_fact hg) EN_b EN_h (lw_V q1447 q1449 qs68 q124 q1450) 2 rfl hl.1 (Nat.le_of_ble_eq_true rfl) hdV_X6_fact ⟨by decide, by decide⟩ ⟨Nat.le_refl _, Nat.le_refl _⟩ dX6_isAhead_60) (fun r u H locs hp O _ => ?_)
      cases hp
      have O : XH D A s.heap h (xct LM okM h d σ_17) H locs := O
      refine lv_aload_n hx hb dX6_isAhead_63 rfl (lv_at hl 1 rfl) ?_
      refine lv_iload_n hx hb dX6_isAhead_64 rfl (lv_at hl 3 rfl) ?_
      refine lv_iconst (v := 4) hx hb dX6_isAhead_65 (by decide) ?_
      obtain ⟨σ_19, r_20, hg, hf⟩ := bn2_s hf
      refine x_calli (x_runV (As := [.int p2, .int 4]) (rest := [.int r_18]) X K O (xct_obj rfl LM_99) rfl (m_M_X6_fact hg) EN_b EN_h (lw_V q1447 q1449 qs68 q124 q1450) 2 rfl hl.1 (Nat.le_of_ble_eq_true rfl) hdV_X6_fact ⟨by decide, by decide⟩ ⟨Nat.le_refl _, Nat.le_refl _⟩ dX6_isAhead_66) (fun r u H locs hp O _ => ?_)
      cases hp
      have O : XH D A s.heap h (xct LM okM h d σ_19) H locs := O
      refine lv_icmp_le (tgt := 76) hx hb dX6_isAhead_69 (by decide) (fun c_21 => ?_) (fun c_21 => ?_)
      · replace hf := if_t c_21 hf
        refine lv_iconst (v := 0) hx hb dX6_isAhead_76 (by decide) ?_
        exact x_zret X O rfl rfl _ (Option.some.inj hf).symm rfl dX6_isAhead_77
      · replace hf := if_f c_21 hf
        refine lv_iconst (v := 1) hx hb dX6_isAhead_72 (by decide) ?_
        refine lv_goto (tgt := 77) hx hb dX6_isAhead_73 (by decide) ?_
        exact x_zret X O rfl rfl _ (Option.some.inj hf).symm rfl dX6_isAhead_77
  · replace hf := if_f c_10 hf
    refine lv_iload_n hx hb dX6_isAhead_32 rfl (lv_at hl 0 rfl) ?_
    refine lv_if_le (tgt := 40) hx hb dX6_isAhead_33 (by decide) (fun c_22 => ?_) (fun c_22 => ?_)
    · replace hf := if_t c_22 hf
      refine lv_iconst (v := 0) hx hb dX6_isAhead_40 (by decide) ?_
      exact x_zret X O rfl rfl _ (Option.some.inj hf).symm rfl dX6_isAhead_41
    · replace hf := if_f c_22 hf
      refine lv_iconst (v := 1) hx hb dX6_isAhead_36 (by decide) ?_
      refine lv_goto (tgt := 41) hx hb dX6_isAhead_37 (by decide) ?_
      exact x_zret X O rfl rfl _ (Option.some.inj hf).symm rfl dX6_isAhead_41
end MW
