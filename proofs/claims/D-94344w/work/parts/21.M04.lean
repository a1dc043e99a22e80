section MW
variable {p : Program} {l : Launch} {e : Env} {s : State} {m : MethodId} {args : Array Value} {below : List Frame} {meth : Method} {c : Code} {D : va_G} {A : Nat → Prop} {h : IX} {d : Nat → ClassId}

theorem hdV_X6_isAhead : yX6_isAhead.cls = RX6 ∧ (yX6_isAhead.cls ≠ "java/lang/invoke/MethodHandle" ∧ yX6_isAhead.cls ≠ "java/lang/invoke/VarHandle" ∧ (parseMethodDescriptor yX6_isAhead.desc).map (fun d => d.parameters.length) = some 2) := by decide +kernel
def M_X6_named_b49 (kb7 : ST → Int32 → Int32 → Option (ST × Int32)) (kb20 : ST → Int32 → Int32 → Int32 → Int32 → Option (ST × Int32)) (σ : ST) (x1 : Int32) (x2 : Int32) (x3 : Int32) (x4 : Int32) : Option (ST × Int32) :=
  lt1 (x4 + 1) (fun x4_1 => kb20 σ x1 x2 x3 x4_1)
theorem w_M_X6_named_b49 (X : FX p m c meth s args RX6 cX6_named 5 (some .int)) (K : XK D d A s) {z : ST × Int32} {kb7 : ST → Int32 → Int32 → Option (ST × Int32)} (hkb7 : ∀ (σ : ST) (x1 : Int32) (x2 : Int32) (ls : Array Slot) (H : Heap) (locs : List Loc), XH D A s.heap h (xct LM okM h d σ) H locs → lv_has ls 5 [(0, .ref (h 99 0 0)), (1, .int x1), (2, .int x2)] → kb7 σ x1 x2 = some z → W p l e (rmD 2 0 0) s m args below meth c H locs 0 0 (MQ below (Qi D (pz z) (cw h LM okM d) A) args s 0 0 A) (F0 m 7 ls [])) {kb20 : ST → Int32 → Int32 → Int32 → Int32 → Option (ST × Int32)} (hkb20 : ∀ (σ : ST) (x1 : Int32) (x2 : Int32) (x3 : Int32) (x4 : Int32) (ls : Array Slot) (H : Heap) (locs : List Loc), XH D A s.heap h (xct LM okM h d σ) H locs → lv_has ls 5 [(0, .ref (h 99 0 0)), (1, .int x1), (2, .int x2), (3, .int x3), (4, .int x4)] → kb20 σ x1 x2 x3 x4 = some z → W p l e (rmD 2 0 0) s m args below meth c H locs 0 0 (MQ below (Qi D (pz z) (cw h LM okM d) A) args s 0 0 A) (F0 m 20 ls [])) (σ : ST) (x1 : Int32) (x2 : Int32) (x3 : Int32) (x4 : Int32) (ls : Array Slot) (H : Heap) (locs : List Loc) (O : XH D A s.heap h (xct LM okM h d σ) H locs) (hl : lv_has ls 5 [(0, .ref (h 99 0 0)), (1, .int x1), (2, .int x2), (3, .int x3), (4, .int x4)]) (hf : M_X6_named_b49 kb7 kb20 σ x1 x2 x3 x4 = some z) : W p l e (rmD 2 0 0) s m args below meth c H locs 0 0 (MQ below (Qi D (pz z) (cw h LM okM d) A) args s 0 0 A) (F0 m 49 ls []) := by
  have hx := X.1.1; have hb := X.1.2.1
  rw [M_X6_named_b49] at hf
  obtain ⟨x4_1, ex4_1, hf⟩ := lt1_s hf
  refine lv_iinc (v := x4_1) (lv' := [(4, .int x4_1), (0, .ref (h 99 0 0)), (1, .int x1), (2, .int x2), (3, .int x3)]) hx hb dX6_named_49 hl (k := 4) rfl (by rw [ex4_1]; rfl) (by decide) rfl (fun ls hl => ?_)
  refine lv_goto (tgt := 20) hx hb dX6_named_52 (by decide) ?_
  exact hkb20 _ _ _ _ _ ls _ _ O (lv_sub hl [1, 2, 3, 4, 0] rfl) hf
def M_X6_named_b20 (kb7 : ST → Int32 → Int32 → Option (ST × Int32)) : Nat → ST → Int32 → Int32 → Int32 → Int32 → Option (ST × Int32)
  | 0, _, _, _, _, _ => none
  | n + 1, σ, x1, x2, x3, x4 =>
    (if (gI σ 99 0 0 2) ≤ x4 then (if x3 = x1 then some (σ, x2) else lt1 (x2 + 1) (fun x2_3 => kb7 σ x1 x2_3)) else (if x4 = x2 then M_X6_named_b49 kb7 (M_X6_named_b20 kb7 n) σ x1 x2 x3 x4 else bn2 (M_X6_isAhead σ x4 x2) (fun σ_5 r_6 => (if r_6 = 0 then M_X6_named_b49 kb7 (M_X6_named_b20 kb7 n) σ_5 x1 x2 x3 x4 else lt1 (x3 + 1) (fun x3_8 => M_X6_named_b49 kb7 (M_X6_named_b20 kb7 n) σ_5 x1 x2 x3_8 x4)))))
theorem w_M_X6_named_b20 (X : FX p m c meth s args RX6 cX6_named 5 (some .int)) (K : XK D d A s) {z : ST × Int32} {kb7 : ST → Int32 → Int32 → Option (ST × Int32)} (hkb7 : ∀ (σ : ST) (x1 : Int32) (x2 : Int32) (ls : Array Slot) (H : Heap) (locs : List Loc), XH D A s.heap h (xct LM okM h d σ) H locs → lv_has ls 5 [(0, .ref (h 99 0 0)), (1, .int x1), (2, .int x2)] → kb7 σ x1 x2 = some z → W p l e (rmD 2 0 0) s m args below meth c H locs 0 0 (MQ below (Qi D (pz z) (cw h LM okM d) A) args s 0 0 A) (F0 m 7 ls [])) : ∀ (n : Nat) (σ : ST) (x1 : Int32) (x2 : Int32) (x3 : Int32) (x4 : Int32) (ls : Array Slot) (H : Heap) (locs : List Loc), XH D A s.heap h (xct LM okM h d σ) H locs → lv_has ls 5 [(0, .ref (h 99 0 0)), (1, .int x1), (2, .int x2), (3, .int x3), (4, .int x4)] → M_X6_named_b20 kb7 n σ x1 x2 x3 x4 = some z → W p l e (rmD 2 0 0) s m args below meth c H locs 0 0 (MQ below (Qi D (pz z) (cw h LM okM d) A) args s 0 0 A) (F0 m 20 ls []) := by
  have hx := X.1.1; have hb := X.1.2.1
  intro n
  induction n with
  | zero =>
    intro σ x1 x2 x3 x4 ls H locs O hl hf
    exact absurd hf (fun q => by cases q)
  | succ n ih =>
    intro σ x1 x2 x3 x4 ls H locs O hl hf
    rw [M_X6_named_b20] at hf
    refine lv_iload hx hb dX6_named_20 (lv_at hl 4 rfl) ?_
    refine lv_aload_n hx hb dX6_named_22 rfl (lv_at hl 0 rfl) ?_
    refine x_gI X K O 2 rfl LM_99 rfl rfl in_X6 (by decide) q1152 dX6_named_23 ?_
    refine lv_icmp_ge (tgt := 55) hx hb dX6_named_26 (by decide) (fun c_1 => ?_) (fun c_1 => ?_)
    · replace hf := if_t c_1 hf
      refine lv_iload_n hx hb dX6_named_55 rfl (lv_at hl 3 rfl) ?_
      refine lv_iload_n hx hb dX6_named_56 rfl (lv_at hl 1 rfl) ?_
      refine lv_icmp_ne (tgt := 62) hx hb dX6_named_57 (by decide) (fun c_2 => ?_) (fun c_2 => ?_)
      · replace hf := if_f c_2 hf
        obtain ⟨x2_3, ex2_3, hf⟩ := lt1_s hf
        refine lv_iinc (v := x2_3) (lv' := [(2, .int x2_3), (0, .ref (h 99 0 0)), (1, .int x1), (3, .int x3), (4, .int x4)]) hx hb dX6_named_62 hl (k := 2) rfl (by rw [ex2_3]; rfl) (by decide) rfl (fun ls hl => ?_)
        refine lv_goto (tgt := 7) hx hb dX6_named_65 (by decide) ?_
        exact hkb7 _ _ _ ls _ _ O (lv_sub hl [1, 2, 0] rfl) hf
      · replace hf := if_t c_2 hf
        refine lv_iload_n hx hb dX6_named_60 rfl (lv_at hl 2 rfl) ?_
        exact x_iret X O rfl _ (Option.some.inj hf).symm rfl dX6_named_61
    · replace hf := if_f c_1 hf
      refine lv_iload hx hb dX6_named_29 (lv_at hl 4 rfl) ?_
      refine lv_iload_n hx hb dX6_named_31 rfl (lv_at hl 2 rfl) ?_
      refine lv_icmp_eq (tgt := 49) hx hb dX6_named_32 (by decide) (fun c_4 => ?_) (fun c_4 => ?_)
      · replace hf := if_t c_4 hf
        exact w_M_X6_named_b49 X K hkb7 ih _ _ _ _ _ ls _ _ O (lv_sub hl [0, 1, 2, 3, 4] rfl) hf
      · replace hf := if_f c_4 hf
        refine lv_aload_n hx hb dX6_named_35 rfl (lv_at hl 0 rfl) ?_
        refine lv_iload hx hb dX6_named_36 (lv_at hl 4 rfl) ?_
        refine lv_iload_n hx hb dX6_named_38 rfl (lv_at hl 2 rfl) ?_
        obtain ⟨σ_5, r_6, hg, hf⟩ := bn2_s hf
        refine x_calli (x_runV (As := [.int x4, .int x2]) (rest := []) X K O (xct_obj rfl LM_99) rfl (m_M_X6_isAhead hg) EN_b EN_h (lw_V q1635 q1637 qs102 q124 q1638) 2 rfl hl.1 (Nat.le_of_ble_eq_true rfl) hdV_X6_isAhead ⟨by decide, by decide⟩ ⟨Nat.le_refl _, Nat.le_refl _⟩ dX6_named_39) (fun r u H locs hp O _ => ?_)
        cases hp
        have O : XH D A s.heap h (xct LM okM h d σ_5) H locs := O
        refine lv_if_eq (tgt := 49) hx hb dX6_named_42 (by decide) (fun c_7 => ?_) (fun c_7 => ?_)
        · replace hf := if_t c_7 hf
          exact w_M_X6_named_b49 X K hkb7 ih _ _ _ _ _ ls _ _ O (lv_sub hl [0, 1, 2, 3, 4] rfl) hf
        · replace hf := if_f c_7 hf
          refine lv_iload_n hx hb dX6_named_45 rfl (lv_at hl 3 rfl) ?_
          refine lv_iconst (v := 1) hx hb dX6_named_46 (by decide) ?_
          refine lv_iadd hx hb dX6_named_47 ?_
          obtain ⟨x3_8, ex3_8, hf⟩ := lt1_s hf
          refine x_top (w := .int x3_8) (by rw [ex3_8]) ?_
          refine lv_istore_n (lv' := [(3, .int x3_8), (0, .ref (h 99 0 0)), (1, .int x1), (2, .int x2), (4, .int x4)]) hx hb dX6_named_48 rfl hl (by decide) rfl (fun ls hl => ?_)
          exact w_M_X6_named_b49 X K hkb7 ih _ _ _ _ _ ls _ _ O (lv_sub hl [1, 2, 3, 0, 4] rfl) hf
def M_X6_named_b7 : Nat → ST → Int32 → Int32 → Option (ST × Int32)
  | 0, _, _, _ => none
  | n + 1, σ, x1, x2 =>
    (if (gI σ 99 0 0 2) ≤ x2 then some (σ, (-1)) else M_X6_named_b20 (M_X6_named_b7 n) FUEL σ x1 x2 0 0)
theorem w_M_X6_named_b7 (X : FX p m c meth s args RX6 cX6_named 5 (some .int)) (K : XK D d A s) {z : ST × Int32} : ∀ (n : Nat) (σ : ST) (x1 : Int32) (x2 : Int32) (ls : Array Slot) (H : Heap) (locs : List Loc), XH D A s.heap h (xct LM okM h d σ) H locs → lv_has ls 5 [(0, .ref (h 99 0 0)), (1, .int x1), (2, .int x2)] → M_X6_named_b7 n σ x1 x2 = some z → W p l e (rmD 2 0 0) s m args below meth c H locs 0 0 (MQ below (Qi D (pz z) (cw h LM okM d) A) args s 0 0 A) (F0 m 7 ls []) := by
  have hx := X.1.1; have hb := X.1.2.1
  intro n
  induction n with
  | zero =>
    intro σ x1 x2 ls H locs O hl hf
    exact absurd hf (fun q => by cases q)
  | succ n ih =>
    intro σ x1 x2 ls H locs O hl hf
    rw [M_X6_named_b7] at hf
    refine lv_iload_n hx hb dX6_named_7 rfl (lv_at hl 2 rfl) ?_
    refine lv_aload_n hx hb dX6_named_8 rfl (lv_at hl 0 rfl) ?_
    refine x_gI X K O 2 rfl LM_99 rfl rfl in_X6 (by decide) q1152 dX6_named_9 ?_
    refine lv_icmp_ge (tgt := 68) hx hb dX6_named_12 (by decide) (fun c_1 => ?_) (fun c_1 => ?_)
    · replace hf := if_t c_1 hf
      refine lv_iconst (v := (-1)) hx hb dX6_named_68 (by decide) ?_
      exact x_iret X O rfl _ (Option.some.inj hf).symm rfl dX6_named_69
    · replace hf := if_f c_1 hf
      refine lv_iconst (v := 0) hx hb dX6_named_15 (by decide) ?_
      refine lv_istore_n (lv' := [(3, .int 0), (0, .ref (h 99 0 0)), (1, .int x1), (2, .int x2)]) hx hb dX6_named_16 rfl hl (by decide) rfl (fun ls hl => ?_)
      refine lv_iconst (v := 0) hx hb dX6_named_17 (by decide) ?_
      refine lv_istore (lv' := [(4, .int 0), (3, .int 0), (0, .ref (h 99 0 0)), (1, .int x1), (2, .int x2)]) hx hb dX6_named_18 hl (by decide) rfl (fun ls hl => ?_)
      exact w_M_X6_named_b20 X K ih _ _ _ _ _ _ ls _ _ O (lv_sub hl [2, 3, 4, 1, 0] rfl) hf
def M_X6_named (σ : ST) (p1 : Int32) : Option (ST × Int32) :=
  lt1 (sI σ 99 0 0 0 0) (fun σ_1 => M_X6_named_b7 FUEL σ_1 p1 0)
theorem m_M_X6_named {l : Launch} {D : va_G} {d : Nat → ClassId} {h : IX} {p1 : Int32} {σ : ST} {z : ST × Int32} (hf : M_X6_named σ p1 = some z) : XM l D d EN yX6_named cX6_named 5 (some .int) 2 0 0 [.ref (h 99 0 0), .int p1] h (xct LM okM h d σ) (Qi D (pz z) (cw h LM okM d)) := by
  refine XM.of (by decide +kernel) (Nat.le_of_ble_eq_true rfl) ?_
  intro p e s m below meth c A ls X _ K _ O hl
  have hl : lv_has ls 5 [(0, .ref (h 99 0 0)), (1, .int p1)] := hl
  have hx := X.1.1; have hb := X.1.2.1
  rw [M_X6_named] at hf
  refine lv_aload_n hx hb dX6_named_0 rfl (lv_at hl 0 rfl) ?_
  refine lv_iconst (v := 0) hx hb dX6_named_1 (by decide) ?_
  obtain ⟨σ_1, eσ_1, hf⟩ := lt1_s hf
  refine x_pI X K O 0 rfl LM_99 rfl rfl in_X6 tyX6_ok nmX6 (by decide) q1150 rfl rfl rfl dX6_named_2 (fun H locs O => ?_)
  rw [← eσ_1] at O
  refine lv_iconst (v := 0) hx hb dX6_named_5 (by decide) ?_
  refine lv_istore_n (lv' := [(2, .int 0), (0, .ref (h 99 0 0)), (1, .int p1)]) hx hb dX6_named_6 rfl hl (by decide) rfl (fun ls hl => ?_)
  exact w_M_X6_named_b7 X K _ _ _ _ ls _ _ O (lv_sub hl [1, 2, 0] rfl) hf
def M_X6_annals_b159 (kb37 : ST → Int32 → Int32 → Int32 → Int32 → Int32 → Option (ST × Int32)) (σ : ST) (x1 : Int32) (x2 : Int32) (x3 : Int32) (x4 : Int32) (x5 : Int32) : Option (ST × Int32) :=
  lt1 (x5 + 1) (fun x5_1 => kb37 σ x1 x2 x3 x4 x5_1)
theorem w_M_X6_annals_b159 (X : FX p m c meth s args RX6 cX6_annals 8 (some .int)) (K : XK D d A s) {z : ST × Int32} {kb37 : ST → Int32 → Int32 → Int32 → Int32 → Int32 → Option (ST × Int32)} (hkb37 : ∀ (σ : ST) (x1 : Int32) (x2 : Int32) (x3 : Int32) (x4 : Int32) (x5 : Int32) (ls : Array Slot) (H : Heap) (locs : List Loc), XH D A s.heap h (xct LM okM h d σ) H locs → lv_has ls 8 [(0, .ref (h 99 0 0)), (1, .int x1), (2, .int x2), (3, .int x3), (4, .int x4), (5, .int x5)] → kb37 σ x1 x2 x3 x4 x5 = some z → W p l e (rmD 1 0 0) s m args below meth c H locs 0 0 (MQ below (Qi D (pz z) (cw h LM okM d) A) args s 0 0 A) (F0 m 37 ls [])) (σ : ST) (x1 : Int32) (x2 : Int32) (x3 : Int32) (x4 : Int32) (x5 : Int32) (ls : Array Slot) (H : Heap) (locs : List Loc) (O : XH D A s.heap h (xct LM okM h d σ) H locs) (hl : lv_has ls 8 [(0, .ref (h 99 0 0)), (1, .int x1), (2, .int x2), (3, .int x3), (4, .int x4), (5, .int x5)]) (hf : M_X6_annals_b159 kb37 σ x1 x2 x3 x4 x5 = some z) : W p l e (rmD 1 0 0) s m args below meth c H locs 0 0 (MQ below (Qi D (pz z) (cw h LM okM d) A) args s 0 0 A) (F0 m 159 ls []) := by
  have hx := X.1.1; have hb := X.1.2.1
  rw [M_X6_annals_b159] at hf
  obtain ⟨x5_1, ex5_1, hf⟩ := lt1_s hf
  refine lv_iinc (v := x5_1) (lv' := [(5, .int x5_1), (0, .ref (h 99 0 0)), (1, .int x1), (2, .int x2), (3, .int x3), (4, .int x4)]) hx hb dX6_annals_159 hl (k := 5) rfl (by rw [ex5_1]; rfl) (by decide) rfl (fun ls hl => ?_)
  refine lv_goto (tgt := 37) hx hb dX6_annals_162 (by decide) ?_
  exact hkb37 _ _ _ _ _ _ ls _ _ O (lv_sub hl [1, 2, 3, 4, 5, 0] rfl) hf
def M_X6_annals_b141 (kb37 : ST → Int32 → Int32 → Int32 → Int32 → Int32 → Option (ST × Int32)) (σ : ST) (x1 : Int32) (x2 : Int32) (x4 : Int32) (x5 : Int32) (x6 : Int32) (x7 : Int32) (s0 : Int32) (s1 : Int32) : Option (ST × Int32) :=
  lt1 (s0 + s1) (fun x3_1 => (if x7 ≤ 0 then M_X6_annals_b159 kb37 σ x1 x2 x3_1 x4 x5 else (if x6 ≤ x4 then M_X6_annals_b159 kb37 σ x1 x2 x3_1 x4 x5 else M_X6_annals_b159 kb37 σ x1 x2 x3_1 x6 x5)))
theorem w_M_X6_annals_b141 (X : FX p m c meth s args RX6 cX6_annals 8 (some .int)) (K : XK D d A s) {z : ST × Int32} {kb37 : ST → Int32 → Int32 → Int32 → Int32 → Int32 → Option (ST × Int32)} (hkb37 : ∀ (σ : ST) (x1 : Int32) (x2 : Int32) (x3 : Int32) (x4 : Int32) (x5 : Int32) (ls : Array Slot) (H : Heap) (locs : List Loc), XH D A s.heap h (xct LM okM h d σ) H locs → lv_has ls 8 [(0, .ref (h 99 0 0)), (1, .int x1), (2, .int x2), (3, .int x3), (4, .int x4), (5, .int x5)] → kb37 σ x1 x2 x3 x4 x5 = some z → W p l e (rmD 1 0 0) s m args below meth c H locs 0 0 (MQ below (Qi D (pz z) (cw h LM okM d) A) args s 0 0 A) (F0 m 37 ls [])) (σ : ST) (x1 : Int32) (x2 : Int32) (x4 : Int32) (x5 : Int32) (x6 : Int32) (x7 : Int32) (s0 : Int32) (s1 : Int32) (ls : Array Slot) (H : Heap) (locs : List Loc) (O : XH D A s.heap h (xct LM okM h d σ) H locs) (hl : lv_has ls 8 [(0, .ref (h 99 0 0)), (1, .int x1), (2, .int x2), (4, .int x4), (5, .int x5), (6, .int x6), (7, .int x7)]) (hf : M_X6_annals_b141 kb37 σ x1 x2 x4 x5 x6 x7 s0 s1 = some z) : W p l e (rmD 1 0 0) s m args below meth c H locs 0 0 (MQ below (Qi D (pz z) (cw h LM okM d) A) args s 0 0 A) (F0 m 141 ls [.int s1, .int s0]) := by
  have hx := X.1.1; have hb := X.1.2.1
  rw [M_X6_annals_b141] at hf
  refine lv_iadd hx hb dX6_annals_141 ?_
  obtain ⟨x3_1, ex3_1, hf⟩ := lt1_s hf
  refine x_top (w := .int x3_1) (by rw [ex3_1]) ?_
  refine lv_istore_n (lv' := [(3, .int x3_1), (0, .ref (h 99 0 0)), (1, .int x1), (2, .int x2), (4, .int x4), (5, .int x5), (6, .int x6), (7, .int x7)]) hx hb dX6_annals_142 rfl hl (by decide) rfl (fun ls hl => ?_)
  refine lv_iload hx hb dX6_annals_143 (lv_at hl 7 rfl) ?_
  refine lv_if_le (tgt := 159) hx hb dX6_annals_145 (by decide) (fun c_2 => ?_) (fun c_2 => ?_)
  · replace hf := if_t c_2 hf
    exact w_M_X6_annals_b159 X K hkb37 _ _ _ _ _ _ ls _ _ O (lv_sub hl [1, 2, 3, 0, 4, 5] rfl) hf
  · replace hf := if_f c_2 hf
    refine lv_iload hx hb dX6_annals_148 (lv_at hl 6 rfl) ?_
    refine lv_iload hx hb dX6_annals_150 (lv_at hl 4 rfl) ?_
    refine lv_icmp_le (tgt := 159) hx hb dX6_annals_152 (by decide) (fun c_3 => ?_) (fun c_3 => ?_)
    · replace hf := if_t c_3 hf
      exact w_M_X6_annals_b159 X K hkb37 _ _ _ _ _ _ ls _ _ O (lv_sub hl [1, 2, 3, 0, 4, 5] rfl) hf
    · replace hf := if_f c_3 hf
      refine lv_iload hx hb dX6_annals_155 (lv_at hl 6 rfl) ?_
      refine lv_istore (lv' := [(4, .int x6), (3, .int x3_1), (0, .ref (h 99 0 0)), (1, .int x1), (2, .int x2), (5, .int x5), (6, .int x6), (7, .int x7)]) hx hb dX6_annals_157 hl (by decide) rfl (fun ls hl => ?_)
      exact w_M_X6_annals_b159 X K hkb37 _ _ _ _ _ _ ls _ _ O (lv_sub hl [2, 3, 4, 1, 0, 5] rfl) hf
def M_X6_annals_b117 (kb37 : ST → Int32 → Int32 → Int32 → Int32 → Int32 → Option (ST × Int32)) (σ : ST) (x1 : Int32) (x2 : Int32) (x3 : Int32) (x4 : Int32) (x5 : Int32) (x6 : Int32) (s0 : Int32) (s1 : Int32) : Option (ST × Int32) :=
  lt1 (s0 + s1) (fun x7_1 => (if x2 = 0 then M_X6_annals_b141 kb37 σ x1 x2 x4 x5 x6 x7_1 x3 1 else (if x2 = 1 then M_X6_annals_b141 kb37 σ x1 x2 x4 x5 x6 x7_1 x3 x6 else M_X6_annals_b141 kb37 σ x1 x2 x4 x5 x6 x7_1 x3 x7_1)))
theorem w_M_X6_annals_b117 (X : FX p m c meth s args RX6 cX6_annals 8 (some .int)) (K : XK D d A s) {z : ST × Int32} {kb37 : ST → Int32 → Int32 → Int32 → Int32 → Int32 → Option (ST × Int32)} (hkb37 : ∀ (σ : ST) (x1 : Int32) (x2 : Int32) (x3 : Int32) (x4 : Int32) (x5 : Int32) (ls : Array Slot) (H : Heap) (locs : List Loc), XH D A s.heap h (xct LM okM h d σ) H locs → lv_has ls 8 [(0, .ref (h 99 0 0)), (1, .int x1), (2, .int x2), (3, .int x3), (4, .int x4), (5, .int x5)] → kb37 σ x1 x2 x3 x4 x5 = some z → W p l e (rmD 1 0 0) s m args below meth c H locs 0 0 (MQ below (Qi D (pz z) (cw h LM okM d) A) args s 0 0 A) (F0 m 37 ls [])) (σ : ST) (x1 : Int32) (x2 : Int32) (x3 : Int32) (x4 : Int32) (x5 : Int32) (x6 : Int32) (s0 : Int32) (s1 : Int32) (ls : Array Slot) (H : Heap) (locs : List Loc) (O : XH D A s.heap h (xct LM okM h d σ) H locs) (hl : lv_has ls 8 [(0, .ref (h 99 0 0)), (1, .int x1), (2, .int x2), (3, .int x3), (4, .int x4), (5, .int x5), (6, .int x6)]) (hf : M_X6_annals_b117 kb37 σ x1 x2 x3 x4 x5 x6 s0 s1 = some z) : W p l e (rmD 1 0 0) s m args below meth c H locs 0 0 (MQ below (Qi D (pz z) (cw h LM okM d) A) args s 0 0 A) (F0 m 117 ls [.int s1, .int s0]) := by
  have hx := X.1.1; have hb := X.1.2.1
  rw [M_X6_annals_b117] at hf
  refine lv_iadd hx hb dX6_annals_117 ?_
  obtain ⟨x7_1, ex7_1, hf⟩ := lt1_s hf
  refine x_top (w := .int x7_1) (by rw [ex7_1]) ?_
  refine lv_istore (lv' := [(7, .int x7_1), (0, .ref (h 99 0 0)), (1, .int x1), (2, .int x2), (3, .int x3), (4, .int x4), (5, .int x5), (6, .int x6)]) hx hb dX6_annals_118 hl (by decide) rfl (fun ls hl => ?_)
  refine lv_iload_n hx hb dX6_annals_120 rfl (lv_at hl 4 rfl) ?_
  refine lv_iload_n hx hb dX6_annals_121 rfl (lv_at hl 3 rfl) ?_
  refine lv_if_ne (tgt := 129) hx hb dX6_annals_122 (by decide) (fun c_2 => ?_) (fun c_2 => ?_)
  · replace hf := if_f c_2 hf
    refine lv_iload_n hx hb dX6_annals_129 rfl (lv_at hl 3 rfl) ?_
    refine lv_iconst (v := 1) hx hb dX6_annals_130 (by decide) ?_
    refine lv_icmp_ne (tgt := 139) hx hb dX6_annals_131 (by decide) (fun c_3 => ?_) (fun c_3 => ?_)
    · replace hf := if_f c_3 hf
      refine lv_iload hx hb dX6_annals_139 (lv_at hl 0 rfl) ?_
      exact w_M_X6_annals_b141 X K hkb37 _ _ _ _ _ _ _ _ _ ls _ _ O (lv_sub hl [1, 2, 3, 5, 6, 7, 0] rfl) hf
    · replace hf := if_t c_3 hf
      refine lv_iload hx hb dX6_annals_134 (lv_at hl 7 rfl) ?_
      refine lv_goto (tgt := 141) hx hb dX6_annals_136 (by decide) ?_
      exact w_M_X6_annals_b141 X K hkb37 _ _ _ _ _ _ _ _ _ ls _ _ O (lv_sub hl [1, 2, 3, 5, 6, 7, 0] rfl) hf
  · replace hf := if_t c_2 hf
    refine lv_iconst (v := 1) hx hb dX6_annals_125 (by decide) ?_
    refine lv_goto (tgt := 141) hx hb dX6_annals_126 (by decide) ?_
    exact w_M_X6_annals_b141 X K hkb37 _ _ _ _ _ _ _ _ _ ls _ _ O (lv_sub hl [1, 2, 3, 5, 6, 7, 0] rfl) hf
def M_X6_annals_b97 (kb37 : ST → Int32 → Int32 → Int32 → Int32 → Int32 → Option (ST × Int32)) (σ : ST) (x1 : Int32) (x2 : Int32) (x3 : Int32) (x4 : Int32) (x5 : Int32) (x6 : Int32) (s0 : Int32) : Option (ST × Int32) :=
  ck (okI ((8 * x5) + 5) 2400) ((if (gI σ 7 0 0 (Int32.toNatClampNeg ((8 * x5) + 5))) = 0 then M_X6_annals_b117 kb37 σ x1 x2 x3 x4 x5 x6 s0 0 else M_X6_annals_b117 kb37 σ x1 x2 x3 x4 x5 x6 s0 1))
theorem w_M_X6_annals_b97 (X : FX p m c meth s args RX6 cX6_annals 8 (some .int)) (K : XK D d A s) {z : ST × Int32} {kb37 : ST → Int32 → Int32 → Int32 → Int32 → Int32 → Option (ST × Int32)} (hkb37 : ∀ (σ : ST) (x1 : Int32) (x2 : Int32) (x3 : Int32) (x4 : Int32) (x5 : Int32) (ls : Array Slot) (H : Heap) (locs : List Loc), XH D A s.heap h (xct LM okM h d σ) H locs → lv_has ls 8 [(0, .ref (h 99 0 0)), (1, .int x1), (2, .int x2), (3, .int x3), (4, .int x4), (5, .int x5)] → kb37 σ x1 x2 x3 x4 x5 = some z → W p l e (rmD 1 0 0) s m args below meth c H locs 0 0 (MQ below (Qi D (pz z) (cw h LM okM d) A) args s 0 0 A) (F0 m 37 ls [])) (σ : ST) (x1 : Int32) (x2 : Int32) (x3 : Int32) (x4 : Int32) (x5 : Int32) (x6 : Int32) (s0 : Int32) (ls : Array Slot) (H : Heap) (locs : List Loc) (O : XH D A s.heap h (xct LM okM h d σ) H locs) (hl : lv_has ls 8 [(0, .ref (h 99 0 0)), (1, .int x1), (2, .int x2), (3, .int x3), (4, .int x4), (5, .int x5), (6, .int x6)]) (hf : M_X6_annals_b97 kb37 σ x1 x2 x3 x4 x5 x6 s0 = some z) : W p l e (rmD 1 0 0) s m args below meth c H locs 0 0 (MQ below (Qi D (pz z) (cw h LM okM d) A) args s 0 0 A) (F0 m 97 ls [.int s0]) := by
  have hx := X.1.1; have hb := X.1.2.1
  rw [M_X6_annals_b97] at hf
  refine lv_aload_n hx hb dX6_annals_97 rfl (lv_at hl 0 rfl) ?_
  refine x_gF X K O 7 rfl LM_99 rfl rfl in_X6 (by decide) q1157 dX6_annals_98 ?_
  refine lv_bipush (v := 8) hx hb dX6_annals_101 (by decide) ?_
  refine lv_iload hx hb dX6_annals_103 (lv_at hl 5 rfl) ?_
  refine lv_imul hx hb dX6_annals_105 ?_
  refine lv_iconst (v := 5) hx hb dX6_annals_106 (by decide) ?_
  refine lv_iadd hx hb dX6_annals_107 ?_
  obtain ⟨c_1, hf⟩ := ck_s hf
  refine x_ild X K O rfl LM_7 c_1 (j := (Int32.toNatClampNeg ((8 * x5) + 5))) rfl dX6_annals_108 ?_
  refine lv_if_ne (tgt := 116) hx hb dX6_annals_109 (by decide) (fun c_2 => ?_) (fun c_2 => ?_)
  · replace hf := if_f c_2 hf
    refine lv_iconst (v := 1) hx hb dX6_annals_116 (by decide) ?_
    exact w_M_X6_annals_b117 X K hkb37 _ _ _ _ _ _ _ _ _ ls _ _ O (lv_sub hl [0, 1, 2, 3, 4, 5, 6] rfl) hf
  · replace hf := if_t c_2 hf
    refine lv_iconst (v := 0) hx hb dX6_annals_112 (by decide) ?_
    refine lv_goto (tgt := 117) hx hb dX6_annals_113 (by decide) ?_
    exact w_M_X6_annals_b117 X K hkb37 _ _ _ _ _ _ _ _ _ ls _ _ O (lv_sub hl [0, 1, 2, 3, 4, 5, 6] rfl) hf
def M_X6_annals_b37 : Nat → ST → Int32 → Int32 → Int32 → Int32 → Int32 → Option (ST × Int32)
  | 0, _, _, _, _, _, _ => none
  | n + 1, σ, x1, x2, x3, x4, x5 =>
    (if (gI σ 99 0 0 4) ≤ x5 then (if x2 = 3 then some (σ, x4) else some (σ, x3)) else ck (okI (8 * x5) 2400) ((if (gI σ 7 0 0 (Int32.toNatClampNeg (8 * x5))) = x1 then ck (okI ((8 * x5) + 3) 2400) (lt1 (gI σ 7 0 0 (Int32.toNatClampNeg ((8 * x5) + 3))) (fun x6_6 => ck (okI ((8 * x5) + 4) 2400) ((if (gI σ 7 0 0 (Int32.toNatClampNeg ((8 * x5) + 4))) = 0 then M_X6_annals_b97 (M_X6_annals_b37 n) σ x1 x2 x3 x4 x5 x6_6 0 else M_X6_annals_b97 (M_X6_annals_b37 n) σ x1 x2 x3 x4 x5 x6_6 1)))) else M_X6_annals_b159 (M_X6_annals_b37 n) σ x1 x2 x3 x4 x5)))
theorem w_M_X6_annals_b37 (X : FX p m c meth s args RX6 cX6_annals 8 (some .int)) (K : XK D d A s) {z : ST × Int32} : ∀ (n : Nat) (σ : ST) (x1 : Int32) (x2 : Int32) (x3 : Int32) (x4 : Int32) (x5 : Int32) (ls : Array Slot) (H : Heap) (locs : List Loc), XH D A s.heap h (xct LM okM h d σ) H locs → lv_has ls 8 [(0, .ref (h 99 0 0)), (1, .int x1), (2, .int x2), (3, .int x3), (4, .int x4), (5, .int x5)] → M_X6_annals_b37 n σ x1 x2 x3 x4 x5 = some z → W p l e (rmD 1 0 0) s m args below meth c H locs 0 0 (MQ below (Qi D (pz z) (cw h LM okM d) A) args s 0 0 A) (F0 m 37 ls []) := by
  have hx := X.1.1; have hb := X.1.2.1
  intro n
  induction n with
  | zero =>
    intro σ x1 x2 x3 x4 x5 ls H locs O hl hf
    exact absurd hf (fun q => by cases q)
  | succ n ih =>
    intro σ x1 x2 x3 x4 x5 ls H locs O hl hf
    rw [M_X6_annals_b37] at hf
    refine lv_iload hx hb dX6_annals_37 (lv_at hl 5 rfl) ?_
    refine lv_aload_n hx hb dX6_annals_39 rfl (lv_at hl 0 rfl) ?_
    refine x_gI X K O 4 rfl LM_99 rfl rfl in_X6 (by decide) q1154 dX6_annals_40 ?_
    refine lv_icmp_ge (tgt := 165) hx hb dX6_annals_43 (by decide) (fun c_1 => ?_) (fun c_1 => ?_)
    · replace hf := if_t c_1 hf
      refine lv_iload_n hx hb dX6_annals_165 rfl (lv_at hl 2 rfl) ?_
      refine lv_iconst (v := 3) hx hb dX6_annals_166 (by decide) ?_
      refine lv_icmp_ne (tgt := 175) hx hb dX6_annals_167 (by decide) (fun c_2 => ?_) (fun c_2 => ?_)
      · replace hf := if_f c_2 hf
        refine lv_iload_n hx hb dX6_annals_175 rfl (lv_at hl 3 rfl) ?_
        exact x_iret X O rfl _ (Option.some.inj hf).symm rfl dX6_annals_176
      · replace hf := if_t c_2 hf
        refine lv_iload hx hb dX6_annals_170 (lv_at hl 4 rfl) ?_
        refine lv_goto (tgt := 176) hx hb dX6_annals_172 (by decide) ?_
        exact x_iret X O rfl _ (Option.some.inj hf).symm rfl dX6_annals_176
    · replace hf := if_f c_1 hf
      refine lv_aload_n hx hb dX6_annals_46 rfl (lv_at hl 0 rfl) ?_
      refine x_gF X K O 7 rfl LM_99 rfl rfl in_X6 (by decide) q1157 dX6_annals_47 ?_
      refine lv_bipush (v := 8) hx hb dX6_annals_50 (by decide) ?_
      refine lv_iload hx hb dX6_annals_52 (lv_at hl 5 rfl) ?_
      refine lv_imul hx hb dX6_annals_54 ?_
      obtain ⟨c_3, hf⟩ := ck_s hf
      refine x_ild X K O rfl LM_7 c_3 (j := (Int32.toNatClampNeg (8 * x5))) rfl dX6_annals_55 ?_
      refine lv_iload_n hx hb dX6_annals_56 rfl (lv_at hl 1 rfl) ?_
      refine lv_icmp_eq (tgt := 63) hx hb dX6_annals_57 (by decide) (fun c_4 => ?_) (fun c_4 => ?_)
      · replace hf := if_t c_4 hf
        refine lv_aload_n hx hb dX6_annals_63 rfl (lv_at hl 0 rfl) ?_
        refine x_gF X K O 7 rfl LM_99 rfl rfl in_X6 (by decide) q1157 dX6_annals_64 ?_
        refine lv_bipush (v := 8) hx hb dX6_annals_67 (by decide) ?_
        refine lv_iload hx hb dX6_annals_69 (lv_at hl 5 rfl) ?_
        refine lv_imul hx hb dX6_annals_71 ?_
        refine lv_iconst (v := 3) hx hb dX6_annals_72 (by decide) ?_
        refine lv_iadd hx hb dX6_annals_73 ?_
        obtain ⟨c_5, hf⟩ := ck_s hf
        refine x_ild X K O rfl LM_7 c_5 (j := (Int32.toNatClampNeg ((8 * x5) + 3))) rfl dX6_annals_74 ?_
        obtain ⟨x6_6, ex6_6, hf⟩ := lt1_s hf
        refine x_top (w := .int x6_6) (by rw [ex6_6]) ?_
        refine lv_istore (lv' := [(6, .int x6_6), (0, .ref (h 99 0 0)), (1, .int x1), (2, .int x2), (3, .int x3), (4, .int x4), (5, .int x5)]) hx hb dX6_annals_75 hl (by decide) rfl (fun ls hl => ?_)
        refine lv_aload_n hx hb dX6_annals_77 rfl (lv_at hl 1 rfl) ?_
        refine x_gF X K O 7 rfl LM_99 rfl rfl in_X6 (by decide) q1157 dX6_annals_78 ?_
        refine lv_bipush (v := 8) hx hb dX6_annals_81 (by decide) ?_
        refine lv_iload hx hb dX6_annals_83 (lv_at hl 6 rfl) ?_
        refine lv_imul hx hb dX6_annals_85 ?_
        refine lv_iconst (v := 4) hx hb dX6_annals_86 (by decide) ?_
        refine lv_iadd hx hb dX6_annals_87 ?_
        obtain ⟨c_7, hf⟩ := ck_s hf
        refine x_ild X K O rfl LM_7 c_7 (j := (Int32.toNatClampNeg ((8 * x5) + 4))) rfl dX6_annals_88 ?_
        refine lv_if_ne (tgt := 96) hx hb dX6_annals_89 (by decide) (fun c_8 => ?_) (fun c_8 => ?_)
        · replace hf := if_f c_8 hf
          refine lv_iconst (v := 1) hx hb dX6_annals_96 (by decide) ?_
          exact w_M_X6_annals_b97 X K ih _ _ _ _ _ _ _ _ ls _ _ O (lv_sub hl [1, 2, 3, 4, 5, 6, 0] rfl) hf
        · replace hf := if_t c_8 hf
          refine lv_iconst (v := 0) hx hb dX6_annals_92 (by decide) ?_
          refine lv_goto (tgt := 97) hx hb dX6_annals_93 (by decide) ?_
          exact w_M_X6_annals_b97 X K ih _ _ _ _ _ _ _ _ ls _ _ O (lv_sub hl [1, 2, 3, 4, 5, 6, 0] rfl) hf
      · replace hf := if_f c_4 hf
        refine lv_goto (tgt := 159) hx hb dX6_annals_60 (by decide) ?_
        exact w_M_X6_annals_b159 X K ih _ _ _ _ _ _ ls _ _ O (lv_sub hl [0, 1, 2, 3, 4, 5] rfl) hf
def M_X6_annals (σ : ST) (p1 : Int32) (p2 : Int32) : Option (ST × Int32) :=
  lt1 (sI σ 99 0 0 0 0) (fun σ_1 => bn2 (M_X6_isIn σ_1 p1 0 999) (fun σ_2 r_3 => (if r_3 = 0 then some (σ_2, (-1)) else bn2 (M_X6_isIn σ_2 p2 0 3) (fun σ_5 r_6 => (if r_6 = 0 then some (σ_5, (-1)) else M_X6_annals_b37 FUEL σ_5 p1 p2 0 0 0)))))
theorem m_M_X6_annals {l : Launch} {D : va_G} {d : Nat → ClassId} {h : IX} {p1 : Int32} {p2 : Int32} {σ : ST} {z : ST × Int32} (hf : M_X6_annals σ p1 p2 = some z) : XM l D d EN yX6_annals cX6_annals 8 (some .int) 1 0 0 [.ref (h 99 0 0), .int p1, .int p2] h (xct LM okM h d σ) (Qi D (pz z) (cw h LM okM d)) := by
  refine XM.of (by decide +kernel) (Nat.le_of_ble_eq_true rfl) ?_
  intro p e s m below meth c A ls X _ K _ O hl
  have hl : lv_has ls 8 [(0, .ref (h 99 0 0)), (1, .int p1), (2, .int p2)] := hl
  have hx := X.1.1; have hb := X.1.2.1
  rw [M_X6_annals] at hf
  refine lv_aload_n hx hb dX6_annals_0 rfl (lv_at hl 0 rfl) ?_
  refine lv_iconst (v := 0) hx hb dX6_annals_1 (by decide) ?_
  obtain ⟨σ_1, eσ_1, hf⟩ := lt1_s hf
  refine x_pI X K O 0 rfl LM_99 rfl rfl in_X6 tyX6_ok nmX6 (by decide) q1150 rfl rfl rfl dX6_annals_2 (fun H locs O => ?_)
  rw [← eσ_1] at O
  refine lv_aload_n hx hb dX6_annals_5 rfl (lv_at hl 0 rfl) ?_
  refine lv_iload_n hx hb dX6_annals_6 rfl (lv_at hl 1 rfl) ?_
  refine lv_iconst (v := 0) hx hb dX6_annals_7 (by decide) ?_
  refine lv_sipush (v := 999) hx hb dX6_annals_8 (by decide) ?_
  obtain ⟨σ_2, r_3, hg, hf⟩ := bn2_s hf
  refine x_calli (x_runV (As := [.int p1, .int 0, .int 999]) (rest := []) X K O (xct_obj rfl LM_99) rfl (m_M_X6_isIn hg) EN_b EN_h (lw_V q1327 q1329 qs45 q124 q1330) 3 rfl hl.1 (Nat.le_of_ble_eq_true rfl) hdV_X6_isIn ⟨by decide, by decide⟩ ⟨Nat.le_refl _, Nat.le_refl _⟩ dX6_annals_11) (fun r u H locs hp O _ => ?_)
  cases hp
  have O : XH D A s.heap h (xct LM okM h d σ_2) H locs := O
  refine lv_if_eq (tgt := 27) hx hb dX6_annals_14 (by decide) (fun c_4 => ?_) (fun c_4 => ?_)
  · replace hf := if_t c_4 hf
    refine lv_iconst (v := (-1)) hx hb dX6_annals_27 (by decide) ?_
    exact x_iret X O rfl _ (Option.some.inj hf).symm rfl dX6_annals_28
  · replace hf := if_f c_4 hf
    refine lv_aload_n hx hb dX6_annals_17 rfl (lv_at hl 0 rfl) ?_
    refine lv_iload_n hx hb dX6_annals_18 rfl (lv_at hl 2 rfl) ?_
    refine lv_iconst (v := 0) hx hb dX6_annals_19 (by decide) ?_
    refine lv_iconst (v := 3) hx hb dX6_annals_20 (by decide) ?_
    obtain ⟨σ_5, r_6, hg, hf⟩ := bn2_s hf
    refine x_calli (x_runV (As := [.int p2, .int 0, .int 3]) (rest := []) X K O (xct_obj rfl LM_99) rfl (m_M_X6_isIn hg) EN_b EN_h (lw_V q1327 q1329 qs45 q124 q1330) 3 rfl hl.1 (Nat.le_of_ble_eq_true rfl) hdV_X6_isIn ⟨by decide, by decide⟩ ⟨Nat.le_refl _, Nat.le_refl _⟩ dX6_annals_21) (fun r u H locs hp O _ => ?_)
    cases hp
    have O : XH D A s.heap h (xct LM okM h d σ_5) H locs := O
    refine lv_if_ne (tgt := 29) hx hb dX6_annals_24 (by decide) (fun c_7 => ?_) (fun c_7 => ?_)
    · replace hf := if_f c_7 hf
      refine lv_iconst (v := 0) hx hb dX6_annals_29 (by decide) ?_
      refine lv_istore_n (lv' := [(3, .int 0), (0, .ref (h 99 0 0)), (1, .int p1), (2, .int p2)]) hx hb dX6_annals_30 rfl hl (by decide) rfl (fun ls hl => ?_)
      refine lv_iconst (v := 0) hx hb dX6_annals_31 (by decide) ?_
      refine lv_istore (lv' := [(4, .int 0), (3, .int 0), (0, .ref (h 99 0 0)), (1, .int p1), (2, .int p2)]) hx hb dX6_annals_32 hl (by decide) rfl (fun ls hl => ?_)
      refine lv_iconst (v := 0) hx hb dX6_annals_34 (by decide) ?_
      refine lv_istore (lv' := [(5, .int 0), (4, .int 0), (3, .int 0), (0, .ref (h 99 0 0)), (1, .int p1), (2, .int p2)]) hx hb dX6_annals_35 hl (by decide) rfl (fun ls hl => ?_)
      exact w_M_X6_annals_b37 X K _ _ _ _ _ _ _ ls _ _ O (lv_sub hl [3, 4, 5, 2, 1, 0] rfl) hf
    · replace hf := if_t c_7 hf
      refine lv_iconst (v := (-1)) hx hb dX6_annals_27 (by decide) ?_
      exact x_iret X O rfl _ (Option.some.inj hf).symm rfl dX6_annals_28
def M_X6_coupleOf_b34 (σ : ST) (x1 : Int32) (x2 : Int32) (x4 : Int32) (s0 : Int32) (s2 : Int32) (s3 : Int32) : Option (ST × Int32) :=
  bn2 (M_X6_worthOf σ s2 s3 x4) (fun σ_1 r_2 => lt1 (s0 * r_2) (fun x5_3 => (if x2 = 2 then bn2 (M_X6_isLawful σ_1 x1 x4) (fun σ_5 r_6 => (if r_6 = 0 then some (σ_5, (x5_3 - (((gI σ_5 6 0 0 5) * (gI σ_5 6 0 0 4)) * x4))) else some (σ_5, x5_3))) else some (σ_1, x5_3))))
theorem w_M_X6_coupleOf_b34 (X : FX p m c meth s args RX6 cX6_coupleOf 6 (some .int)) (K : XK D d A s) {z : ST × Int32} (σ : ST) (x1 : Int32) (x2 : Int32) (x4 : Int32) (s0 : Int32) (s2 : Int32) (s3 : Int32) (ls : Array Slot) (H : Heap) (locs : List Loc) (O : XH D A s.heap h (xct LM okM h d σ) H locs) (hl : lv_has ls 6 [(0, .ref (h 99 0 0)), (1, .int x1), (2, .int x2), (4, .int x4)]) (hf : M_X6_coupleOf_b34 σ x1 x2 x4 s0 s2 s3 = some z) : W p l e (rmD 3 0 0) s m args below meth c H locs 0 0 (MQ below (Qi D (pz z) (cw h LM okM d) A) args s 0 0 A) (F0 m 34 ls [.int s3, .int s2, .ref (h 99 0 0), .int s0]) := by
  have hx := X.1.1; have hb := X.1.2.1
  rw [M_X6_coupleOf_b34] at hf
  refine lv_iload hx hb dX6_coupleOf_34 (lv_at hl 3 rfl) ?_
  obtain ⟨σ_1, r_2, hg, hf⟩ := bn2_s hf
  refine x_calli (x_runV (As := [.int s2, .int s3, .int x4]) (rest := [.int s0]) X K O (xct_obj rfl LM_99) rfl (m_M_X6_worthOf hg) EN_b EN_h (lw_V q1496 q1498 qs78 q124 q1499) 3 rfl hl.1 (Nat.le_of_ble_eq_true rfl) hdV_X6_worthOf ⟨by decide, by decide⟩ ⟨Nat.le_refl _, Nat.le_refl _⟩ dX6_coupleOf_36) (fun r u H locs hp O _ => ?_)
  cases hp
  have O : XH D A s.heap h (xct LM okM h d σ_1) H locs := O
  refine lv_imul hx hb dX6_coupleOf_39 ?_
  obtain ⟨x5_3, ex5_3, hf⟩ := lt1_s hf
  refine x_top (w := .int x5_3) (by rw [ex5_3]) ?_
  refine lv_istore (lv' := [(5, .int x5_3), (0, .ref (h 99 0 0)), (1, .int x1), (2, .int x2), (4, .int x4)]) hx hb dX6_coupleOf_40 hl (by decide) rfl (fun ls hl => ?_)
  refine lv_iload_n hx hb dX6_coupleOf_42 rfl (lv_at hl 3 rfl) ?_
  refine lv_iconst (v := 2) hx hb dX6_coupleOf_43 (by decide) ?_
  refine lv_icmp_ne (tgt := 79) hx hb dX6_coupleOf_44 (by decide) (fun c_4 => ?_) (fun c_4 => ?_)
  · replace hf := if_f c_4 hf
    refine lv_iload hx hb dX6_coupleOf_79 (lv_at hl 0 rfl) ?_
    exact x_iret X O rfl _ (Option.some.inj hf).symm rfl dX6_coupleOf_81
  · replace hf := if_t c_4 hf
    refine lv_aload_n hx hb dX6_coupleOf_47 rfl (lv_at hl 1 rfl) ?_
    refine lv_iload_n hx hb dX6_coupleOf_48 rfl (lv_at hl 2 rfl) ?_
    refine lv_iload hx hb dX6_coupleOf_49 (lv_at hl 4 rfl) ?_
    obtain ⟨σ_5, r_6, hg, hf⟩ := bn2_s hf
    refine x_calli (x_runV (As := [.int x1, .int x4]) (rest := []) X K O (xct_obj rfl LM_99) rfl (m_M_X6_isLawful hg) EN_b EN_h (lw_V q1468 q1470 qs72 q124 q1471) 2 rfl hl.1 (Nat.le_of_ble_eq_true rfl) hdV_X6_isLawful ⟨by decide, by decide⟩ ⟨Nat.le_refl _, Nat.le_refl _⟩ dX6_coupleOf_51) (fun r u H locs hp O _ => ?_)
    cases hp
    have O : XH D A s.heap h (xct LM okM h d σ_5) H locs := O
    refine lv_if_ne (tgt := 79) hx hb dX6_coupleOf_54 (by decide) (fun c_7 => ?_) (fun c_7 => ?_)
    · replace hf := if_f c_7 hf
      refine lv_iload hx hb dX6_coupleOf_79 (lv_at hl 0 rfl) ?_
      exact x_iret X O rfl _ (Option.some.inj hf).symm rfl dX6_coupleOf_81
    · replace hf := if_t c_7 hf
      refine lv_iload hx hb dX6_coupleOf_57 (lv_at hl 0 rfl) ?_
      refine lv_aload_n hx hb dX6_coupleOf_59 rfl (lv_at hl 1 rfl) ?_
      refine x_gF X K O 6 rfl LM_99 rfl rfl in_X6 (by decide) q1156 dX6_coupleOf_60 ?_
      refine lv_iconst (v := 5) hx hb dX6_coupleOf_63 (by decide) ?_
      refine x_ild X K O rfl LM_6 (by decide) (j := 5) rfl dX6_coupleOf_64 ?_
      refine lv_aload_n hx hb dX6_coupleOf_65 rfl (lv_at hl 1 rfl) ?_
      refine x_gF X K O 6 rfl LM_99 rfl rfl in_X6 (by decide) q1156 dX6_coupleOf_66 ?_
      refine lv_iconst (v := 4) hx hb dX6_coupleOf_69 (by decide) ?_
      refine x_ild X K O rfl LM_6 (by decide) (j := 4) rfl dX6_coupleOf_70 ?_
      refine lv_imul hx hb dX6_coupleOf_71 ?_
      refine lv_iload hx hb dX6_coupleOf_72 (lv_at hl 4 rfl) ?_
      refine lv_imul hx hb dX6_coupleOf_74 ?_
      refine lv_isub hx hb dX6_coupleOf_75 ?_
      refine lv_goto (tgt := 81) hx hb dX6_coupleOf_76 (by decide) ?_
      exact x_iret X O rfl _ (Option.some.inj hf).symm rfl dX6_coupleOf_81
def M_X6_coupleOf_b24 (σ : ST) (x1 : Int32) (x2 : Int32) (x3 : Int32) (x4 : Int32) (s0 : Int32) (s2 : Int32) : Option (ST × Int32) :=
  (if x3 = 2 then M_X6_coupleOf_b34 σ x1 x2 x4 s0 s2 1 else M_X6_coupleOf_b34 σ x1 x2 x4 s0 s2 0)
theorem w_M_X6_coupleOf_b24 (X : FX p m c meth s args RX6 cX6_coupleOf 6 (some .int)) (K : XK D d A s) {z : ST × Int32} (σ : ST) (x1 : Int32) (x2 : Int32) (x3 : Int32) (x4 : Int32) (s0 : Int32) (s2 : Int32) (ls : Array Slot) (H : Heap) (locs : List Loc) (O : XH D A s.heap h (xct LM okM h d σ) H locs) (hl : lv_has ls 6 [(0, .ref (h 99 0 0)), (1, .int x1), (2, .int x2), (3, .int x3), (4, .int x4)]) (hf : M_X6_coupleOf_b24 σ x1 x2 x3 x4 s0 s2 = some z) : W p l e (rmD 3 0 0) s m args below meth c H locs 0 0 (MQ below (Qi D (pz z) (cw h LM okM d) A) args s 0 0 A) (F0 m 24 ls [.int s2, .ref (h 99 0 0), .int s0]) := by
  have hx := X.1.1; have hb := X.1.2.1
  rw [M_X6_coupleOf_b24] at hf
  refine lv_iload_n hx hb dX6_coupleOf_24 rfl (lv_at hl 3 rfl) ?_
  refine lv_iconst (v := 2) hx hb dX6_coupleOf_25 (by decide) ?_
  refine lv_icmp_ne (tgt := 33) hx hb dX6_coupleOf_26 (by decide) (fun c_1 => ?_) (fun c_1 => ?_)
  · replace hf := if_f c_1 hf
    refine lv_iconst (v := 0) hx hb dX6_coupleOf_33 (by decide) ?_
    exact w_M_X6_coupleOf_b34 X K _ _ _ _ _ _ _ ls _ _ O (lv_sub hl [0, 1, 2, 4] rfl) hf
  · replace hf := if_t c_1 hf
    refine lv_iconst (v := 1) hx hb dX6_coupleOf_29 (by decide) ?_
    refine lv_goto (tgt := 34) hx hb dX6_coupleOf_30 (by decide) ?_
    exact w_M_X6_coupleOf_b34 X K _ _ _ _ _ _ _ ls _ _ O (lv_sub hl [0, 1, 2, 4] rfl) hf
def M_X6_coupleOf (σ : ST) (p1 : Int32) (p2 : Int32) (p3 : Int32) (p4 : Int32) : Option (ST × Int32) :=
  (if p2 = 0 then some (σ, 0) else (if p3 = 0 then some (σ, 0) else (if p2 = 2 then M_X6_coupleOf_b24 σ p1 p2 p3 p4 1000 1 else M_X6_coupleOf_b24 σ p1 p2 p3 p4 1000 0)))
theorem m_M_X6_coupleOf {l : Launch} {D : va_G} {d : Nat → ClassId} {h : IX} {p1 : Int32} {p2 : Int32} {p3 : Int32} {p4 : Int32} {σ : ST} {z : ST × Int32} (hf : M_X6_coupleOf σ p1 p2 p3 p4 = some z) : XM l D d EN yX6_coupleOf cX6_coupleOf 6 (some .int) 3 0 0 [.ref (h 99 0 0), .int p1, .int p2, .int p3, .int p4] h (xct LM okM h d σ) (Qi D (pz z) (cw h LM okM d)) := by
  refine XM.of (by decide +kernel) (Nat.le_of_ble_eq_true rfl) ?_
  intro p e s m below meth c A ls X _ K _ O hl
  have hl : lv_has ls 6 [(0, .ref (h 99 0 0)), (1, .int p1), (2, .int p2), (3, .int p3), (4, .int p4)] := hl
  have hx := X.1.1; have hb := X.1.2.1
  rw [M_X6_coupleOf] at hf
  refine lv_iload_n hx hb dX6_coupleOf_0 rfl (lv_at hl 2 rfl) ?_
  refine lv_if_eq (tgt := 8) hx hb dX6_coupleOf_1 (by decide) (fun c_1 => ?_) (fun c_1 => ?_)
  · replace hf := if_t c_1 hf
    refine lv_iconst (v := 0) hx hb dX6_coupleOf_8 (by decide) ?_
    exact x_iret X O rfl _ (Option.some.inj hf).symm rfl dX6_coupleOf_9
  · replace hf := if_f c_1 hf
    refine lv_iload_n hx hb dX6_coupleOf_4 rfl (lv_at hl 3 rfl) ?_
    refine lv_if_ne (tgt := 10) hx hb dX6_coupleOf_5 (by decide) (fun c_2 => ?_) (fun c_2 => ?_)
    · replace hf := if_f c_2 hf
      refine lv_sipush (v := 1000) hx hb dX6_coupleOf_10 (by decide) ?_
      refine lv_aload_n hx hb dX6_coupleOf_13 rfl (lv_at hl 0 rfl) ?_
      refine lv_iload_n hx hb dX6_coupleOf_14 rfl (lv_at hl 2 rfl) ?_
      refine lv_iconst (v := 2) hx hb dX6_coupleOf_15 (by decide) ?_
      refine lv_icmp_ne (tgt := 23) hx hb dX6_coupleOf_16 (by decide) (fun c_3 => ?_) (fun c_3 => ?_)
      · replace hf := if_f c_3 hf
        refine lv_iconst (v := 0) hx hb dX6_coupleOf_23 (by decide) ?_
        exact w_M_X6_coupleOf_b24 X K _ _ _ _ _ _ _ ls _ _ O (lv_sub hl [0, 1, 2, 3, 4] rfl) hf
      · replace hf := if_t c_3 hf
        refine lv_iconst (v := 1) hx hb dX6_coupleOf_19 (by decide) ?_
        refine lv_goto (tgt := 24) hx hb dX6_coupleOf_20 (by decide) ?_
        exact w_M_X6_coupleOf_b24 X K _ _ _ _ _ _ _ ls _ _ O (lv_sub hl [0, 1, 2, 3, 4] rfl) hf
    · replace hf := if_t c_2 hf
      refine lv_iconst (v := 0) hx hb dX6_coupleOf_8 (by decide) ?_
      exact x_iret X O rfl _ (Option.some.inj hf).symm rfl dX6_coupleOf_9
theorem hdV_X6_coupleOf : yX6_coupleOf.cls = RX6 ∧ (yX6_coupleOf.cls ≠ "java/lang/invoke/MethodHandle" ∧ yX6_coupleOf.cls ≠ "java/lang/invoke/VarHandle" ∧ (parseMethodDescriptor yX6_coupleOf.desc).map (fun d => d.parameters.length) = some 4) := by decide +kernel
def M_X6_isReply_b14 : Nat → ST → Int32 → Int32 → Int32 → Int32 → Int32 → Option (ST × Int32)
  | 0, _, _, _, _, _, _ => none
  | n + 1, σ, x1, x3, x4, x5, x6 =>
    (if 3 ≤ x6 then some (σ, 1) else bn2 (M_X6_coupleOf σ x1 x6 x3 x4) (fun σ_2 r_3 => (if r_3 ≤ x5 then lt1 (x6 + 1) (fun x6_5 => (M_X6_isReply_b14 n) σ_2 x1 x3 x4 x5 x6_5) else some (σ_2, 0))))
theorem w_M_X6_isReply_b14 (X : FX p m c meth s args RX6 cX6_isReply 7 (some .boolean)) (K : XK D d A s) {z : ST × Int32} : ∀ (n : Nat) (σ : ST) (x1 : Int32) (x3 : Int32) (x4 : Int32) (x5 : Int32) (x6 : Int32) (ls : Array Slot) (H : Heap) (locs : List Loc), XH D A s.heap h (xct LM okM h d σ) H locs → lv_has ls 7 [(0, .ref (h 99 0 0)), (1, .int x1), (3, .int x3), (4, .int x4), (5, .int x5), (6, .int x6)] → M_X6_isReply_b14 n σ x1 x3 x4 x5 x6 = some z → W p l e (rmD 4 0 0) s m args below meth c H locs 0 0 (MQ below (Qi D (pz z) (cw h LM okM d) A) args s 0 0 A) (F0 m 14 ls []) := by
  have hx := X.1.1; have hb := X.1.2.1
  intro n
  induction n with
  | zero =>
    intro σ x1 x3 x4 x5 x6 ls H locs O hl hf
    exact absurd hf (fun q => by cases q)
  | succ n ih =>
    intro σ x1 x3 x4 x5 x6 ls H locs O hl hf
    rw [M_X6_isReply_b14] at hf
    refine lv_iload hx hb dX6_isReply_14 (lv_at hl 5 rfl) ?_
    refine lv_iconst (v := 3) hx hb dX6_isReply_16 (by decide) ?_
    refine lv_icmp_ge (tgt := 43) hx hb dX6_isReply_17 (by decide) (fun c_1 => ?_) (fun c_1 => ?_)
    · replace hf := if_t c_1 hf
      refine lv_iconst (v := 1) hx hb dX6_isReply_43 (by decide) ?_
      exact x_zret X O rfl rfl _ (Option.some.inj hf).symm rfl dX6_isReply_44
    · replace hf := if_f c_1 hf
      refine lv_aload_n hx hb dX6_isReply_20 rfl (lv_at hl 0 rfl) ?_
      refine lv_iload_n hx hb dX6_isReply_21 rfl (lv_at hl 1 rfl) ?_
      refine lv_iload hx hb dX6_isReply_22 (lv_at hl 5 rfl) ?_
      refine lv_iload_n hx hb dX6_isReply_24 rfl (lv_at hl 2 rfl) ?_
      refine lv_iload hx hb dX6_isReply_25 (lv_at hl 3 rfl) ?_
      obtain ⟨σ_2, r_3, hg, hf⟩ := bn2_s hf
      refine x_calli (x_runV (As := [.int x1, .int x6, .int x3, .int x4]) (rest := []) X K O (xct_obj rfl LM_99) rfl (m_M_X6_coupleOf hg) EN_b EN_h (lw_V q1651 q1653 qs104 q124 q1654) 4 rfl hl.1 (Nat.le_of_ble_eq_true rfl) hdV_X6_coupleOf ⟨by decide, by decide⟩ ⟨Nat.le_refl _, Nat.le_refl _⟩ dX6_isReply_27) (fun r u H locs hp O _ => ?_)
      cases hp
      have O : XH D A s.heap h (xct LM okM h d σ_2) H locs := O
      refine lv_iload hx hb dX6_isReply_30 (lv_at hl 4 rfl) ?_
      refine lv_icmp_le (tgt := 37) hx hb dX6_isReply_32 (by decide) (fun c_4 => ?_) (fun c_4 => ?_)
      · replace hf := if_t c_4 hf
        obtain ⟨x6_5, ex6_5, hf⟩ := lt1_s hf
        refine lv_iinc (v := x6_5) (lv' := [(6, .int x6_5), (0, .ref (h 99 0 0)), (1, .int x1), (3, .int x3), (4, .int x4), (5, .int x5)]) hx hb dX6_isReply_37 hl (k := 5) rfl (by rw [ex6_5]; rfl) (by decide) rfl (fun ls hl => ?_)
        refine lv_goto (tgt := 14) hx hb dX6_isReply_40 (by decide) ?_
        exact ih _ _ _ _ _ _ ls _ _ O (lv_sub hl [1, 2, 3, 4, 5, 0] rfl) hf
      · replace hf := if_f c_4 hf
        refine lv_iconst (v := 0) hx hb dX6_isReply_35 (by decide) ?_
        exact x_zret X O rfl rfl _ (Option.some.inj hf).symm rfl dX6_isReply_36
def M_X6_isReply (σ : ST) (p1 : Int32) (p2 : Int32) (p3 : Int32) (p4 : Int32) : Option (ST × Int32) :=
  bn2 (M_X6_coupleOf σ p1 p2 p3 p4) (fun σ_1 r_2 => M_X6_isReply_b14 FUEL σ_1 p1 p3 p4 r_2 0)
theorem m_M_X6_isReply {l : Launch} {D : va_G} {d : Nat → ClassId} {h : IX} {p1 : Int32} {p2 : Int32} {p3 : Int32} {p4 : Int32} {σ : ST} {z : ST × Int32} (hf : M_X6_isReply σ p1 p2 p3 p4 = some z) : XM l D d EN yX6_isReply cX6_isReply 7 (some .boolean) 4 0 0 [.ref (h 99 0 0), .int p1, .int p2, .int p3, .int p4] h (xct LM okM h d σ) (Qi D (pz z) (cw h LM okM d)) := by
  refine XM.of (by decide +kernel) (Nat.le_of_ble_eq_true rfl) ?_
  intro p e s m below meth c A ls X _ K _ O hl
  have hl : lv_has ls 7 [(0, .ref (h 99 0 0)), (1, .int p1), (2, .int p2), (3, .int p3), (4, .int p4)] := hl
  have hx := X.1.1; have hb := X.1.2.1
  rw [M_X6_isReply] at hf
  refine lv_aload_n hx hb dX6_isReply_0 rfl (lv_at hl 0 rfl) ?_
  refine lv_iload_n hx hb dX6_isReply_1 rfl (lv_at hl 1 rfl) ?_
  refine lv_iload_n hx hb dX6_isReply_2 rfl (lv_at hl 2 rfl) ?_
  refine lv_iload_n hx hb dX6_isReply_3 rfl (lv_at hl 3 rfl) ?_
  refine lv_iload hx hb dX6_isReply_4 (lv_at hl 4 rfl) ?_
  obtain ⟨σ_1, r_2, hg, hf⟩ := bn2_s hf
  refine x_calli (x_runV (As := [.int p1, .int p2, .int p3, .int p4]) (rest := []) X K O (xct_obj rfl LM_99) rfl (m_M_X6_coupleOf hg) EN_b EN_h (lw_V q1651 q1653 qs104 q124 q1654) 4 rfl hl.1 (Nat.le_of_ble_eq_true rfl) hdV_X6_coupleOf ⟨by decide, by decide⟩ ⟨Nat.le_refl _, Nat.le_refl _⟩ dX6_isReply_6) (fun r u H locs hp O _ => ?_)
  cases hp
  have O : XH D A s.heap h (xct LM okM h d σ_1) H locs := O
  refine lv_istore (lv' := [(5, .int r_2), (0, .ref (h 99 0 0)), (1, .int p1), (2, .int p2), (3, .int p3), (4, .int p4)]) hx hb dX6_isReply_9 hl (by decide) rfl (fun ls hl => ?_)
  refine lv_iconst (v := 0) hx hb dX6_isReply_11 (by decide) ?_
  refine lv_istore (lv' := [(6, .int 0), (5, .int r_2), (0, .ref (h 99 0 0)), (1, .int p1), (2, .int p2), (3, .int p3), (4, .int p4)]) hx hb dX6_isReply_12 hl (by decide) rfl (fun ls hl => ?_)
  exact w_M_X6_isReply_b14 X K _ _ _ _ _ _ _ ls _ _ O (lv_sub hl [2, 3, 5, 6, 1, 0] rfl) hf
theorem hdV_X6_isReply : yX6_isReply.cls = RX6 ∧ (yX6_isReply.cls ≠ "java/lang/invoke/MethodHandle" ∧ yX6_isReply.cls ≠ "java/lang/invoke/VarHandle" ∧ (parseMethodDescriptor yX6_isReply.desc).map (fun d => d.parameters.length) = some 4) := by decide +kernel
def M_X6_rests_b92 (kb42 : ST → Int32 → Int32 → Int32 → Int32 → Int32 → Option (ST × Int32)) (σ : ST) (x1 : Int32) (x2 : Int32) (x3 : Int32) (x4 : Int32) (x5 : Int32) : Option (ST × Int32) :=
  lt1 (x5 + 1) (fun x5_1 => kb42 σ x1 x2 x3 x4 x5_1)
theorem w_M_X6_rests_b92 (X : FX p m c meth s args RX6 cX6_rests 6 (some .int)) (K : XK D d A s) {z : ST × Int32} {kb42 : ST → Int32 → Int32 → Int32 → Int32 → Int32 → Option (ST × Int32)} (hkb42 : ∀ (σ : ST) (x1 : Int32) (x2 : Int32) (x3 : Int32) (x4 : Int32) (x5 : Int32) (ls : Array Slot) (H : Heap) (locs : List Loc), XH D A s.heap h (xct LM okM h d σ) H locs → lv_has ls 6 [(0, .ref (h 99 0 0)), (1, .int x1), (2, .int x2), (3, .int x3), (4, .int x4), (5, .int x5)] → kb42 σ x1 x2 x3 x4 x5 = some z → W p l e (rmD 5 0 0) s m args below meth c H locs 0 0 (MQ below (Qi D (pz z) (cw h LM okM d) A) args s 0 0 A) (F0 m 42 ls [])) (σ : ST) (x1 : Int32) (x2 : Int32) (x3 : Int32) (x4 : Int32) (x5 : Int32) (ls : Array Slot) (H : Heap) (locs : List Loc) (O : XH D A s.heap h (xct LM okM h d σ) H locs) (hl : lv_has ls 6 [(0, .ref (h 99 0 0)), (1, .int x1), (2, .int x2), (3, .int x3), (4, .int x4), (5, .int x5)]) (hf : M_X6_rests_b92 kb42 σ x1 x2 x3 x4 x5 = some z) : W p l e (rmD 5 0 0) s m args below meth c H locs 0 0 (MQ below (Qi D (pz z) (cw h LM okM d) A) args s 0 0 A) (F0 m 92 ls []) := by
  have hx := X.1.1; have hb := X.1.2.1
  rw [M_X6_rests_b92] at hf
  obtain ⟨x5_1, ex5_1, hf⟩ := lt1_s hf
  refine lv_iinc (v := x5_1) (lv' := [(5, .int x5_1), (0, .ref (h 99 0 0)), (1, .int x1), (2, .int x2), (3, .int x3), (4, .int x4)]) hx hb dX6_rests_92 hl (k := 5) rfl (by rw [ex5_1]; rfl) (by decide) rfl (fun ls hl => ?_)
  refine lv_goto (tgt := 42) hx hb dX6_rests_95 (by decide) ?_
  exact hkb42 _ _ _ _ _ _ ls _ _ O (lv_sub hl [1, 2, 3, 4, 5, 0] rfl) hf
def M_X6_rests_b42 : Nat → ST → Int32 → Int32 → Int32 → Int32 → Int32 → Option (ST × Int32)
  | 0, _, _, _, _, _, _ => none
  | n + 1, σ, x1, x2, x3, x4, x5 =>
    (if 9 ≤ x5 then some (σ, x4) else bn2 (M_X6_isReply σ x1 (x5 / 3) (x5 - x5 / 3 * 3) x3) (fun σ_2 r_3 => (if r_3 = 0 then M_X6_rests_b92 (M_X6_rests_b42 n) σ_2 x1 x2 x3 x4 x5 else bn2 (M_X6_isReply σ_2 x2 (x5 - x5 / 3 * 3) (x5 / 3) x3) (fun σ_5 r_6 => (if r_6 = 0 then M_X6_rests_b92 (M_X6_rests_b42 n) σ_5 x1 x2 x3 x4 x5 else lt1 (x4 ||| (1 <<< (x5 &&& 31))) (fun x4_8 => M_X6_rests_b92 (M_X6_rests_b42 n) σ_5 x1 x2 x3 x4_8 x5))))))
theorem w_M_X6_rests_b42 (X : FX p m c meth s args RX6 cX6_rests 6 (some .int)) (K : XK D d A s) {z : ST × Int32} : ∀ (n : Nat) (σ : ST) (x1 : Int32) (x2 : Int32) (x3 : Int32) (x4 : Int32) (x5 : Int32) (ls : Array Slot) (H : Heap) (locs : List Loc), XH D A s.heap h (xct LM okM h d σ) H locs → lv_has ls 6 [(0, .ref (h 99 0 0)), (1, .int x1), (2, .int x2), (3, .int x3), (4, .int x4), (5, .int x5)] → M_X6_rests_b42 n σ x1 x2 x3 x4 x5 = some z → W p l e (rmD 5 0 0) s m args below meth c H locs 0 0 (MQ below (Qi D (pz z) (cw h LM okM d) A) args s 0 0 A) (F0 m 42 ls []) := by
  have hx := X.1.1; have hb := X.1.2.1
  intro n
  induction n with
  | zero =>
    intro σ x1 x2 x3 x4 x5 ls H locs O hl hf
    exact absurd hf (fun q => by cases q)
  | succ n ih =>
    intro σ x1 x2 x3 x4 x5 ls H locs O hl hf
    rw [M_X6_rests_b42] at hf
    refine lv_iload hx hb dX6_rests_42 (lv_at hl 5 rfl) ?_
    refine lv_bipush (v := 9) hx hb dX6_rests_44 (by decide) ?_
    refine lv_icmp_ge (tgt := 98) hx hb dX6_rests_46 (by decide) (fun c_1 => ?_) (fun c_1 => ?_)
    · replace hf := if_t c_1 hf
      refine lv_iload hx hb dX6_rests_98 (lv_at hl 4 rfl) ?_
      exact x_iret X O rfl _ (Option.some.inj hf).symm rfl dX6_rests_100
    · replace hf := if_f c_1 hf
      refine lv_aload_n hx hb dX6_rests_49 rfl (lv_at hl 0 rfl) ?_
      refine lv_iload_n hx hb dX6_rests_50 rfl (lv_at hl 1 rfl) ?_
      refine lv_iload hx hb dX6_rests_51 (lv_at hl 5 rfl) ?_
      refine lv_iconst (v := 3) hx hb dX6_rests_53 (by decide) ?_
      refine lv_idiv hx hb dX6_rests_54 (by decide) ?_
      refine lv_iload hx hb dX6_rests_55 (lv_at hl 5 rfl) ?_
      refine lv_iconst (v := 3) hx hb dX6_rests_57 (by decide) ?_
      refine lv_irem hx hb dX6_rests_58 (by decide) ?_
      refine lv_iload_n hx hb dX6_rests_59 rfl (lv_at hl 3 rfl) ?_
      obtain ⟨σ_2, r_3, hg, hf⟩ := bn2_s hf
      refine x_calli (x_runV (As := [.int x1, .int (x5 / 3), .int (x5 - x5 / 3 * 3), .int x3]) (rest := []) X K O (xct_obj rfl LM_99) rfl (m_M_X6_isReply hg) EN_b EN_h (lw_V q1647 q1649 qs103 q124 q1650) 4 rfl hl.1 (Nat.le_of_ble_eq_true rfl) hdV_X6_isReply ⟨by decide, by decide⟩ ⟨Nat.le_refl _, Nat.le_refl _⟩ dX6_rests_60) (fun r u H locs hp O _ => ?_)
      cases hp
      have O : XH D A s.heap h (xct LM okM h d σ_2) H locs := O
      refine lv_if_eq (tgt := 92) hx hb dX6_rests_63 (by decide) (fun c_4 => ?_) (fun c_4 => ?_)
      · replace hf := if_t c_4 hf
        exact w_M_X6_rests_b92 X K ih _ _ _ _ _ _ ls _ _ O (lv_sub hl [0, 1, 2, 3, 4, 5] rfl) hf
      · replace hf := if_f c_4 hf
        refine lv_aload_n hx hb dX6_rests_66 rfl (lv_at hl 0 rfl) ?_
        refine lv_iload_n hx hb dX6_rests_67 rfl (lv_at hl 2 rfl) ?_
        refine lv_iload hx hb dX6_rests_68 (lv_at hl 5 rfl) ?_
        refine lv_iconst (v := 3) hx hb dX6_rests_70 (by decide) ?_
        refine lv_irem hx hb dX6_rests_71 (by decide) ?_
        refine lv_iload hx hb dX6_rests_72 (lv_at hl 5 rfl) ?_
        refine lv_iconst (v := 3) hx hb dX6_rests_74 (by decide) ?_
        refine lv_idiv hx hb dX6_rests_75 (by decide) ?_
        refine lv_iload_n hx hb dX6_rests_76 rfl (lv_at hl 3 rfl) ?_
        obtain ⟨σ_5, r_6, hg, hf⟩ := bn2_s hf
        refine x_calli (x_runV (As := [.int x2, .int (x5 - x5 / 3 * 3), .int (x5 / 3), .int x3]) (rest := []) X K O (xct_obj rfl LM_99) rfl (m_M_X6_isReply hg) EN_b EN_h (lw_V q1647 q1649 qs103 q124 q1650) 4 rfl hl.1 (Nat.le_of_ble_eq_true rfl) hdV_X6_isReply ⟨by decide, by decide⟩ ⟨Nat.le_refl _, Nat.le_refl _⟩ dX6_rests_77) (fun r u H locs hp O _ => ?_)
        cases hp
        have O : XH D A s.heap h (xct LM okM h d σ_5) H locs := O
        refine lv_if_eq (tgt := 92) hx hb dX6_rests_80 (by decide) (fun c_7 => ?_) (fun c_7 => ?_)
        · replace hf := if_t c_7 hf
          exact w_M_X6_rests_b92 X K ih _ _ _ _ _ _ ls _ _ O (lv_sub hl [0, 1, 2, 3, 4, 5] rfl) hf
        · replace hf := if_f c_7 hf
          refine lv_iload hx hb dX6_rests_83 (lv_at hl 4 rfl) ?_
          refine lv_iconst (v := 1) hx hb dX6_rests_85 (by decide) ?_
          refine lv_iload hx hb dX6_rests_86 (lv_at hl 5 rfl) ?_
          refine lv_ishl hx hb dX6_rests_88 ?_
          refine lv_ior hx hb dX6_rests_89 ?_
          obtain ⟨x4_8, ex4_8, hf⟩ := lt1_s hf
          refine x_top (w := .int x4_8) (by rw [ex4_8]) ?_
          refine lv_istore (lv' := [(4, .int x4_8), (0, .ref (h 99 0 0)), (1, .int x1), (2, .int x2), (3, .int x3), (5, .int x5)]) hx hb dX6_rests_90 hl (by decide) rfl (fun ls hl => ?_)
          exact w_M_X6_rests_b92 X K ih _ _ _ _ _ _ ls _ _ O (lv_sub hl [1, 2, 3, 4, 0, 5] rfl) hf
def M_X6_rests (σ : ST) (p1 : Int32) (p2 : Int32) (p3 : Int32) : Option (ST × Int32) :=
  lt1 (sI σ 99 0 0 0 0) (fun σ_1 => bn2 (M_X6_isOne σ_1 p1) (fun σ_2 r_3 => (if r_3 = 0 then some (σ_2, (-1)) else bn2 (M_X6_isOne σ_2 p2) (fun σ_5 r_6 => (if r_6 = 0 then some (σ_5, (-1)) else (if p1 = p2 then some (σ_5, (-1)) else bn2 (M_X6_isSize σ_5 p3) (fun σ_9 r_10 => (if r_10 = 0 then some (σ_9, (-1)) else M_X6_rests_b42 FUEL σ_9 p1 p2 p3 0 0))))))))
theorem m_M_X6_rests {l : Launch} {D : va_G} {d : Nat → ClassId} {h : IX} {p1 : Int32} {p2 : Int32} {p3 : Int32} {σ : ST} {z : ST × Int32} (hf : M_X6_rests σ p1 p2 p3 = some z) : XM l D d EN yX6_rests cX6_rests 6 (some .int) 5 0 0 [.ref (h 99 0 0), .int p1, .int p2, .int p3] h (xct LM okM h d σ) (Qi D (pz z) (cw h LM okM d)) := by
  refine XM.of (by decide +kernel) (Nat.le_of_ble_eq_true rfl) ?_
  intro p e s m below meth c A ls X _ K _ O hl
  have hl : lv_has ls 6 [(0, .ref (h 99 0 0)), (1, .int p1), (2, .int p2), (3, .int p3)] := hl
  have hx := X.1.1; have hb := X.1.2.1
  rw [M_X6_rests] at hf
  refine lv_aload_n hx hb dX6_rests_0 rfl (lv_at hl 0 rfl) ?_
  refine lv_iconst (v := 0) hx hb dX6_rests_1 (by decide) ?_
  obtain ⟨σ_1, eσ_1, hf⟩ := lt1_s hf
  refine x_pI X K O 0 rfl LM_99 rfl rfl in_X6 tyX6_ok nmX6 (by decide) q1150 rfl rfl rfl dX6_rests_2 (fun H locs O => ?_)
  rw [← eσ_1] at O
  refine lv_aload_n hx hb dX6_rests_5 rfl (lv_at hl 0 rfl) ?_
  refine lv_iload_n hx hb dX6_rests_6 rfl (lv_at hl 1 rfl) ?_
  obtain ⟨σ_2, r_3, hg, hf⟩ := bn2_s hf
  refine x_calli (x_runV (As := [.int p1]) (rest := []) X K O (xct_obj rfl LM_99) rfl (m_M_X6_isOne hg) EN_b EN_h (lw_V q1339 q1341 qs47 q124 q1342) 1 rfl hl.1 (Nat.le_of_ble_eq_true rfl) hdV_X6_isOne ⟨by decide, by decide⟩ ⟨Nat.le_refl _, Nat.le_refl _⟩ dX6_rests_7) (fun r u H locs hp O _ => ?_)
  cases hp
  have O : XH D A s.heap h (xct LM okM h d σ_2) H locs := O
  refine lv_if_eq (tgt := 34) hx hb dX6_rests_10 (by decide) (fun c_4 => ?_) (fun c_4 => ?_)
  · replace hf := if_t c_4 hf
    refine lv_iconst (v := (-1)) hx hb dX6_rests_34 (by decide) ?_
    exact x_iret X O rfl _ (Option.some.inj hf).symm rfl dX6_rests_35
  · replace hf := if_f c_4 hf
    refine lv_aload_n hx hb dX6_rests_13 rfl (lv_at hl 0 rfl) ?_
    refine lv_iload_n hx hb dX6_rests_14 rfl (lv_at hl 2 rfl) ?_
    obtain ⟨σ_5, r_6, hg, hf⟩ := bn2_s hf
    refine x_calli (x_runV (As := [.int p2]) (rest := []) X K O (xct_obj rfl LM_99) rfl (m_M_X6_isOne hg) EN_b EN_h (lw_V q1339 q1341 qs47 q124 q1342) 1 rfl hl.1 (Nat.le_of_ble_eq_true rfl) hdV_X6_isOne ⟨by decide, by decide⟩ ⟨Nat.le_refl _, Nat.le_refl _⟩ dX6_rests_15) (fun r u H locs hp O _ => ?_)
    cases hp
    have O : XH D A s.heap h (xct LM okM h d σ_5) H locs := O
    refine lv_if_eq (tgt := 34) hx hb dX6_rests_18 (by decide) (fun c_7 => ?_) (fun c_7 => ?_)
    · replace hf := if_t c_7 hf
      refine lv_iconst (v := (-1)) hx hb dX6_rests_34 (by decide) ?_
      exact x_iret X O rfl _ (Option.some.inj hf).symm rfl dX6_rests_35
    · replace hf := if_f c_7 hf
      refine lv_iload_n hx hb dX6_rests_21 rfl (lv_at hl 1 rfl) ?_
      refine lv_iload_n hx hb dX6_rests_22 rfl (lv_at hl 2 rfl) ?_
      refine lv_icmp_eq (tgt := 34) hx hb dX6_rests_23 (by decide) (fun c_8 => ?_) (fun c_8 => ?_)
      · replace hf := if_t c_8 hf
        refine lv_iconst (v := (-1)) hx hb dX6_rests_34 (by decide) ?_
        exact x_iret X O rfl _ (Option.some.inj hf).symm rfl dX6_rests_35
      · replace hf := if_f c_8 hf
        refine lv_aload_n hx hb dX6_rests_26 rfl (lv_at hl 0 rfl) ?_
        refine lv_iload_n hx hb dX6_rests_27 rfl (lv_at hl 3 rfl) ?_
        obtain ⟨σ_9, r_10, hg, hf⟩ := bn2_s hf
        refine x_calli (x_runV (As := [.int p3]) (rest := []) X K O (xct_obj rfl LM_99) rfl (m_M_X6_isSize hg) EN_b EN_h (lw_V q1456 q1458 qs69 q124 q1459) 1 rfl hl.1 (Nat.le_of_ble_eq_true rfl) hdV_X6_isSize ⟨by decide, by decide⟩ ⟨Nat.le_refl _, Nat.le_refl _⟩ dX6_rests_28) (fun r u H locs hp O _ => ?_)
        cases hp
        have O : XH D A s.heap h (xct LM okM h d σ_9) H locs := O
        refine lv_if_ne (tgt := 36) hx hb dX6_rests_31 (by decide) (fun c_11 => ?_) (fun c_11 => ?_)
        · replace hf := if_f c_11 hf
          refine lv_iconst (v := 0) hx hb dX6_rests_36 (by decide) ?_
          refine lv_istore (lv' := [(4, .int 0), (0, .ref (h 99 0 0)), (1, .int p1), (2, .int p2), (3, .int p3)]) hx hb dX6_rests_37 hl (by decide) rfl (fun ls hl => ?_)
          refine lv_iconst (v := 0) hx hb dX6_rests_39 (by decide) ?_
          refine lv_istore (lv' := [(5, .int 0), (4, .int 0), (0, .ref (h 99 0 0)), (1, .int p1), (2, .int p2), (3, .int p3)]) hx hb dX6_rests_40 hl (by decide) rfl (fun ls hl => ?_)
          exact w_M_X6_rests_b42 X K _ _ _ _ _ _ _ ls _ _ O (lv_sub hl [2, 3, 4, 5, 1, 0] rfl) hf
        · replace hf := if_t c_11 hf
          refine lv_iconst (v := (-1)) hx hb dX6_rests_34 (by decide) ?_
          exact x_iret X O rfl _ (Option.some.inj hf).symm rfl dX6_rests_35
def M_X6_whom_b114 (kb28 : ST → Int32 → Int32 → Int32 → Int32 → Option (ST × Int32)) (σ : ST) (x1 : Int32) (x2 : Int32) (x3 : Int32) (x4 : Int32) : Option (ST × Int32) :=
  lt1 (x4 + 1) (fun x4_1 => kb28 σ x1 x2 x3 x4_1)
theorem w_M_X6_whom_b114 (X : FX p m c meth s args RX6 cX6_whom 5 (some .int)) (K : XK D d A s) {z : ST × Int32} {kb28 : ST → Int32 → Int32 → Int32 → Int32 → Option (ST × Int32)} (hkb28 : ∀ (σ : ST) (x1 : Int32) (x2 : Int32) (x3 : Int32) (x4 : Int32) (ls : Array Slot) (H : Heap) (locs : List Loc), XH D A s.heap h (xct LM okM h d σ) H locs → lv_has ls 5 [(0, .ref (h 99 0 0)), (1, .int x1), (2, .int x2), (3, .int x3), (4, .int x4)] → kb28 σ x1 x2 x3 x4 = some z → W p l e (rmD 5 0 0) s m args below meth c H locs 0 0 (MQ below (Qi D (pz z) (cw h LM okM d) A) args s 0 0 A) (F0 m 28 ls [])) (σ : ST) (x1 : Int32) (x2 : Int32) (x3 : Int32) (x4 : Int32) (ls : Array Slot) (H : Heap) (locs : List Loc) (O : XH D A s.heap h (xct LM okM h d σ) H locs) (hl : lv_has ls 5 [(0, .ref (h 99 0 0)), (1, .int x1), (2, .int x2), (3, .int x3), (4, .int x4)]) (hf : M_X6_whom_b114 kb28 σ x1 x2 x3 x4 = some z) : W p l e (rmD 5 0 0) s m args below meth c H locs 0 0 (MQ below (Qi D (pz z) (cw h LM okM d) A) args s 0 0 A) (F0 m 114 ls []) := by
  have hx := X.1.1; have hb := X.1.2.1
  rw [M_X6_whom_b114] at hf
  obtain ⟨x4_1, ex4_1, hf⟩ := lt1_s hf
  refine lv_iinc (v := x4_1) (lv' := [(4, .int x4_1), (0, .ref (h 99 0 0)), (1, .int x1), (2, .int x2), (3, .int x3)]) hx hb dX6_whom_114 hl (k := 4) rfl (by rw [ex4_1]; rfl) (by decide) rfl (fun ls hl => ?_)
  refine lv_goto (tgt := 28) hx hb dX6_whom_117 (by decide) ?_
  exact hkb28 _ _ _ _ _ ls _ _ O (lv_sub hl [1, 2, 3, 4, 0] rfl) hf
def M_X6_whom_b111 (kb28 : ST → Int32 → Int32 → Int32 → Int32 → Option (ST × Int32)) (σ : ST) (x1 : Int32) (x2 : Int32) (x4 : Int32) : Option (ST × Int32) :=
  M_X6_whom_b114 kb28 σ x1 x2 x4 x4
theorem w_M_X6_whom_b111 (X : FX p m c meth s args RX6 cX6_whom 5 (some .int)) (K : XK D d A s) {z : ST × Int32} {kb28 : ST → Int32 → Int32 → Int32 → Int32 → Option (ST × Int32)} (hkb28 : ∀ (σ : ST) (x1 : Int32) (x2 : Int32) (x3 : Int32) (x4 : Int32) (ls : Array Slot) (H : Heap) (locs : List Loc), XH D A s.heap h (xct LM okM h d σ) H locs → lv_has ls 5 [(0, .ref (h 99 0 0)), (1, .int x1), (2, .int x2), (3, .int x3), (4, .int x4)] → kb28 σ x1 x2 x3 x4 = some z → W p l e (rmD 5 0 0) s m args below meth c H locs 0 0 (MQ below (Qi D (pz z) (cw h LM okM d) A) args s 0 0 A) (F0 m 28 ls [])) (σ : ST) (x1 : Int32) (x2 : Int32) (x4 : Int32) (ls : Array Slot) (H : Heap) (locs : List Loc) (O : XH D A s.heap h (xct LM okM h d σ) H locs) (hl : lv_has ls 5 [(0, .ref (h 99 0 0)), (1, .int x1), (2, .int x2), (4, .int x4)]) (hf : M_X6_whom_b111 kb28 σ x1 x2 x4 = some z) : W p l e (rmD 5 0 0) s m args below meth c H locs 0 0 (MQ below (Qi D (pz z) (cw h LM okM d) A) args s 0 0 A) (F0 m 111 ls []) := by
  have hx := X.1.1; have hb := X.1.2.1
  rw [M_X6_whom_b111] at hf
  refine lv_iload hx hb dX6_whom_111 (lv_at hl 3 rfl) ?_
  refine lv_istore_n (lv' := [(3, .int x4), (0, .ref (h 99 0 0)), (1, .int x1), (2, .int x2), (4, .int x4)]) hx hb dX6_whom_113 rfl hl (by decide) rfl (fun ls hl => ?_)
  exact w_M_X6_whom_b114 X K hkb28 _ _ _ _ _ ls _ _ O (lv_sub hl [1, 2, 3, 0, 4] rfl) hf
def M_X6_whom_b28 : Nat → ST → Int32 → Int32 → Int32 → Int32 → Option (ST × Int32)
  | 0, _, _, _, _, _ => none
  | n + 1, σ, x1, x2, x3, x4 =>
    (if (gI σ 99 0 0 2) ≤ x4 then some (σ, x3) else (if x4 = x1 then M_X6_whom_b114 (M_X6_whom_b28 n) σ x1 x2 x3 x4 else bn2 (M_X6_fact σ x4 6) (fun σ_3 r_4 => (if 0 < r_4 then M_X6_whom_b114 (M_X6_whom_b28 n) σ_3 x1 x2 x3 x4 else bn2 (M_X6_isDealing σ_3 x4 x1 x2) (fun σ_6 r_7 => (if r_7 = 0 then M_X6_whom_b114 (M_X6_whom_b28 n) σ_6 x1 x2 x3 x4 else bn2 (M_X6_isDealing σ_6 x1 x4 x2) (fun σ_9 r_10 => (if r_10 = 0 then M_X6_whom_b114 (M_X6_whom_b28 n) σ_9 x1 x2 x3 x4 else bn2 (M_X6_isBreaking σ_9 x4 x1 x2) (fun σ_12 r_13 => (if r_13 = 0 then (if x3 = (-1) then M_X6_whom_b111 (M_X6_whom_b28 n) σ_12 x1 x2 x4 else bn2 (M_X6_fact σ_12 x4 2) (fun σ_16 r_17 => bn2 (M_X6_fact σ_16 x3 2) (fun σ_18 r_19 => (if r_17 ≤ r_19 then M_X6_whom_b114 (M_X6_whom_b28 n) σ_18 x1 x2 x3 x4 else M_X6_whom_b111 (M_X6_whom_b28 n) σ_18 x1 x2 x4)))) else M_X6_whom_b114 (M_X6_whom_b28 n) σ_12 x1 x2 x3 x4))))))))))
theorem w_M_X6_whom_b28 (X : FX p m c meth s args RX6 cX6_whom 5 (some .int)) (K : XK D d A s) {z : ST × Int32} : ∀ (n : Nat) (σ : ST) (x1 : Int32) (x2 : Int32) (x3 : Int32) (x4 : Int32) (ls : Array Slot) (H : Heap) (locs : List Loc), XH D A s.heap h (xct LM okM h d σ) H locs → lv_has ls 5 [(0, .ref (h 99 0 0)), (1, .int x1), (2, .int x2), (3, .int x3), (4, .int x4)] → M_X6_whom_b28 n σ x1 x2 x3 x4 = some z → W p l e (rmD 5 0 0) s m args below meth c H locs 0 0 (MQ below (Qi D (pz z) (cw h LM okM d) A) args s 0 0 A) (F0 m 28 ls []) := by
  have hx := X.1.1; have hb := X.1.2.1
  intro n
  induction n with
  | zero =>
    intro σ x1 x2 x3 x4 ls H locs O hl hf
    exact absurd hf (fun q => by cases q)
  | succ n ih =>
    intro σ x1 x2 x3 x4 ls H locs O hl hf
    rw [M_X6_whom_b28] at hf
    refine lv_iload hx hb dX6_whom_28 (lv_at hl 4 rfl) ?_
    refine lv_aload_n hx hb dX6_whom_30 rfl (lv_at hl 0 rfl) ?_
    refine x_gI X K O 2 rfl LM_99 rfl rfl in_X6 (by decide) q1152 dX6_whom_31 ?_
    refine lv_icmp_ge (tgt := 120) hx hb dX6_whom_34 (by decide) (fun c_1 => ?_) (fun c_1 => ?_)
    · replace hf := if_t c_1 hf
      refine lv_iload_n hx hb dX6_whom_120 rfl (lv_at hl 3 rfl) ?_
      exact x_iret X O rfl _ (Option.some.inj hf).symm rfl dX6_whom_121
    · replace hf := if_f c_1 hf
      refine lv_iload hx hb dX6_whom_37 (lv_at hl 4 rfl) ?_
      refine lv_iload_n hx hb dX6_whom_39 rfl (lv_at hl 1 rfl) ?_
      refine lv_icmp_eq (tgt := 114) hx hb dX6_whom_40 (by decide) (fun c_2 => ?_) (fun c_2 => ?_)
      · replace hf := if_t c_2 hf
        exact w_M_X6_whom_b114 X K ih _ _ _ _ _ ls _ _ O (lv_sub hl [0, 1, 2, 3, 4] rfl) hf
      · replace hf := if_f c_2 hf
        refine lv_aload_n hx hb dX6_whom_43 rfl (lv_at hl 0 rfl) ?_
        refine lv_iload hx hb dX6_whom_44 (lv_at hl 4 rfl) ?_
        refine lv_bipush (v := 6) hx hb dX6_whom_46 (by decide) ?_
        obtain ⟨σ_3, r_4, hg, hf⟩ := bn2_s hf
        refine x_calli (x_runV (As := [.int x4, .int 6]) (rest := []) X K O (xct_obj rfl LM_99) rfl (m_M_X6_fact hg) EN_b EN_h (lw_V q1447 q1449 qs68 q124 q1450) 2 rfl hl.1 (Nat.le_of_ble_eq_true rfl) hdV_X6_fact ⟨by decide, by decide⟩ ⟨Nat.le_refl _, Nat.le_refl _⟩ dX6_whom_48) (fun r u H locs hp O _ => ?_)
        cases hp
        have O : XH D A s.heap h (xct LM okM h d σ_3) H locs := O
        refine lv_if_gt (tgt := 114) hx hb dX6_whom_51 (by decide) (fun c_5 => ?_) (fun c_5 => ?_)
        · replace hf := if_t c_5 hf
          exact w_M_X6_whom_b114 X K ih _ _ _ _ _ ls _ _ O (lv_sub hl [0, 1, 2, 3, 4] rfl) hf
        · replace hf := if_f c_5 hf
          refine lv_aload_n hx hb dX6_whom_54 rfl (lv_at hl 0 rfl) ?_
          refine lv_iload hx hb dX6_whom_55 (lv_at hl 4 rfl) ?_
          refine lv_iload_n hx hb dX6_whom_57 rfl (lv_at hl 1 rfl) ?_
          refine lv_iload_n hx hb dX6_whom_58 rfl (lv_at hl 2 rfl) ?_
          obtain ⟨σ_6, r_7, hg, hf⟩ := bn2_s hf
          refine x_calli (x_runV (As := [.int x4, .int x1, .int x2]) (rest := []) X K O (xct_obj rfl LM_99) rfl (m_M_X6_isDealing hg) EN_b EN_h (lw_V q1460 q1462 qs70 q124 q1463) 3 rfl hl.1 (Nat.le_of_ble_eq_true rfl) hdV_X6_isDealing ⟨by decide, by decide⟩ ⟨Nat.le_refl _, Nat.le_refl _⟩ dX6_whom_59) (fun r u H locs hp O _ => ?_)
          cases hp
          have O : XH D A s.heap h (xct LM okM h d σ_6) H locs := O
          refine lv_if_eq (tgt := 114) hx hb dX6_whom_62 (by decide) (fun c_8 => ?_) (fun c_8 => ?_)
          · replace hf := if_t c_8 hf
            exact w_M_X6_whom_b114 X K ih _ _ _ _ _ ls _ _ O (lv_sub hl [0, 1, 2, 3, 4] rfl) hf
          · replace hf := if_f c_8 hf
            refine lv_aload_n hx hb dX6_whom_65 rfl (lv_at hl 0 rfl) ?_
            refine lv_iload_n hx hb dX6_whom_66 rfl (lv_at hl 1 rfl) ?_
            refine lv_iload hx hb dX6_whom_67 (lv_at hl 4 rfl) ?_
            refine lv_iload_n hx hb dX6_whom_69 rfl (lv_at hl 2 rfl) ?_
            obtain ⟨σ_9, r_10, hg, hf⟩ := bn2_s hf
            refine x_calli (x_runV (As := [.int x1, .int x4, .int x2]) (rest := []) X K O (xct_obj rfl LM_99) rfl (m_M_X6_isDealing hg) EN_b EN_h (lw_V q1460 q1462 qs70 q124 q1463) 3 rfl hl.1 (Nat.le_of_ble_eq_true rfl) hdV_X6_isDealing ⟨by decide, by decide⟩ ⟨Nat.le_refl _, Nat.le_refl _⟩ dX6_whom_70) (fun r u H locs hp O _ => ?_)
            cases hp
            have O : XH D A s.heap h (xct LM okM h d σ_9) H locs := O
            refine lv_if_eq (tgt := 114) hx hb dX6_whom_73 (by decide) (fun c_11 => ?_) (fun c_11 => ?_)
            · replace hf := if_t c_11 hf
              exact w_M_X6_whom_b114 X K ih _ _ _ _ _ ls _ _ O (lv_sub hl [0, 1, 2, 3, 4] rfl) hf
            · replace hf := if_f c_11 hf
              refine lv_aload_n hx hb dX6_whom_76 rfl (lv_at hl 0 rfl) ?_
              refine lv_iload hx hb dX6_whom_77 (lv_at hl 4 rfl) ?_
              refine lv_iload_n hx hb dX6_whom_79 rfl (lv_at hl 1 rfl) ?_
              refine lv_iload_n hx hb dX6_whom_80 rfl (lv_at hl 2 rfl) ?_
              obtain ⟨σ_12, r_13, hg, hf⟩ := bn2_s hf
              refine x_calli (x_runV (As := [.int x4, .int x1, .int x2]) (rest := []) X K O (xct_obj rfl LM_99) rfl (m_M_X6_isBreaking hg) EN_b EN_h (lw_V q1484 q1486 qs76 q124 q1487) 3 rfl hl.1 (Nat.le_of_ble_eq_true rfl) hdV_X6_isBreaking ⟨by decide, by decide⟩ ⟨Nat.le_refl _, Nat.le_refl _⟩ dX6_whom_81) (fun r u H locs hp O _ => ?_)
              cases hp
              have O : XH D A s.heap h (xct LM okM h d σ_12) H locs := O
              refine lv_if_eq (tgt := 90) hx hb dX6_whom_84 (by decide) (fun c_14 => ?_) (fun c_14 => ?_)
              · replace hf := if_t c_14 hf
                refine lv_iload_n hx hb dX6_whom_90 rfl (lv_at hl 3 rfl) ?_
                refine lv_iconst (v := (-1)) hx hb dX6_whom_91 (by decide) ?_
                refine lv_icmp_eq (tgt := 111) hx hb dX6_whom_92 (by decide) (fun c_15 => ?_) (fun c_15 => ?_)
                · replace hf := if_t c_15 hf
                  exact w_M_X6_whom_b111 X K ih _ _ _ _ ls _ _ O (lv_sub hl [0, 1, 2, 4] rfl) hf
                · replace hf := if_f c_15 hf
                  refine lv_aload_n hx hb dX6_whom_95 rfl (lv_at hl 0 rfl) ?_
                  refine lv_iload hx hb dX6_whom_96 (lv_at hl 4 rfl) ?_
                  refine lv_iconst (v := 2) hx hb dX6_whom_98 (by decide) ?_
                  obtain ⟨σ_16, r_17, hg, hf⟩ := bn2_s hf
                  refine x_calli (x_runV (As := [.int x4, .int 2]) (rest := []) X K O (xct_obj rfl LM_99) rfl (m_M_X6_fact hg) EN_b EN_h (lw_V q1447 q1449 qs68 q124 q1450) 2 rfl hl.1 (Nat.le_of_ble_eq_true rfl) hdV_X6_fact ⟨by decide, by decide⟩ ⟨Nat.le_refl _, Nat.le_refl _⟩ dX6_whom_99) (fun r u H locs hp O _ => ?_)
                  cases hp
                  have O : XH D A s.heap h (xct LM okM h d σ_16) H locs := O
                  refine lv_aload_n hx hb dX6_whom_102 rfl (lv_at hl 0 rfl) ?_
                  refine lv_iload_n hx hb dX6_whom_103 rfl (lv_at hl 3 rfl) ?_
                  refine lv_iconst (v := 2) hx hb dX6_whom_104 (by decide) ?_
                  obtain ⟨σ_18, r_19, hg, hf⟩ := bn2_s hf
                  refine x_calli (x_runV (As := [.int x3, .int 2]) (rest := [.int r_17]) X K O (xct_obj rfl LM_99) rfl (m_M_X6_fact hg) EN_b EN_h (lw_V q1447 q1449 qs68 q124 q1450) 2 rfl hl.1 (Nat.le_of_ble_eq_true rfl) hdV_X6_fact ⟨by decide, by decide⟩ ⟨Nat.le_refl _, Nat.le_refl _⟩ dX6_whom_105) (fun r u H locs hp O _ => ?_)
                  cases hp
                  have O : XH D A s.heap h (xct LM okM h d σ_18) H locs := O
                  refine lv_icmp_le (tgt := 114) hx hb dX6_whom_108 (by decide) (fun c_20 => ?_) (fun c_20 => ?_)
                  · replace hf := if_t c_20 hf
                    exact w_M_X6_whom_b114 X K ih _ _ _ _ _ ls _ _ O (lv_sub hl [0, 1, 2, 3, 4] rfl) hf
                  · replace hf := if_f c_20 hf
                    exact w_M_X6_whom_b111 X K ih _ _ _ _ ls _ _ O (lv_sub hl [0, 1, 2, 4] rfl) hf
              · replace hf := if_f c_14 hf
                refine lv_goto (tgt := 114) hx hb dX6_whom_87 (by decide) ?_
                exact w_M_X6_whom_b114 X K ih _ _ _ _ _ ls _ _ O (lv_sub hl [0, 1, 2, 3, 4] rfl) hf
def M_X6_whom (σ : ST) (p1 : Int32) (p2 : Int32) : Option (ST × Int32) :=
  lt1 (sI σ 99 0 0 0 0) (fun σ_1 => bn2 (M_X6_isOne σ_1 p1) (fun σ_2 r_3 => (if r_3 = 0 then some (σ_2, (-1)) else bn2 (M_X6_isSize σ_2 p2) (fun σ_5 r_6 => (if r_6 = 0 then some (σ_5, (-1)) else M_X6_whom_b28 FUEL σ_5 p1 p2 (-1) 0)))))
theorem m_M_X6_whom {l : Launch} {D : va_G} {d : Nat → ClassId} {h : IX} {p1 : Int32} {p2 : Int32} {σ : ST} {z : ST × Int32} (hf : M_X6_whom σ p1 p2 = some z) : XM l D d EN yX6_whom cX6_whom 5 (some .int) 5 0 0 [.ref (h 99 0 0), .int p1, .int p2] h (xct LM okM h d σ) (Qi D (pz z) (cw h LM okM d)) := by
  refine XM.of (by decide +kernel) (Nat.le_of_ble_eq_true rfl) ?_
  intro p e s m below meth c A ls X _ K _ O hl
  have hl : lv_has ls 5 [(0, .ref (h 99 0 0)), (1, .int p1), (2, .int p2)] := hl
  have hx := X.1.1; have hb := X.1.2.1
  rw [M_X6_whom] at hf
  refine lv_aload_n hx hb dX6_whom_0 rfl (lv_at hl 0 rfl) ?_
  refine lv_iconst (v := 0) hx hb dX6_whom_1 (by decide) ?_
  obtain ⟨σ_1, eσ_1, hf⟩ := lt1_s hf
  refine x_pI X K O 0 rfl LM_99 rfl rfl in_X6 tyX6_ok nmX6 (by decide) q1150 rfl rfl rfl dX6_whom_2 (fun H locs O => ?_)
  rw [← eσ_1] at O
  refine lv_aload_n hx hb dX6_whom_5 rfl (lv_at hl 0 rfl) ?_
  refine lv_iload_n hx hb dX6_whom_6 rfl (lv_at hl 1 rfl) ?_
  obtain ⟨σ_2, r_3, hg, hf⟩ := bn2_s hf
  refine x_calli (x_runV (As := [.int p1]) (rest := []) X K O (xct_obj rfl LM_99) rfl (m_M_X6_isOne hg) EN_b EN_h (lw_V q1339 q1341 qs47 q124 q1342) 1 rfl hl.1 (Nat.le_of_ble_eq_true rfl) hdV_X6_isOne ⟨by decide, by decide⟩ ⟨Nat.le_refl _, Nat.le_refl _⟩ dX6_whom_7) (fun r u H locs hp O _ => ?_)
  cases hp
  have O : XH D A s.heap h (xct LM okM h d σ_2) H locs := O
  refine lv_if_eq (tgt := 21) hx hb dX6_whom_10 (by decide) (fun c_4 => ?_) (fun c_4 => ?_)
  · replace hf := if_t c_4 hf
    refine lv_iconst (v := (-1)) hx hb dX6_whom_21 (by decide) ?_
    exact x_iret X O rfl _ (Option.some.inj hf).symm rfl dX6_whom_22
  · replace hf := if_f c_4 hf
    refine lv_aload_n hx hb dX6_whom_13 rfl (lv_at hl 0 rfl) ?_
    refine lv_iload_n hx hb dX6_whom_14 rfl (lv_at hl 2 rfl) ?_
    obtain ⟨σ_5, r_6, hg, hf⟩ := bn2_s hf
    refine x_calli (x_runV (As := [.int p2]) (rest := []) X K O (xct_obj rfl LM_99) rfl (m_M_X6_isSize hg) EN_b EN_h (lw_V q1456 q1458 qs69 q124 q1459) 1 rfl hl.1 (Nat.le_of_ble_eq_true rfl) hdV_X6_isSize ⟨by decide, by decide⟩ ⟨Nat.le_refl _, Nat.le_refl _⟩ dX6_whom_15) (fun r u H locs hp O _ => ?_)
    cases hp
    have O : XH D A s.heap h (xct LM okM h d σ_5) H locs := O
    refine lv_if_ne (tgt := 23) hx hb dX6_whom_18 (by decide) (fun c_7 => ?_) (fun c_7 => ?_)
    · replace hf := if_f c_7 hf
      refine lv_iconst (v := (-1)) hx hb dX6_whom_23 (by decide) ?_
      refine lv_istore_n (lv' := [(3, .int (-1)), (0, .ref (h 99 0 0)), (1, .int p1), (2, .int p2)]) hx hb dX6_whom_24 rfl hl (by decide) rfl (fun ls hl => ?_)
      refine lv_iconst (v := 0) hx hb dX6_whom_25 (by decide) ?_
      refine lv_istore (lv' := [(4, .int 0), (3, .int (-1)), (0, .ref (h 99 0 0)), (1, .int p1), (2, .int p2)]) hx hb dX6_whom_26 hl (by decide) rfl (fun ls hl => ?_)
      exact w_M_X6_whom_b28 X K _ _ _ _ _ _ ls _ _ O (lv_sub hl [2, 3, 4, 1, 0] rfl) hf
    · replace hf := if_t c_7 hf
      refine lv_iconst (v := (-1)) hx hb dX6_whom_21 (by decide) ?_
      exact x_iret X O rfl _ (Option.some.inj hf).symm rfl dX6_whom_22
def M_X6_trust_b129 (kb33 : ST → Int32 → Int32 → Int32 → Int32 → Option (ST × Int32)) (kb45 : ST → Int32 → Int32 → Int32 → Int32 → Int32 → Option (ST × Int32)) (σ : ST) (x1 : Int32) (x2 : Int32) (x3 : Int32) (x4 : Int32) (x5 : Int32) : Option (ST × Int32) :=
  lt1 (x5 + 1) (fun x5_1 => kb45 σ x1 x2 x3 x4 x5_1)
theorem w_M_X6_trust_b129 (X : FX p m c meth s args RX6 cX6_trust 7 (some .int)) (K : XK D d A s) {z : ST × Int32} {kb33 : ST → Int32 → Int32 → Int32 → Int32 → Option (ST × Int32)} (hkb33 : ∀ (σ : ST) (x1 : Int32) (x2 : Int32) (x3 : Int32) (x4 : Int32) (ls : Array Slot) (H : Heap) (locs : List Loc), XH D A s.heap h (xct LM okM h d σ) H locs → lv_has ls 7 [(0, .ref (h 99 0 0)), (1, .int x1), (2, .int x2), (3, .int x3), (4, .int x4)] → kb33 σ x1 x2 x3 x4 = some z → W p l e (rmD 1 0 0) s m args below meth c H locs 0 0 (MQ below (Qi D (pz z) (cw h LM okM d) A) args s 0 0 A) (F0 m 33 ls [])) {kb45 : ST → Int32 → Int32 → Int32 → Int32 → Int32 → Option (ST × Int32)} (hkb45 : ∀ (σ : ST) (x1 : Int32) (x2 : Int32) (x3 : Int32) (x4 : Int32) (x5 : Int32) (ls : Array Slot) (H : Heap) (locs : List Loc), XH D A s.heap h (xct LM okM h d σ) H locs → lv_has ls 7 [(0, .ref (h 99 0 0)), (1, .int x1), (2, .int x2), (3, .int x3), (4, .int x4), (5, .int x5)] → kb45 σ x1 x2 x3 x4 x5 = some z → W p l e (rmD 1 0 0) s m args below meth c H locs 0 0 (MQ below (Qi D (pz z) (cw h LM okM d) A) args s 0 0 A) (F0 m 45 ls [])) (σ : ST) (x1 : Int32) (x2 : Int32) (x3 : Int32) (x4 : Int32) (x5 : Int32) (ls : Array Slot) (H : Heap) (locs : List Loc) (O : XH D A s.heap h (xct LM okM h d σ) H locs) (hl : lv_has ls 7 [(0, .ref (h 99 0 0)), (1, .int x1), (2, .int x2), (3, .int x3), (4, .int x4), (5, .int x5)]) (hf : M_X6_trust_b129 kb33 kb45 σ x1 x2 x3 x4 x5 = some z) : W p l e (rmD 1 0 0) s m args below meth c H locs 0 0 (MQ below (Qi D (pz z) (cw h LM okM d) A) args s 0 0 A) (F0 m 129 ls []) := by
  have hx := X.1.1; have hb := X.1.2.1
  rw [M_X6_trust_b129] at hf
  obtain ⟨x5_1, ex5_1, hf⟩ := lt1_s hf
  refine lv_iinc (v := x5_1) (lv' := [(5, .int x5_1), (0, .ref (h 99 0 0)), (1, .int x1), (2, .int x2), (3, .int x3), (4, .int x4)]) hx hb dX6_trust_129 hl (k := 5) rfl (by rw [ex5_1]; rfl) (by decide) rfl (fun ls hl => ?_)
  refine lv_goto (tgt := 45) hx hb dX6_trust_132 (by decide) ?_
  exact hkb45 _ _ _ _ _ _ ls _ _ O (lv_sub hl [1, 2, 3, 4, 5, 0] rfl) hf
def M_X6_trust_b125 (kb33 : ST → Int32 → Int32 → Int32 → Int32 → Option (ST × Int32)) (kb45 : ST → Int32 → Int32 → Int32 → Int32 → Int32 → Option (ST × Int32)) (σ : ST) (x1 : Int32) (x2 : Int32) (x3 : Int32) (x4 : Int32) (x5 : Int32) : Option (ST × Int32) :=
  lt1 (x3 + 1) (fun x3_1 => M_X6_trust_b129 kb33 kb45 σ x1 x2 x3_1 x4 x5)
theorem w_M_X6_trust_b125 (X : FX p m c meth s args RX6 cX6_trust 7 (some .int)) (K : XK D d A s) {z : ST × Int32} {kb33 : ST → Int32 → Int32 → Int32 → Int32 → Option (ST × Int32)} (hkb33 : ∀ (σ : ST) (x1 : Int32) (x2 : Int32) (x3 : Int32) (x4 : Int32) (ls : Array Slot) (H : Heap) (locs : List Loc), XH D A s.heap h (xct LM okM h d σ) H locs → lv_has ls 7 [(0, .ref (h 99 0 0)), (1, .int x1), (2, .int x2), (3, .int x3), (4, .int x4)] → kb33 σ x1 x2 x3 x4 = some z → W p l e (rmD 1 0 0) s m args below meth c H locs 0 0 (MQ below (Qi D (pz z) (cw h LM okM d) A) args s 0 0 A) (F0 m 33 ls [])) {kb45 : ST → Int32 → Int32 → Int32 → Int32 → Int32 → Option (ST × Int32)} (hkb45 : ∀ (σ : ST) (x1 : Int32) (x2 : Int32) (x3 : Int32) (x4 : Int32) (x5 : Int32) (ls : Array Slot) (H : Heap) (locs : List Loc), XH D A s.heap h (xct LM okM h d σ) H locs → lv_has ls 7 [(0, .ref (h 99 0 0)), (1, .int x1), (2, .int x2), (3, .int x3), (4, .int x4), (5, .int x5)] → kb45 σ x1 x2 x3 x4 x5 = some z → W p l e (rmD 1 0 0) s m args below meth c H locs 0 0 (MQ below (Qi D (pz z) (cw h LM okM d) A) args s 0 0 A) (F0 m 45 ls [])) (σ : ST) (x1 : Int32) (x2 : Int32) (x3 : Int32) (x4 : Int32) (x5 : Int32) (ls : Array Slot) (H : Heap) (locs : List Loc) (O : XH D A s.heap h (xct LM okM h d σ) H locs) (hl : lv_has ls 7 [(0, .ref (h 99 0 0)), (1, .int x1), (2, .int x2), (3, .int x3), (4, .int x4), (5, .int x5)]) (hf : M_X6_trust_b125 kb33 kb45 σ x1 x2 x3 x4 x5 = some z) : W p l e (rmD 1 0 0) s m args below meth c H locs 0 0 (MQ below (Qi D (pz z) (cw h LM okM d) A) args s 0 0 A) (F0 m 125 ls []) := by
  have hx := X.1.1; have hb := X.1.2.1
  rw [M_X6_trust_b125] at hf
  refine lv_iload_n hx hb dX6_trust_125 rfl (lv_at hl 3 rfl) ?_
  refine lv_iconst (v := 1) hx hb dX6_trust_126 (by decide) ?_
  refine lv_iadd hx hb dX6_trust_127 ?_
  obtain ⟨x3_1, ex3_1, hf⟩ := lt1_s hf
  refine x_top (w := .int x3_1) (by rw [ex3_1]) ?_
  refine lv_istore_n (lv' := [(3, .int x3_1), (0, .ref (h 99 0 0)), (1, .int x1), (2, .int x2), (4, .int x4), (5, .int x5)]) hx hb dX6_trust_128 rfl hl (by decide) rfl (fun ls hl => ?_)
  exact w_M_X6_trust_b129 X K hkb33 hkb45 _ _ _ _ _ _ ls _ _ O (lv_sub hl [1, 2, 3, 0, 4, 5] rfl) hf
def M_X6_trust_b108 (kb33 : ST → Int32 → Int32 → Int32 → Int32 → Option (ST × Int32)) (kb45 : ST → Int32 → Int32 → Int32 → Int32 → Int32 → Option (ST × Int32)) (σ : ST) (x1 : Int32) (x2 : Int32) (x3 : Int32) (x4 : Int32) (x5 : Int32) (x6 : Int32) : Option (ST × Int32) :=
  (if x2 = 2 then (if x6 = 1 then M_X6_trust_b125 kb33 kb45 σ x1 x2 x3 x4 x5 else (if x6 = 2 then M_X6_trust_b125 kb33 kb45 σ x1 x2 x3 x4 x5 else M_X6_trust_b129 kb33 kb45 σ x1 x2 x3 x4 x5)) else M_X6_trust_b129 kb33 kb45 σ x1 x2 x3 x4 x5)
theorem w_M_X6_trust_b108 (X : FX p m c meth s args RX6 cX6_trust 7 (some .int)) (K : XK D d A s) {z : ST × Int32} {kb33 : ST → Int32 → Int32 → Int32 → Int32 → Option (ST × Int32)} (hkb33 : ∀ (σ : ST) (x1 : Int32) (x2 : Int32) (x3 : Int32) (x4 : Int32) (ls : Array Slot) (H : Heap) (locs : List Loc), XH D A s.heap h (xct LM okM h d σ) H locs → lv_has ls 7 [(0, .ref (h 99 0 0)), (1, .int x1), (2, .int x2), (3, .int x3), (4, .int x4)] → kb33 σ x1 x2 x3 x4 = some z → W p l e (rmD 1 0 0) s m args below meth c H locs 0 0 (MQ below (Qi D (pz z) (cw h LM okM d) A) args s 0 0 A) (F0 m 33 ls [])) {kb45 : ST → Int32 → Int32 → Int32 → Int32 → Int32 → Option (ST × Int32)} (hkb45 : ∀ (σ : ST) (x1 : Int32) (x2 : Int32) (x3 : Int32) (x4 : Int32) (x5 : Int32) (ls : Array Slot) (H : Heap) (locs : List Loc), XH D A s.heap h (xct LM okM h d σ) H locs → lv_has ls 7 [(0, .ref (h 99 0 0)), (1, .int x1), (2, .int x2), (3, .int x3), (4, .int x4), (5, .int x5)] → kb45 σ x1 x2 x3 x4 x5 = some z → W p l e (rmD 1 0 0) s m args below meth c H locs 0 0 (MQ below (Qi D (pz z) (cw h LM okM d) A) args s 0 0 A) (F0 m 45 ls [])) (σ : ST) (x1 : Int32) (x2 : Int32) (x3 : Int32) (x4 : Int32) (x5 : Int32) (x6 : Int32) (ls : Array Slot) (H : Heap) (locs : List Loc) (O : XH D A s.heap h (xct LM okM h d σ) H locs) (hl : lv_has ls 7 [(0, .ref (h 99 0 0)), (1, .int x1), (2, .int x2), (3, .int x3), (4, .int x4), (5, .int x5), (6, .int x6)]) (hf : M_X6_trust_b108 kb33 kb45 σ x1 x2 x3 x4 x5 x6 = some z) : W p l e (rmD 1 0 0) s m args below meth c H locs 0 0 (MQ below (Qi D (pz z) (cw h LM okM d) A) args s 0 0 A) (F0 m 108 ls []) := by
  have hx := X.1.1; have hb := X.1.2.1
  rw [M_X6_trust_b108] at hf
  refine lv_iload_n hx hb dX6_trust_108 rfl (lv_at hl 2 rfl) ?_
  refine lv_iconst (v := 2) hx hb dX6_trust_109 (by decide) ?_
  refine lv_icmp_ne (tgt := 129) hx hb dX6_trust_110 (by decide) (fun c_1 => ?_) (fun c_1 => ?_)
  · replace hf := if_f c_1 hf
    exact w_M_X6_trust_b129 X K hkb33 hkb45 _ _ _ _ _ _ ls _ _ O (lv_sub hl [0, 1, 2, 3, 4, 5] rfl) hf
  · replace hf := if_t c_1 hf
    refine lv_iload hx hb dX6_trust_113 (lv_at hl 6 rfl) ?_
    refine lv_iconst (v := 1) hx hb dX6_trust_115 (by decide) ?_
    refine lv_icmp_eq (tgt := 125) hx hb dX6_trust_116 (by decide) (fun c_2 => ?_) (fun c_2 => ?_)
    · replace hf := if_t c_2 hf
      exact w_M_X6_trust_b125 X K hkb33 hkb45 _ _ _ _ _ _ ls _ _ O (lv_sub hl [0, 1, 2, 3, 4, 5] rfl) hf
    · replace hf := if_f c_2 hf
      refine lv_iload hx hb dX6_trust_119 (lv_at hl 6 rfl) ?_
      refine lv_iconst (v := 2) hx hb dX6_trust_121 (by decide) ?_
      refine lv_icmp_ne (tgt := 129) hx hb dX6_trust_122 (by decide) (fun c_3 => ?_) (fun c_3 => ?_)
      · replace hf := if_f c_3 hf
        exact w_M_X6_trust_b129 X K hkb33 hkb45 _ _ _ _ _ _ ls _ _ O (lv_sub hl [0, 1, 2, 3, 4, 5] rfl) hf
      · replace hf := if_t c_3 hf
        exact w_M_X6_trust_b125 X K hkb33 hkb45 _ _ _ _ _ _ ls _ _ O (lv_sub hl [0, 1, 2, 3, 4, 5] rfl) hf
def M_X6_trust_b45 (kb33 : ST → Int32 → Int32 → Int32 → Int32 → Option (ST × Int32)) : Nat → ST → Int32 → Int32 → Int32 → Int32 → Int32 → Option (ST × Int32)
  | 0, _, _, _, _, _, _ => none
  | n + 1, σ, x1, x2, x3, x4, x5 =>
    (if 2 ≤ x5 then lt1 (x4 + 1) (fun x4_2 => kb33 σ x1 x2 x3 x4_2) else ck (okI (((8 * x4) + 4) + x5) 2400) (lt1 (gI σ 7 0 0 (Int32.toNatClampNeg (((8 * x4) + 4) + x5))) (fun x6_4 => ck (okI (((8 * x4) + 6) + x5) 2400) ((if ((gI σ 7 0 0 (Int32.toNatClampNeg (((8 * x4) + 6) + x5))) / 10) = x1 then (if x2 = 0 then M_X6_trust_b125 kb33 (M_X6_trust_b45 kb33 n) σ x1 x2 x3 x4 x5 else (if x2 = 1 then (if x6_4 = 0 then M_X6_trust_b108 kb33 (M_X6_trust_b45 kb33 n) σ x1 x2 x3 x4 x5 x6_4 else M_X6_trust_b125 kb33 (M_X6_trust_b45 kb33 n) σ x1 x2 x3 x4 x5) else M_X6_trust_b108 kb33 (M_X6_trust_b45 kb33 n) σ x1 x2 x3 x4 x5 x6_4)) else M_X6_trust_b129 kb33 (M_X6_trust_b45 kb33 n) σ x1 x2 x3 x4 x5)))))
theorem w_M_X6_trust_b45 (X : FX p m c meth s args RX6 cX6_trust 7 (some .int)) (K : XK D d A s) {z : ST × Int32} {kb33 : ST → Int32 → Int32 → Int32 → Int32 → Option (ST × Int32)} (hkb33 : ∀ (σ : ST) (x1 : Int32) (x2 : Int32) (x3 : Int32) (x4 : Int32) (ls : Array Slot) (H : Heap) (locs : List Loc), XH D A s.heap h (xct LM okM h d σ) H locs → lv_has ls 7 [(0, .ref (h 99 0 0)), (1, .int x1), (2, .int x2), (3, .int x3), (4, .int x4)] → kb33 σ x1 x2 x3 x4 = some z → W p l e (rmD 1 0 0) s m args below meth c H locs 0 0 (MQ below (Qi D (pz z) (cw h LM okM d) A) args s 0 0 A) (F0 m 33 ls [])) : ∀ (n : Nat) (σ : ST) (x1 : Int32) (x2 : Int32) (x3 : Int32) (x4 : Int32) (x5 : Int32) (ls : Array Slot) (H : Heap) (locs : List Loc), XH D A s.heap h (xct LM okM h d σ) H locs → lv_has ls 7 [(0, .ref (h 99 0 0)), (1, .int x1), (2, .int x2), (3, .int x3), (4, .int x4), (5, .int x5)] → M_X6_trust_b45 kb33 n σ x1 x2 x3 x4 x5 = some z → W p l e (rmD 1 0 0) s m args below meth c H locs 0 0 (MQ below (Qi D (pz z) (cw h LM okM d) A) args s 0 0 A) (F0 m 45 ls []) := by
  have hx := X.1.1; have hb := X.1.2.1
  intro n
  induction n with
  | zero =>
    intro σ x1 x2 x3 x4 x5 ls H locs O hl hf
    exact absurd hf (fun q => by cases q)
  | succ n ih =>
    intro σ x1 x2 x3 x4 x5 ls H locs O hl hf
    rw [M_X6_trust_b45] at hf
    refine lv_iload hx hb dX6_trust_45 (lv_at hl 5 rfl) ?_
    refine lv_iconst (v := 2) hx hb dX6_trust_47 (by decide) ?_
    refine lv_icmp_ge (tgt := 135) hx hb dX6_trust_48 (by decide) (fun c_1 => ?_) (fun c_1 => ?_)
    · replace hf := if_t c_1 hf
      obtain ⟨x4_2, ex4_2, hf⟩ := lt1_s hf
      refine lv_iinc (v := x4_2) (lv' := [(4, .int x4_2), (0, .ref (h 99 0 0)), (1, .int x1), (2, .int x2), (3, .int x3), (5, .int x5)]) hx hb dX6_trust_135 hl (k := 4) rfl (by rw [ex4_2]; rfl) (by decide) rfl (fun ls hl => ?_)
      refine lv_goto (tgt := 33) hx hb dX6_trust_138 (by decide) ?_
      exact hkb33 _ _ _ _ _ ls _ _ O (lv_sub hl [1, 2, 3, 4, 0] rfl) hf
    · replace hf := if_f c_1 hf
      refine lv_aload_n hx hb dX6_trust_51 rfl (lv_at hl 0 rfl) ?_
      refine x_gF X K O 7 rfl LM_99 rfl rfl in_X6 (by decide) q1157 dX6_trust_52 ?_
      refine lv_bipush (v := 8) hx hb dX6_trust_55 (by decide) ?_
      refine lv_iload hx hb dX6_trust_57 (lv_at hl 4 rfl) ?_
      refine lv_imul hx hb dX6_trust_59 ?_
      refine lv_iconst (v := 4) hx hb dX6_trust_60 (by decide) ?_
      refine lv_iadd hx hb dX6_trust_61 ?_
      refine lv_iload hx hb dX6_trust_62 (lv_at hl 5 rfl) ?_
      refine lv_iadd hx hb dX6_trust_64 ?_
      obtain ⟨c_3, hf⟩ := ck_s hf
      refine x_ild X K O rfl LM_7 c_3 (j := (Int32.toNatClampNeg (((8 * x4) + 4) + x5))) rfl dX6_trust_65 ?_
      obtain ⟨x6_4, ex6_4, hf⟩ := lt1_s hf
      refine x_top (w := .int x6_4) (by rw [ex6_4]) ?_
      refine lv_istore (lv' := [(6, .int x6_4), (0, .ref (h 99 0 0)), (1, .int x1), (2, .int x2), (3, .int x3), (4, .int x4), (5, .int x5)]) hx hb dX6_trust_66 hl (by decide) rfl (fun ls hl => ?_)
      refine lv_aload_n hx hb dX6_trust_68 rfl (lv_at hl 1 rfl) ?_
      refine x_gF X K O 7 rfl LM_99 rfl rfl in_X6 (by decide) q1157 dX6_trust_69 ?_
      refine lv_bipush (v := 8) hx hb dX6_trust_72 (by decide) ?_
      refine lv_iload hx hb dX6_trust_74 (lv_at hl 5 rfl) ?_
      refine lv_imul hx hb dX6_trust_76 ?_
      refine lv_bipush (v := 6) hx hb dX6_trust_77 (by decide) ?_
      refine lv_iadd hx hb dX6_trust_79 ?_
      refine lv_iload hx hb dX6_trust_80 (lv_at hl 6 rfl) ?_
      refine lv_iadd hx hb dX6_trust_82 ?_
      obtain ⟨c_5, hf⟩ := ck_s hf
      refine x_ild X K O rfl LM_7 c_5 (j := (Int32.toNatClampNeg (((8 * x4) + 6) + x5))) rfl dX6_trust_83 ?_
      refine lv_bipush (v := 10) hx hb dX6_trust_84 (by decide) ?_
      refine lv_idiv hx hb dX6_trust_86 (by decide) ?_
      refine lv_iload_n hx hb dX6_trust_87 rfl (lv_at hl 2 rfl) ?_
      refine lv_icmp_eq (tgt := 94) hx hb dX6_trust_88 (by decide) (fun c_6 => ?_) (fun c_6 => ?_)
      · replace hf := if_t c_6 hf
        refine lv_iload_n hx hb dX6_trust_94 rfl (lv_at hl 3 rfl) ?_
        refine lv_if_eq (tgt := 125) hx hb dX6_trust_95 (by decide) (fun c_7 => ?_) (fun c_7 => ?_)
        · replace hf := if_t c_7 hf
          exact w_M_X6_trust_b125 X K hkb33 ih _ _ _ _ _ _ ls _ _ O (lv_sub hl [1, 2, 3, 4, 5, 6] rfl) hf
        · replace hf := if_f c_7 hf
          refine lv_iload_n hx hb dX6_trust_98 rfl (lv_at hl 3 rfl) ?_
          refine lv_iconst (v := 1) hx hb dX6_trust_99 (by decide) ?_
          refine lv_icmp_ne (tgt := 108) hx hb dX6_trust_100 (by decide) (fun c_8 => ?_) (fun c_8 => ?_)
          · replace hf := if_f c_8 hf
            exact w_M_X6_trust_b108 X K hkb33 ih _ _ _ _ _ _ _ ls _ _ O (lv_sub hl [1, 2, 3, 4, 5, 6, 0] rfl) hf
          · replace hf := if_t c_8 hf
            refine lv_iload hx hb dX6_trust_103 (lv_at hl 0 rfl) ?_
            refine lv_if_ne (tgt := 125) hx hb dX6_trust_105 (by decide) (fun c_9 => ?_) (fun c_9 => ?_)
            · replace hf := if_f c_9 hf
              exact w_M_X6_trust_b125 X K hkb33 ih _ _ _ _ _ _ ls _ _ O (lv_sub hl [1, 2, 3, 4, 5, 6] rfl) hf
            · replace hf := if_t c_9 hf
              exact w_M_X6_trust_b108 X K hkb33 ih _ _ _ _ _ _ _ ls _ _ O (lv_sub hl [1, 2, 3, 4, 5, 6, 0] rfl) hf
      · replace hf := if_f c_6 hf
        refine lv_goto (tgt := 129) hx hb dX6_trust_91 (by decide) ?_
        exact w_M_X6_trust_b129 X K hkb33 ih _ _ _ _ _ _ ls _ _ O (lv_sub hl [1, 2, 3, 4, 5, 6] rfl) hf
def M_X6_trust_b33 : Nat → ST → Int32 → Int32 → Int32 → Int32 → Option (ST × Int32)
  | 0, _, _, _, _, _ => none
  | n + 1, σ, x1, x2, x3, x4 =>
    (if (gI σ 99 0 0 4) ≤ x4 then some (σ, x3) else M_X6_trust_b45 (M_X6_trust_b33 n) FUEL σ x1 x2 x3 x4 0)
theorem w_M_X6_trust_b33 (X : FX p m c meth s args RX6 cX6_trust 7 (some .int)) (K : XK D d A s) {z : ST × Int32} : ∀ (n : Nat) (σ : ST) (x1 : Int32) (x2 : Int32) (x3 : Int32) (x4 : Int32) (ls : Array Slot) (H : Heap) (locs : List Loc), XH D A s.heap h (xct LM okM h d σ) H locs → lv_has ls 7 [(0, .ref (h 99 0 0)), (1, .int x1), (2, .int x2), (3, .int x3), (4, .int x4)] → M_X6_trust_b33 n σ x1 x2 x3 x4 = some z → W p l e (rmD 1 0 0) s m args below meth c H locs 0 0 (MQ below (Qi D (pz z) (cw h LM okM d) A) args s 0 0 A) (F0 m 33 ls []) := by
  have hx := X.1.1; have hb := X.1.2.1
  intro n
  induction n with
  | zero =>
    intro σ x1 x2 x3 x4 ls H locs O hl hf
    exact absurd hf (fun q => by cases q)
  | succ n ih =>
    intro σ x1 x2 x3 x4 ls H locs O hl hf
    rw [M_X6_trust_b33] at hf
    refine lv_iload hx hb dX6_trust_33 (lv_at hl 4 rfl) ?_
    refine lv_aload_n hx hb dX6_trust_35 rfl (lv_at hl 0 rfl) ?_
    refine x_gI X K O 4 rfl LM_99 rfl rfl in_X6 (by decide) q1154 dX6_trust_36 ?_
    refine lv_icmp_ge (tgt := 141) hx hb dX6_trust_39 (by decide) (fun c_1 => ?_) (fun c_1 => ?_)
    · replace hf := if_t c_1 hf
      refine lv_iload_n hx hb dX6_trust_141 rfl (lv_at hl 3 rfl) ?_
      exact x_iret X O rfl _ (Option.some.inj hf).symm rfl dX6_trust_142
    · replace hf := if_f c_1 hf
      refine lv_iconst (v := 0) hx hb dX6_trust_42 (by decide) ?_
      refine lv_istore (lv' := [(5, .int 0), (0, .ref (h 99 0 0)), (1, .int x1), (2, .int x2), (3, .int x3), (4, .int x4)]) hx hb dX6_trust_43 hl (by decide) rfl (fun ls hl => ?_)
      exact w_M_X6_trust_b45 X K ih _ _ _ _ _ _ _ ls _ _ O (lv_sub hl [1, 2, 3, 4, 5, 0] rfl) hf
def M_X6_trust (σ : ST) (p1 : Int32) (p2 : Int32) : Option (ST × Int32) :=
  lt1 (sI σ 99 0 0 0 0) (fun σ_1 => bn2 (M_X6_isIn σ_1 p1 0 9) (fun σ_2 r_3 => (if r_3 = 0 then some (σ_2, (-1)) else bn2 (M_X6_isIn σ_2 p2 0 2) (fun σ_5 r_6 => (if r_6 = 0 then some (σ_5, (-1)) else M_X6_trust_b33 FUEL σ_5 p1 p2 0 0)))))
theorem m_M_X6_trust {l : Launch} {D : va_G} {d : Nat → ClassId} {h : IX} {p1 : Int32} {p2 : Int32} {σ : ST} {z : ST × Int32} (hf : M_X6_trust σ p1 p2 = some z) : XM l D d EN yX6_trust cX6_trust 7 (some .int) 1 0 0 [.ref (h 99 0 0), .int p1, .int p2] h (xct LM okM h d σ) (Qi D (pz z) (cw h LM okM d)) := by
  refine XM.of (by decide +kernel) (Nat.le_of_ble_eq_true rfl) ?_
  intro p e s m below meth c A ls X _ K _ O hl
  have hl : lv_has ls 7 [(0, .ref (h 99 0 0)), (1, .int p1), (2, .int p2)] := hl
  have hx := X.1.1; have hb := X.1.2.1
  rw [M_X6_trust] at hf
  refine lv_aload_n hx hb dX6_trust_0 rfl (lv_at hl 0 rfl) ?_
  refine lv_iconst (v := 0) hx hb dX6_trust_1 (by decide) ?_
  obtain ⟨σ_1, eσ_1, hf⟩ := lt1_s hf
  refine x_pI X K O 0 rfl LM_99 rfl rfl in_X6 tyX6_ok nmX6 (by decide) q1150 rfl rfl rfl dX6_trust_2 (fun H locs O => ?_)
  rw [← eσ_1] at O
  refine lv_aload_n hx hb dX6_trust_5 rfl (lv_at hl 0 rfl) ?_
  refine lv_iload_n hx hb dX6_trust_6 rfl (lv_at hl 1 rfl) ?_
  refine lv_iconst (v := 0) hx hb dX6_trust_7 (by decide) ?_
  refine lv_bipush (v := 9) hx hb dX6_trust_8 (by decide) ?_
  obtain ⟨σ_2, r_3, hg, hf⟩ := bn2_s hf
  refine x_calli (x_runV (As := [.int p1, .int 0, .int 9]) (rest := []) X K O (xct_obj rfl LM_99) rfl (m_M_X6_isIn hg) EN_b EN_h (lw_V q1327 q1329 qs45 q124 q1330) 3 rfl hl.1 (Nat.le_of_ble_eq_true rfl) hdV_X6_isIn ⟨by decide, by decide⟩ ⟨Nat.le_refl _, Nat.le_refl _⟩ dX6_trust_10) (fun r u H locs hp O _ => ?_)
  cases hp
  have O : XH D A s.heap h (xct LM okM h d σ_2) H locs := O
  refine lv_if_eq (tgt := 26) hx hb dX6_trust_13 (by decide) (fun c_4 => ?_) (fun c_4 => ?_)
  · replace hf := if_t c_4 hf
    refine lv_iconst (v := (-1)) hx hb dX6_trust_26 (by decide) ?_
    exact x_iret X O rfl _ (Option.some.inj hf).symm rfl dX6_trust_27
  · replace hf := if_f c_4 hf
    refine lv_aload_n hx hb dX6_trust_16 rfl (lv_at hl 0 rfl) ?_
    refine lv_iload_n hx hb dX6_trust_17 rfl (lv_at hl 2 rfl) ?_
    refine lv_iconst (v := 0) hx hb dX6_trust_18 (by decide) ?_
    refine lv_iconst (v := 2) hx hb dX6_trust_19 (by decide) ?_
    obtain ⟨σ_5, r_6, hg, hf⟩ := bn2_s hf
    refine x_calli (x_runV (As := [.int p2, .int 0, .int 2]) (rest := []) X K O (xct_obj rfl LM_99) rfl (m_M_X6_isIn hg) EN_b EN_h (lw_V q1327 q1329 qs45 q124 q1330) 3 rfl hl.1 (Nat.le_of_ble_eq_true rfl) hdV_X6_isIn ⟨by decide, by decide⟩ ⟨Nat.le_refl _, Nat.le_refl _⟩ dX6_trust_20) (fun r u H locs hp O _ => ?_)
    cases hp
    have O : XH D A s.heap h (xct LM okM h d σ_5) H locs := O
    refine lv_if_ne (tgt := 28) hx hb dX6_trust_23 (by decide) (fun c_7 => ?_) (fun c_7 => ?_)
    · replace hf := if_f c_7 hf
      refine lv_iconst (v := 0) hx hb dX6_trust_28 (by decide) ?_
      refine lv_istore_n (lv' := [(3, .int 0), (0, .ref (h 99 0 0)), (1, .int p1), (2, .int p2)]) hx hb dX6_trust_29 rfl hl (by decide) rfl (fun ls hl => ?_)
      refine lv_iconst (v := 0) hx hb dX6_trust_30 (by decide) ?_
      refine lv_istore (lv' := [(4, .int 0), (3, .int 0), (0, .ref (h 99 0 0)), (1, .int p1), (2, .int p2)]) hx hb dX6_trust_31 hl (by decide) rfl (fun ls hl => ?_)
      exact w_M_X6_trust_b33 X K _ _ _ _ _ _ ls _ _ O (lv_sub hl [2, 3, 4, 1, 0] rfl) hf
    · replace hf := if_t c_7 hf
      refine lv_iconst (v := (-1)) hx hb dX6_trust_26 (by decide) ?_
      exact x_iret X O rfl _ (Option.some.inj hf).symm rfl dX6_trust_27
def M_X6_held_b139 (σ : ST) (x3 : Int32) (s1 : Int32) (s2 : Int32) : Option (ST × Int32) :=
  bn2 (M_X6_fact σ s1 s2) (fun σ_1 r_2 => some (σ_1, (r_2 - x3)))
theorem w_M_X6_held_b139 (X : FX p m c meth s args RX6 cX6_held 7 (some .int)) (K : XK D d A s) {z : ST × Int32} (σ : ST) (x3 : Int32) (s1 : Int32) (s2 : Int32) (ls : Array Slot) (H : Heap) (locs : List Loc) (O : XH D A s.heap h (xct LM okM h d σ) H locs) (hl : lv_has ls 7 [(3, .int x3)]) (hf : M_X6_held_b139 σ x3 s1 s2 = some z) : W p l e (rmD 1 0 0) s m args below meth c H locs 0 0 (MQ below (Qi D (pz z) (cw h LM okM d) A) args s 0 0 A) (F0 m 139 ls [.int s2, .int s1, .ref (h 99 0 0)]) := by
  have hx := X.1.1; have hb := X.1.2.1
  rw [M_X6_held_b139] at hf
  obtain ⟨σ_1, r_2, hg, hf⟩ := bn2_s hf
  refine x_calli (x_runV (As := [.int s1, .int s2]) (rest := []) X K O (xct_obj rfl LM_99) rfl (m_M_X6_fact hg) EN_b EN_h (lw_V q1447 q1449 qs68 q124 q1450) 2 rfl hl.1 (Nat.le_of_ble_eq_true rfl) hdV_X6_fact ⟨by decide, by decide⟩ ⟨Nat.le_refl _, Nat.le_refl _⟩ dX6_held_139) (fun r u H locs hp O _ => ?_)
  cases hp
  have O : XH D A s.heap h (xct LM okM h d σ_1) H locs := O
  refine lv_iload_n hx hb dX6_held_142 rfl (lv_at hl 0 rfl) ?_
  refine lv_isub hx hb dX6_held_143 ?_
  exact x_iret X O rfl _ (Option.some.inj hf).symm rfl dX6_held_144
def M_X6_held_b116 (kb31 : ST → Int32 → Int32 → Int32 → Int32 → Option (ST × Int32)) (kb43 : ST → Int32 → Int32 → Int32 → Int32 → Int32 → Option (ST × Int32)) (σ : ST) (x1 : Int32) (x2 : Int32) (x3 : Int32) (x4 : Int32) (x5 : Int32) : Option (ST × Int32) :=
  lt1 (x5 + 1) (fun x5_1 => kb43 σ x1 x2 x3 x4 x5_1)
theorem w_M_X6_held_b116 (X : FX p m c meth s args RX6 cX6_held 7 (some .int)) (K : XK D d A s) {z : ST × Int32} {kb31 : ST → Int32 → Int32 → Int32 → Int32 → Option (ST × Int32)} (hkb31 : ∀ (σ : ST) (x1 : Int32) (x2 : Int32) (x3 : Int32) (x4 : Int32) (ls : Array Slot) (H : Heap) (locs : List Loc), XH D A s.heap h (xct LM okM h d σ) H locs → lv_has ls 7 [(0, .ref (h 99 0 0)), (1, .int x1), (2, .int x2), (3, .int x3), (4, .int x4)] → kb31 σ x1 x2 x3 x4 = some z → W p l e (rmD 1 0 0) s m args below meth c H locs 0 0 (MQ below (Qi D (pz z) (cw h LM okM d) A) args s 0 0 A) (F0 m 31 ls [])) {kb43 : ST → Int32 → Int32 → Int32 → Int32 → Int32 → Option (ST × Int32)} (hkb43 : ∀ (σ : ST) (x1 : Int32) (x2 : Int32) (x3 : Int32) (x4 : Int32) (x5 : Int32) (ls : Array Slot) (H : Heap) (locs : List Loc), XH D A s.heap h (xct LM okM h d σ) H locs → lv_has ls 7 [(0, .ref (h 99 0 0)), (1, .int x1), (2, .int x2), (3, .int x3), (4, .int x4), (5, .int x5)] → kb43 σ x1 x2 x3 x4 x5 = some z → W p l e (rmD 1 0 0) s m args below meth c H locs 0 0 (MQ below (Qi D (pz z) (cw h LM okM d) A) args s 0 0 A) (F0 m 43 ls [])) (σ : ST) (x1 : Int32) (x2 : Int32) (x3 : Int32) (x4 : Int32) (x5 : Int32) (ls : Array Slot) (H : Heap) (locs : List Loc) (O : XH D A s.heap h (xct LM okM h d σ) H locs) (hl : lv_has ls 7 [(0, .ref (h 99 0 0)), (1, .int x1), (2, .int x2), (3, .int x3), (4, .int x4), (5, .int x5)]) (hf : M_X6_held_b116 kb31 kb43 σ x1 x2 x3 x4 x5 = some z) : W p l e (rmD 1 0 0) s m args below meth c H locs 0 0 (MQ below (Qi D (pz z) (cw h LM okM d) A) args s 0 0 A) (F0 m 116 ls []) := by
  have hx := X.1.1; have hb := X.1.2.1
  rw [M_X6_held_b116] at hf
  obtain ⟨x5_1, ex5_1, hf⟩ := lt1_s hf
  refine lv_iinc (v := x5_1) (lv' := [(5, .int x5_1), (0, .ref (h 99 0 0)), (1, .int x1), (2, .int x2), (3, .int x3), (4, .int x4)]) hx hb dX6_held_116 hl (k := 5) rfl (by rw [ex5_1]; rfl) (by decide) rfl (fun ls hl => ?_)
  refine lv_goto (tgt := 43) hx hb dX6_held_119 (by decide) ?_
  exact hkb43 _ _ _ _ _ _ ls _ _ O (lv_sub hl [1, 2, 3, 4, 5, 0] rfl) hf
def M_X6_held_b112 (kb31 : ST → Int32 → Int32 → Int32 → Int32 → Option (ST × Int32)) (kb43 : ST → Int32 → Int32 → Int32 → Int32 → Int32 → Option (ST × Int32)) (σ : ST) (x1 : Int32) (x2 : Int32) (x3 : Int32) (x4 : Int32) (x5 : Int32) : Option (ST × Int32) :=
  lt1 (x3 + 1) (fun x3_1 => M_X6_held_b116 kb31 kb43 σ x1 x2 x3_1 x4 x5)
theorem w_M_X6_held_b112 (X : FX p m c meth s args RX6 cX6_held 7 (some .int)) (K : XK D d A s) {z : ST × Int32} {kb31 : ST → Int32 → Int32 → Int32 → Int32 → Option (ST × Int32)} (hkb31 : ∀ (σ : ST) (x1 : Int32) (x2 : Int32) (x3 : Int32) (x4 : Int32) (ls : Array Slot) (H : Heap) (locs : List Loc), XH D A s.heap h (xct LM okM h d σ) H locs → lv_has ls 7 [(0, .ref (h 99 0 0)), (1, .int x1), (2, .int x2), (3, .int x3), (4, .int x4)] → kb31 σ x1 x2 x3 x4 = some z → W p l e (rmD 1 0 0) s m args below meth c H locs 0 0 (MQ below (Qi D (pz z) (cw h LM okM d) A) args s 0 0 A) (F0 m 31 ls [])) {kb43 : ST → Int32 → Int32 → Int32 → Int32 → Int32 → Option (ST × Int32)} (hkb43 : ∀ (σ : ST) (x1 : Int32) (x2 : Int32) (x3 : Int32) (x4 : Int32) (x5 : Int32) (ls : Array Slot) (H : Heap) (locs : List Loc), XH D A s.heap h (xct LM okM h d σ) H locs → lv_has ls 7 [(0, .ref (h 99 0 0)), (1, .int x1), (2, .int x2), (3, .int x3), (4, .int x4), (5, .int x5)] → kb43 σ x1 x2 x3 x4 x5 = some z → W p l e (rmD 1 0 0) s m args below meth c H locs 0 0 (MQ below (Qi D (pz z) (cw h LM okM d) A) args s 0 0 A) (F0 m 43 ls [])) (σ : ST) (x1 : Int32) (x2 : Int32) (x3 : Int32) (x4 : Int32) (x5 : Int32) (ls : Array Slot) (H : Heap) (locs : List Loc) (O : XH D A s.heap h (xct LM okM h d σ) H locs) (hl : lv_has ls 7 [(0, .ref (h 99 0 0)), (1, .int x1), (2, .int x2), (3, .int x3), (4, .int x4), (5, .int x5)]) (hf : M_X6_held_b112 kb31 kb43 σ x1 x2 x3 x4 x5 = some z) : W p l e (rmD 1 0 0) s m args below meth c H locs 0 0 (MQ below (Qi D (pz z) (cw h LM okM d) A) args s 0 0 A) (F0 m 112 ls []) := by
  have hx := X.1.1; have hb := X.1.2.1
  rw [M_X6_held_b112] at hf
  refine lv_iload_n hx hb dX6_held_112 rfl (lv_at hl 3 rfl) ?_
  refine lv_iconst (v := 1) hx hb dX6_held_113 (by decide) ?_
  refine lv_iadd hx hb dX6_held_114 ?_
  obtain ⟨x3_1, ex3_1, hf⟩ := lt1_s hf
  refine x_top (w := .int x3_1) (by rw [ex3_1]) ?_
  refine lv_istore_n (lv' := [(3, .int x3_1), (0, .ref (h 99 0 0)), (1, .int x1), (2, .int x2), (4, .int x4), (5, .int x5)]) hx hb dX6_held_115 rfl hl (by decide) rfl (fun ls hl => ?_)
  exact w_M_X6_held_b116 X K hkb31 hkb43 _ _ _ _ _ _ ls _ _ O (lv_sub hl [1, 2, 3, 0, 4, 5] rfl) hf
def M_X6_held_b43 (kb31 : ST → Int32 → Int32 → Int32 → Int32 → Option (ST × Int32)) : Nat → ST → Int32 → Int32 → Int32 → Int32 → Int32 → Option (ST × Int32)
  | 0, _, _, _, _, _, _ => none
  | n + 1, σ, x1, x2, x3, x4, x5 =>
    (if 2 ≤ x5 then lt1 (x4 + 1) (fun x4_2 => kb31 σ x1 x2 x3 x4_2) else ck (okI (((8 * x4) + 1) + x5) 2400) ((if (gI σ 7 0 0 (Int32.toNatClampNeg (((8 * x4) + 1) + x5))) = x1 then ck (okI (((8 * x4) + 4) + x5) 2400) (lt1 (gI σ 7 0 0 (Int32.toNatClampNeg (((8 * x4) + 4) + x5))) (fun x6_6 => (if x2 = 0 then (if x6_6 = 0 then M_X6_held_b112 kb31 (M_X6_held_b43 kb31 n) σ x1 x2 x3 x4 x5 else (if x6_6 = 3 then M_X6_held_b112 kb31 (M_X6_held_b43 kb31 n) σ x1 x2 x3 x4 x5 else M_X6_held_b116 kb31 (M_X6_held_b43 kb31 n) σ x1 x2 x3 x4 x5)) else (if x6_6 = 1 then M_X6_held_b112 kb31 (M_X6_held_b43 kb31 n) σ x1 x2 x3 x4 x5 else M_X6_held_b116 kb31 (M_X6_held_b43 kb31 n) σ x1 x2 x3 x4 x5)))) else M_X6_held_b116 kb31 (M_X6_held_b43 kb31 n) σ x1 x2 x3 x4 x5)))
theorem w_M_X6_held_b43 (X : FX p m c meth s args RX6 cX6_held 7 (some .int)) (K : XK D d A s) {z : ST × Int32} {kb31 : ST → Int32 → Int32 → Int32 → Int32 → Option (ST × Int32)} (hkb31 : ∀ (σ : ST) (x1 : Int32) (x2 : Int32) (x3 : Int32) (x4 : Int32) (ls : Array Slot) (H : Heap) (locs : List Loc), XH D A s.heap h (xct LM okM h d σ) H locs → lv_has ls 7 [(0, .ref (h 99 0 0)), (1, .int x1), (2, .int x2), (3, .int x3), (4, .int x4)] → kb31 σ x1 x2 x3 x4 = some z → W p l e (rmD 1 0 0) s m args below meth c H locs 0 0 (MQ below (Qi D (pz z) (cw h LM okM d) A) args s 0 0 A) (F0 m 31 ls [])) : ∀ (n : Nat) (σ : ST) (x1 : Int32) (x2 : Int32) (x3 : Int32) (x4 : Int32) (x5 : Int32) (ls : Array Slot) (H : Heap) (locs : List Loc), XH D A s.heap h (xct LM okM h d σ) H locs → lv_has ls 7 [(0, .ref (h 99 0 0)), (1, .int x1), (2, .int x2), (3, .int x3), (4, .int x4), (5, .int x5)] → M_X6_held_b43 kb31 n σ x1 x2 x3 x4 x5 = some z → W p l e (rmD 1 0 0) s m args below meth c H locs 0 0 (MQ below (Qi D (pz z) (cw h LM okM d) A) args s 0 0 A) (F0 m 43 ls []) := by
  have hx := X.1.1; have hb := X.1.2.1
  intro n
  induction n with
  | zero =>
    intro σ x1 x2 x3 x4 x5 ls H locs O hl hf
    exact absurd hf (fun q => by cases q)
  | succ n ih =>
    intro σ x1 x2 x3 x4 x5 ls H locs O hl hf
    rw [M_X6_held_b43] at hf
    refine lv_iload hx hb dX6_held_43 (lv_at hl 5 rfl) ?_
    refine lv_iconst (v := 2) hx hb dX6_held_45 (by decide) ?_
    refine lv_icmp_ge (tgt := 122) hx hb dX6_held_46 (by decide) (fun c_1 => ?_) (fun c_1 => ?_)
    · replace hf := if_t c_1 hf
      obtain ⟨x4_2, ex4_2, hf⟩ := lt1_s hf
      refine lv_iinc (v := x4_2) (lv' := [(4, .int x4_2), (0, .ref (h 99 0 0)), (1, .int x1), (2, .int x2), (3, .int x3), (5, .int x5)]) hx hb dX6_held_122 hl (k := 4) rfl (by rw [ex4_2]; rfl) (by decide) rfl (fun ls hl => ?_)
      refine lv_goto (tgt := 31) hx hb dX6_held_125 (by decide) ?_
      exact hkb31 _ _ _ _ _ ls _ _ O (lv_sub hl [1, 2, 3, 4, 0] rfl) hf
    · replace hf := if_f c_1 hf
      refine lv_aload_n hx hb dX6_held_49 rfl (lv_at hl 0 rfl) ?_
      refine x_gF X K O 7 rfl LM_99 rfl rfl in_X6 (by decide) q1157 dX6_held_50 ?_
      refine lv_bipush (v := 8) hx hb dX6_held_53 (by decide) ?_
      refine lv_iload hx hb dX6_held_55 (lv_at hl 4 rfl) ?_
      refine lv_imul hx hb dX6_held_57 ?_
      refine lv_iconst (v := 1) hx hb dX6_held_58 (by decide) ?_
      refine lv_iadd hx hb dX6_held_59 ?_
      refine lv_iload hx hb dX6_held_60 (lv_at hl 5 rfl) ?_
      refine lv_iadd hx hb dX6_held_62 ?_
      obtain ⟨c_3, hf⟩ := ck_s hf
      refine x_ild X K O rfl LM_7 c_3 (j := (Int32.toNatClampNeg (((8 * x4) + 1) + x5))) rfl dX6_held_63 ?_
      refine lv_iload_n hx hb dX6_held_64 rfl (lv_at hl 1 rfl) ?_
      refine lv_icmp_eq (tgt := 71) hx hb dX6_held_65 (by decide) (fun c_4 => ?_) (fun c_4 => ?_)
      · replace hf := if_t c_4 hf
        refine lv_aload_n hx hb dX6_held_71 rfl (lv_at hl 0 rfl) ?_
        refine x_gF X K O 7 rfl LM_99 rfl rfl in_X6 (by decide) q1157 dX6_held_72 ?_
        refine lv_bipush (v := 8) hx hb dX6_held_75 (by decide) ?_
        refine lv_iload hx hb dX6_held_77 (lv_at hl 4 rfl) ?_
        refine lv_imul hx hb dX6_held_79 ?_
        refine lv_iconst (v := 4) hx hb dX6_held_80 (by decide) ?_
        refine lv_iadd hx hb dX6_held_81 ?_
        refine lv_iload hx hb dX6_held_82 (lv_at hl 5 rfl) ?_
        refine lv_iadd hx hb dX6_held_84 ?_
        obtain ⟨c_5, hf⟩ := ck_s hf
        refine x_ild X K O rfl LM_7 c_5 (j := (Int32.toNatClampNeg (((8 * x4) + 4) + x5))) rfl dX6_held_85 ?_
        obtain ⟨x6_6, ex6_6, hf⟩ := lt1_s hf
        refine x_top (w := .int x6_6) (by rw [ex6_6]) ?_
        refine lv_istore (lv' := [(6, .int x6_6), (0, .ref (h 99 0 0)), (1, .int x1), (2, .int x2), (3, .int x3), (4, .int x4), (5, .int x5)]) hx hb dX6_held_86 hl (by decide) rfl (fun ls hl => ?_)
        refine lv_iload_n hx hb dX6_held_88 rfl (lv_at hl 3 rfl) ?_
        refine lv_if_ne (tgt := 106) hx hb dX6_held_89 (by decide) (fun c_7 => ?_) (fun c_7 => ?_)
        · replace hf := if_f c_7 hf
          refine lv_iload hx hb dX6_held_106 (lv_at hl 0 rfl) ?_
          refine lv_iconst (v := 1) hx hb dX6_held_108 (by decide) ?_
          refine lv_icmp_ne (tgt := 116) hx hb dX6_held_109 (by decide) (fun c_8 => ?_) (fun c_8 => ?_)
          · replace hf := if_f c_8 hf
            exact w_M_X6_held_b116 X K hkb31 ih _ _ _ _ _ _ ls _ _ O (lv_sub hl [1, 2, 3, 4, 5, 6] rfl) hf
          · replace hf := if_t c_8 hf
            exact w_M_X6_held_b112 X K hkb31 ih _ _ _ _ _ _ ls _ _ O (lv_sub hl [1, 2, 3, 4, 5, 6] rfl) hf
        · replace hf := if_t c_7 hf
          refine lv_iload hx hb dX6_held_92 (lv_at hl 0 rfl) ?_
          refine lv_if_eq (tgt := 112) hx hb dX6_held_94 (by decide) (fun c_9 => ?_) (fun c_9 => ?_)
          · replace hf := if_t c_9 hf
            exact w_M_X6_held_b112 X K hkb31 ih _ _ _ _ _ _ ls _ _ O (lv_sub hl [1, 2, 3, 4, 5, 6] rfl) hf
          · replace hf := if_f c_9 hf
            refine lv_iload hx hb dX6_held_97 (lv_at hl 0 rfl) ?_
            refine lv_iconst (v := 3) hx hb dX6_held_99 (by decide) ?_
            refine lv_icmp_ne (tgt := 116) hx hb dX6_held_100 (by decide) (fun c_10 => ?_) (fun c_10 => ?_)
            · replace hf := if_f c_10 hf
              exact w_M_X6_held_b116 X K hkb31 ih _ _ _ _ _ _ ls _ _ O (lv_sub hl [1, 2, 3, 4, 5, 6] rfl) hf
            · replace hf := if_t c_10 hf
              refine lv_goto (tgt := 112) hx hb dX6_held_103 (by decide) ?_
              exact w_M_X6_held_b112 X K hkb31 ih _ _ _ _ _ _ ls _ _ O (lv_sub hl [1, 2, 3, 4, 5, 6] rfl) hf
      · replace hf := if_f c_4 hf
        refine lv_goto (tgt := 116) hx hb dX6_held_68 (by decide) ?_
        exact w_M_X6_held_b116 X K hkb31 ih _ _ _ _ _ _ ls _ _ O (lv_sub hl [0, 1, 2, 3, 4, 5] rfl) hf
def M_X6_held_b31 : Nat → ST → Int32 → Int32 → Int32 → Int32 → Option (ST × Int32)
  | 0, _, _, _, _, _ => none
  | n + 1, σ, x1, x2, x3, x4 =>
    (if (gI σ 99 0 0 4) ≤ x4 then (if x2 = 0 then M_X6_held_b139 σ x3 x1 2 else M_X6_held_b139 σ x3 x1 3) else M_X6_held_b43 (M_X6_held_b31 n) FUEL σ x1 x2 x3 x4 0)
theorem w_M_X6_held_b31 (X : FX p m c meth s args RX6 cX6_held 7 (some .int)) (K : XK D d A s) {z : ST × Int32} : ∀ (n : Nat) (σ : ST) (x1 : Int32) (x2 : Int32) (x3 : Int32) (x4 : Int32) (ls : Array Slot) (H : Heap) (locs : List Loc), XH D A s.heap h (xct LM okM h d σ) H locs → lv_has ls 7 [(0, .ref (h 99 0 0)), (1, .int x1), (2, .int x2), (3, .int x3), (4, .int x4)] → M_X6_held_b31 n σ x1 x2 x3 x4 = some z → W p l e (rmD 1 0 0) s m args below meth c H locs 0 0 (MQ below (Qi D (pz z) (cw h LM okM d) A) args s 0 0 A) (F0 m 31 ls []) := by
  have hx := X.1.1; have hb := X.1.2.1
  intro n
  induction n with
  | zero =>
    intro σ x1 x2 x3 x4 ls H locs O hl hf
    exact absurd hf (fun q => by cases q)
  | succ n ih =>
    intro σ x1 x2 x3 x4 ls H locs O hl hf
    rw [M_X6_held_b31] at hf
    refine lv_iload hx hb dX6_held_31 (lv_at hl 4 rfl) ?_
    refine lv_aload_n hx hb dX6_held_33 rfl (lv_at hl 0 rfl) ?_
    refine x_gI X K O 4 rfl LM_99 rfl rfl in_X6 (by decide) q1154 dX6_held_34 ?_
    refine lv_icmp_ge (tgt := 128) hx hb dX6_held_37 (by decide) (fun c_1 => ?_) (fun c_1 => ?_)
    · replace hf := if_t c_1 hf
      refine lv_aload_n hx hb dX6_held_128 rfl (lv_at hl 0 rfl) ?_
      refine lv_iload_n hx hb dX6_held_129 rfl (lv_at hl 1 rfl) ?_
      refine lv_iload_n hx hb dX6_held_130 rfl (lv_at hl 2 rfl) ?_
      refine lv_if_ne (tgt := 138) hx hb dX6_held_131 (by decide) (fun c_2 => ?_) (fun c_2 => ?_)
      · replace hf := if_f c_2 hf
        refine lv_iconst (v := 3) hx hb dX6_held_138 (by decide) ?_
        exact w_M_X6_held_b139 X K _ _ _ _ ls _ _ O (lv_sub hl [3] rfl) hf
      · replace hf := if_t c_2 hf
        refine lv_iconst (v := 2) hx hb dX6_held_134 (by decide) ?_
        refine lv_goto (tgt := 139) hx hb dX6_held_135 (by decide) ?_
        exact w_M_X6_held_b139 X K _ _ _ _ ls _ _ O (lv_sub hl [3] rfl) hf
    · replace hf := if_f c_1 hf
      refine lv_iconst (v := 0) hx hb dX6_held_40 (by decide) ?_
      refine lv_istore (lv' := [(5, .int 0), (0, .ref (h 99 0 0)), (1, .int x1), (2, .int x2), (3, .int x3), (4, .int x4)]) hx hb dX6_held_41 hl (by decide) rfl (fun ls hl => ?_)
      exact w_M_X6_held_b43 X K ih _ _ _ _ _ _ _ ls _ _ O (lv_sub hl [1, 2, 3, 4, 5, 0] rfl) hf
def M_X6_held (σ : ST) (p1 : Int32) (p2 : Int32) : Option (ST × Int32) :=
  lt1 (sI σ 99 0 0 0 0) (fun σ_1 => bn2 (M_X6_isOne σ_1 p1) (fun σ_2 r_3 => (if r_3 = 0 then some (σ_2, (-10000000)) else bn2 (M_X6_isIn σ_2 p2 0 1) (fun σ_5 r_6 => (if r_6 = 0 then some (σ_5, (-10000000)) else M_X6_held_b31 FUEL σ_5 p1 p2 0 0)))))
theorem m_M_X6_held {l : Launch} {D : va_G} {d : Nat → ClassId} {h : IX} {p1 : Int32} {p2 : Int32} {σ : ST} {z : ST × Int32} (hf : M_X6_held σ p1 p2 = some z) : XM l D d EN yX6_held cX6_held 7 (some .int) 1 0 0 [.ref (h 99 0 0), .int p1, .int p2] h (xct LM okM h d σ) (Qi D (pz z) (cw h LM okM d)) := by
  refine XM.of (by decide +kernel) (Nat.le_of_ble_eq_true rfl) ?_
  intro p e s m below meth c A ls X _ K _ O hl
  have hl : lv_has ls 7 [(0, .ref (h 99 0 0)), (1, .int p1), (2, .int p2)] := hl
  have hx := X.1.1; have hb := X.1.2.1
  rw [M_X6_held] at hf
  refine lv_aload_n hx hb dX6_held_0 rfl (lv_at hl 0 rfl) ?_
  refine lv_iconst (v := 0) hx hb dX6_held_1 (by decide) ?_
  obtain ⟨σ_1, eσ_1, hf⟩ := lt1_s hf
  refine x_pI X K O 0 rfl LM_99 rfl rfl in_X6 tyX6_ok nmX6 (by decide) q1150 rfl rfl rfl dX6_held_2 (fun H locs O => ?_)
  rw [← eσ_1] at O
  refine lv_aload_n hx hb dX6_held_5 rfl (lv_at hl 0 rfl) ?_
  refine lv_iload_n hx hb dX6_held_6 rfl (lv_at hl 1 rfl) ?_
  obtain ⟨σ_2, r_3, hg, hf⟩ := bn2_s hf
  refine x_calli (x_runV (As := [.int p1]) (rest := []) X K O (xct_obj rfl LM_99) rfl (m_M_X6_isOne hg) EN_b EN_h (lw_V q1339 q1341 qs47 q124 q1342) 1 rfl hl.1 (Nat.le_of_ble_eq_true rfl) hdV_X6_isOne ⟨by decide, by decide⟩ ⟨Nat.le_refl _, Nat.le_refl _⟩ dX6_held_7) (fun r u H locs hp O _ => ?_)
  cases hp
  have O : XH D A s.heap h (xct LM okM h d σ_2) H locs := O
  refine lv_if_eq (tgt := 23) hx hb dX6_held_10 (by decide) (fun c_4 => ?_) (fun c_4 => ?_)
  · replace hf := if_t c_4 hf
    refine lv_ldc (v := (-10000000)) hx hb X.1.2.2.2.1 (X.1.2.2.2.2 _ q1451) dX6_held_23 ?_
    exact x_iret X O rfl _ (Option.some.inj hf).symm rfl dX6_held_25
  · replace hf := if_f c_4 hf
    refine lv_aload_n hx hb dX6_held_13 rfl (lv_at hl 0 rfl) ?_
    refine lv_iload_n hx hb dX6_held_14 rfl (lv_at hl 2 rfl) ?_
    refine lv_iconst (v := 0) hx hb dX6_held_15 (by decide) ?_
    refine lv_iconst (v := 1) hx hb dX6_held_16 (by decide) ?_
    obtain ⟨σ_5, r_6, hg, hf⟩ := bn2_s hf
    refine x_calli (x_runV (As := [.int p2, .int 0, .int 1]) (rest := []) X K O (xct_obj rfl LM_99) rfl (m_M_X6_isIn hg) EN_b EN_h (lw_V q1327 q1329 qs45 q124 q1330) 3 rfl hl.1 (Nat.le_of_ble_eq_true rfl) hdV_X6_isIn ⟨by decide, by decide⟩ ⟨Nat.le_refl _, Nat.le_refl _⟩ dX6_held_17) (fun r u H locs hp O _ => ?_)
    cases hp
    have O : XH D A s.heap h (xct LM okM h d σ_5) H locs := O
    refine lv_if_ne (tgt := 26) hx hb dX6_held_20 (by decide) (fun c_7 => ?_) (fun c_7 => ?_)
    · replace hf := if_f c_7 hf
      refine lv_iconst (v := 0) hx hb dX6_held_26 (by decide) ?_
      refine lv_istore_n (lv' := [(3, .int 0), (0, .ref (h 99 0 0)), (1, .int p1), (2, .int p2)]) hx hb dX6_held_27 rfl hl (by decide) rfl (fun ls hl => ?_)
      refine lv_iconst (v := 0) hx hb dX6_held_28 (by decide) ?_
      refine lv_istore (lv' := [(4, .int 0), (3, .int 0), (0, .ref (h 99 0 0)), (1, .int p1), (2, .int p2)]) hx hb dX6_held_29 hl (by decide) rfl (fun ls hl => ?_)
      exact w_M_X6_held_b31 X K _ _ _ _ _ _ ls _ _ O (lv_sub hl [2, 3, 4, 1, 0] rfl) hf
    · replace hf := if_t c_7 hf
      refine lv_ldc (v := (-10000000)) hx hb X.1.2.2.2.1 (X.1.2.2.2.2 _ q1451) dX6_held_23 ?_
      exact x_iret X O rfl _ (Option.some.inj hf).symm rfl dX6_held_25
def M_X6_lend (σ : ST) (p1 : Int32) (p2 : Int32) (p3 : Int32) (p4 : Int32) : Option (ST × Int32) :=
  lt1 (sI σ 99 0 0 0 0) (fun σ_1 => bn2 (M_X6_isOne σ_1 p1) (fun σ_2 r_3 => (if r_3 = 0 then some (σ_2, 0) else bn2 (M_X6_isOne σ_2 p2) (fun σ_5 r_6 => (if r_6 = 0 then some (σ_5, 0) else (if p1 = p2 then some (σ_5, 0) else bn2 (M_X6_isIn σ_5 p3 1 99) (fun σ_9 r_10 => (if r_10 = 0 then some (σ_9, 0) else bn2 (M_X6_isIn σ_9 p4 0 9999) (fun σ_12 r_13 => (if r_13 = 0 then some (σ_12, 0) else bn2 (M_X6_fact σ_12 p1 2) (fun σ_15 r_16 => (if r_16 < p3 then some (σ_15, 0) else bn2 (M_X6_fact σ_15 p2 2) (fun σ_18 r_19 => (if (r_19 + p3) ≤ 9999 then bn1 (M_X6_adds σ_18 p1 2 (-p3)) (fun σ_21 => bn1 (M_X6_adds σ_21 p2 2 p3) (fun σ_22 => bn1 (M_X6_adds σ_22 p1 7 p4) (fun σ_23 => bn1 (M_X6_adds σ_23 p2 7 (-p4)) (fun σ_24 => some (σ_24, 1))))) else some (σ_18, 0)))))))))))))))
theorem m_M_X6_lend {l : Launch} {D : va_G} {d : Nat → ClassId} {h : IX} {p1 : Int32} {p2 : Int32} {p3 : Int32} {p4 : Int32} {σ : ST} {z : ST × Int32} (hf : M_X6_lend σ p1 p2 p3 p4 = some z) : XM l D d EN yX6_lend cX6_lend 5 (some .boolean) 1 0 0 [.ref (h 99 0 0), .int p1, .int p2, .int p3, .int p4] h (xct LM okM h d σ) (Qi D (pz z) (cw h LM okM d)) := by
  refine XM.of (by decide +kernel) (Nat.le_of_ble_eq_true rfl) ?_
  intro p e s m below meth c A ls X _ K _ O hl
  have hl : lv_has ls 5 [(0, .ref (h 99 0 0)), (1, .int p1), (2, .int p2), (3, .int p3), (4, .int p4)] := hl
  have hx := X.1.1; have hb := X.1.2.1
  rw [M_X6_lend] at hf
  refine lv_aload_n hx hb dX6_lend_0 rfl (lv_at hl 0 rfl) ?_
  refine lv_iconst (v := 0) hx hb dX6_lend_1 (by decide) ?_
  obtain ⟨σ_1, eσ_1, hf⟩ := lt1_s hf
  refine x_pI X K O 0 rfl LM_99 rfl rfl in_X6 tyX6_ok nmX6 (by decide) q1150 rfl rfl rfl dX6_lend_2 (fun H locs O => ?_)
  rw [← eσ_1] at O
  refine lv_aload_n hx hb dX6_lend_5 rfl (lv_at hl 0 rfl) ?_
  refine lv_iload_n hx hb dX6_lend_6 rfl (lv_at hl 1 rfl) ?_
  obtain ⟨σ_2, r_3, hg, hf⟩ := bn2_s hf
  refine x_calli (x_runV (As := [.int p1]) (rest := []) X K O (xct_obj rfl LM_99) rfl (m_M_X6_isOne hg) EN_b EN_h (lw_V q1339 q1341 qs47 q124 q1342) 1 rfl hl.1 (Nat.le_of_ble_eq_true rfl) hdV_X6_isOne ⟨by decide, by decide⟩ ⟨Nat.le_refl _, Nat.le_refl _⟩ dX6_lend_7) (fun r u H locs hp O _ => ?_)
  cases hp
  have O : XH D A s.heap h (xct LM okM h d σ_2) H locs := O
  refine lv_if_eq (tgt := 50) hx hb dX6_lend_10 (by decide) (fun c_4 => ?_) (fun c_4 => ?_)
  · replace hf := if_t c_4 hf
    refine lv_iconst (v := 0) hx hb dX6_lend_50 (by decide) ?_
    exact x_zret X O rfl rfl _ (Option.some.inj hf).symm rfl dX6_lend_51
  · replace hf := if_f c_4 hf
    refine lv_aload_n hx hb dX6_lend_13 rfl (lv_at hl 0 rfl) ?_
    refine lv_iload_n hx hb dX6_lend_14 rfl (lv_at hl 2 rfl) ?_
    obtain ⟨σ_5, r_6, hg, hf⟩ := bn2_s hf
    refine x_calli (x_runV (As := [.int p2]) (rest := []) X K O (xct_obj rfl LM_99) rfl (m_M_X6_isOne hg) EN_b EN_h (lw_V q1339 q1341 qs47 q124 q1342) 1 rfl hl.1 (Nat.le_of_ble_eq_true rfl) hdV_X6_isOne ⟨by decide, by decide⟩ ⟨Nat.le_refl _, Nat.le_refl _⟩ dX6_lend_15) (fun r u H locs hp O _ => ?_)
    cases hp
    have O : XH D A s.heap h (xct LM okM h d σ_5) H locs := O
    refine lv_if_eq (tgt := 50) hx hb dX6_lend_18 (by decide) (fun c_7 => ?_) (fun c_7 => ?_)
    · replace hf := if_t c_7 hf
      refine lv_iconst (v := 0) hx hb dX6_lend_50 (by decide) ?_
      exact x_zret X O rfl rfl _ (Option.some.inj hf).symm rfl dX6_lend_51
    · replace hf := if_f c_7 hf
      refine lv_iload_n hx hb dX6_lend_21 rfl (lv_at hl 1 rfl) ?_
      refine lv_iload_n hx hb dX6_lend_22 rfl (lv_at hl 2 rfl) ?_
      refine lv_icmp_eq (tgt := 50) hx hb dX6_lend_23 (by decide) (fun c_8 => ?_) (fun c_8 => ?_)
      · replace hf := if_t c_8 hf
        refine lv_iconst (v := 0) hx hb dX6_lend_50 (by decide) ?_
        exact x_zret X O rfl rfl _ (Option.some.inj hf).symm rfl dX6_lend_51
      · replace hf := if_f c_8 hf
        refine lv_aload_n hx hb dX6_lend_26 rfl (lv_at hl 0 rfl) ?_
        refine lv_iload_n hx hb dX6_lend_27 rfl (lv_at hl 3 rfl) ?_
        refine lv_iconst (v := 1) hx hb dX6_lend_28 (by decide) ?_
        refine lv_bipush (v := 99) hx hb dX6_lend_29 (by decide) ?_
        obtain ⟨σ_9, r_10, hg, hf⟩ := bn2_s hf
        refine x_calli (x_runV (As := [.int p3, .int 1, .int 99]) (rest := []) X K O (xct_obj rfl LM_99) rfl (m_M_X6_isIn hg) EN_b EN_h (lw_V q1327 q1329 qs45 q124 q1330) 3 rfl hl.1 (Nat.le_of_ble_eq_true rfl) hdV_X6_isIn ⟨by decide, by decide⟩ ⟨Nat.le_refl _, Nat.le_refl _⟩ dX6_lend_31) (fun r u H locs hp O _ => ?_)
        cases hp
        have O : XH D A s.heap h (xct LM okM h d σ_9) H locs := O
        refine lv_if_eq (tgt := 50) hx hb dX6_lend_34 (by decide) (fun c_11 => ?_) (fun c_11 => ?_)
        · replace hf := if_t c_11 hf
          refine lv_iconst (v := 0) hx hb dX6_lend_50 (by decide) ?_
          exact x_zret X O rfl rfl _ (Option.some.inj hf).symm rfl dX6_lend_51
        · replace hf := if_f c_11 hf
          refine lv_aload_n hx hb dX6_lend_37 rfl (lv_at hl 0 rfl) ?_
          refine lv_iload hx hb dX6_lend_38 (lv_at hl 4 rfl) ?_
          refine lv_iconst (v := 0) hx hb dX6_lend_40 (by decide) ?_
          refine lv_sipush (v := 9999) hx hb dX6_lend_41 (by decide) ?_
          obtain ⟨σ_12, r_13, hg, hf⟩ := bn2_s hf
          refine x_calli (x_runV (As := [.int p4, .int 0, .int 9999]) (rest := []) X K O (xct_obj rfl LM_99) rfl (m_M_X6_isIn hg) EN_b EN_h (lw_V q1327 q1329 qs45 q124 q1330) 3 rfl hl.1 (Nat.le_of_ble_eq_true rfl) hdV_X6_isIn ⟨by decide, by decide⟩ ⟨Nat.le_refl _, Nat.le_refl _⟩ dX6_lend_44) (fun r u H locs hp O _ => ?_)
          cases hp
          have O : XH D A s.heap h (xct LM okM h d σ_12) H locs := O
          refine lv_if_ne (tgt := 52) hx hb dX6_lend_47 (by decide) (fun c_14 => ?_) (fun c_14 => ?_)
          · replace hf := if_f c_14 hf
            refine lv_aload_n hx hb dX6_lend_52 rfl (lv_at hl 0 rfl) ?_
            refine lv_iload_n hx hb dX6_lend_53 rfl (lv_at hl 1 rfl) ?_
            refine lv_iconst (v := 2) hx hb dX6_lend_54 (by decide) ?_
            obtain ⟨σ_15, r_16, hg, hf⟩ := bn2_s hf
            refine x_calli (x_runV (As := [.int p1, .int 2]) (rest := []) X K O (xct_obj rfl LM_99) rfl (m_M_X6_fact hg) EN_b EN_h (lw_V q1447 q1449 qs68 q124 q1450) 2 rfl hl.1 (Nat.le_of_ble_eq_true rfl) hdV_X6_fact ⟨by decide, by decide⟩ ⟨Nat.le_refl _, Nat.le_refl _⟩ dX6_lend_55) (fun r u H locs hp O _ => ?_)
            cases hp
            have O : XH D A s.heap h (xct LM okM h d σ_15) H locs := O
            refine lv_iload_n hx hb dX6_lend_58 rfl (lv_at hl 3 rfl) ?_
            refine lv_icmp_lt (tgt := 76) hx hb dX6_lend_59 (by decide) (fun c_17 => ?_) (fun c_17 => ?_)
            · replace hf := if_t c_17 hf
              refine lv_iconst (v := 0) hx hb dX6_lend_76 (by decide) ?_
              exact x_zret X O rfl rfl _ (Option.some.inj hf).symm rfl dX6_lend_77
            · replace hf := if_f c_17 hf
              refine lv_aload_n hx hb dX6_lend_62 rfl (lv_at hl 0 rfl) ?_
              refine lv_iload_n hx hb dX6_lend_63 rfl (lv_at hl 2 rfl) ?_
              refine lv_iconst (v := 2) hx hb dX6_lend_64 (by decide) ?_
              obtain ⟨σ_18, r_19, hg, hf⟩ := bn2_s hf
              refine x_calli (x_runV (As := [.int p2, .int 2]) (rest := []) X K O (xct_obj rfl LM_99) rfl (m_M_X6_fact hg) EN_b EN_h (lw_V q1447 q1449 qs68 q124 q1450) 2 rfl hl.1 (Nat.le_of_ble_eq_true rfl) hdV_X6_fact ⟨by decide, by decide⟩ ⟨Nat.le_refl _, Nat.le_refl _⟩ dX6_lend_65) (fun r u H locs hp O _ => ?_)
              cases hp
              have O : XH D A s.heap h (xct LM okM h d σ_18) H locs := O
              refine lv_iload_n hx hb dX6_lend_68 rfl (lv_at hl 3 rfl) ?_
              refine lv_iadd hx hb dX6_lend_69 ?_
              refine lv_sipush (v := 9999) hx hb dX6_lend_70 (by decide) ?_
              refine lv_icmp_le (tgt := 78) hx hb dX6_lend_73 (by decide) (fun c_20 => ?_) (fun c_20 => ?_)
              · replace hf := if_t c_20 hf
                refine lv_aload_n hx hb dX6_lend_78 rfl (lv_at hl 0 rfl) ?_
                refine lv_iload_n hx hb dX6_lend_79 rfl (lv_at hl 1 rfl) ?_
                refine lv_iconst (v := 2) hx hb dX6_lend_80 (by decide) ?_
                refine lv_iload_n hx hb dX6_lend_81 rfl (lv_at hl 3 rfl) ?_
                refine lv_ineg hx hb dX6_lend_82 ?_
                obtain ⟨σ_21, hg, hf⟩ := bn1_s hf
                refine x_callv (x_runV (As := [.int p1, .int 2, .int (-p3)]) (rest := []) X K O (xct_obj rfl LM_99) rfl (m_M_X6_adds hg) EN_b EN_h (lw_V q1500 q1502 qs79 q124 q1503) 3 rfl hl.1 (Nat.le_of_ble_eq_true rfl) hdV_X6_adds ⟨by decide, by decide⟩ ⟨Nat.le_refl _, Nat.le_refl _⟩ dX6_lend_83) (fun u H locs hp O _ => ?_)
                cases hp
                have O : XH D A s.heap h (xct LM okM h d σ_21) H locs := O
                refine lv_aload_n hx hb dX6_lend_86 rfl (lv_at hl 0 rfl) ?_
                refine lv_iload_n hx hb dX6_lend_87 rfl (lv_at hl 2 rfl) ?_
                refine lv_iconst (v := 2) hx hb dX6_lend_88 (by decide) ?_
                refine lv_iload_n hx hb dX6_lend_89 rfl (lv_at hl 3 rfl) ?_
                obtain ⟨σ_22, hg, hf⟩ := bn1_s hf
                refine x_callv (x_runV (As := [.int p2, .int 2, .int p3]) (rest := []) X K O (xct_obj rfl LM_99) rfl (m_M_X6_adds hg) EN_b EN_h (lw_V q1500 q1502 qs79 q124 q1503) 3 rfl hl.1 (Nat.le_of_ble_eq_true rfl) hdV_X6_adds ⟨by decide, by decide⟩ ⟨Nat.le_refl _, Nat.le_refl _⟩ dX6_lend_90) (fun u H locs hp O _ => ?_)
                cases hp
                have O : XH D A s.heap h (xct LM okM h d σ_22) H locs := O
                refine lv_aload_n hx hb dX6_lend_93 rfl (lv_at hl 0 rfl) ?_
                refine lv_iload_n hx hb dX6_lend_94 rfl (lv_at hl 1 rfl) ?_
                refine lv_bipush (v := 7) hx hb dX6_lend_95 (by decide) ?_
                refine lv_iload hx hb dX6_lend_97 (lv_at hl 4 rfl) ?_
                obtain ⟨σ_23, hg, hf⟩ := bn1_s hf
                refine x_callv (x_runV (As := [.int p1, .int 7, .int p4]) (rest := []) X K O (xct_obj rfl LM_99) rfl (m_M_X6_adds hg) EN_b EN_h (lw_V q1500 q1502 qs79 q124 q1503) 3 rfl hl.1 (Nat.le_of_ble_eq_true rfl) hdV_X6_adds ⟨by decide, by decide⟩ ⟨Nat.le_refl _, Nat.le_refl _⟩ dX6_lend_99) (fun u H locs hp O _ => ?_)
                cases hp
                have O : XH D A s.heap h (xct LM okM h d σ_23) H locs := O
                refine lv_aload_n hx hb dX6_lend_102 rfl (lv_at hl 0 rfl) ?_
                refine lv_iload_n hx hb dX6_lend_103 rfl (lv_at hl 2 rfl) ?_
                refine lv_bipush (v := 7) hx hb dX6_lend_104 (by decide) ?_
                refine lv_iload hx hb dX6_lend_106 (lv_at hl 4 rfl) ?_
                refine lv_ineg hx hb dX6_lend_108 ?_
                obtain ⟨σ_24, hg, hf⟩ := bn1_s hf
                refine x_callv (x_runV (As := [.int p2, .int 7, .int (-p4)]) (rest := []) X K O (xct_obj rfl LM_99) rfl (m_M_X6_adds hg) EN_b EN_h (lw_V q1500 q1502 qs79 q124 q1503) 3 rfl hl.1 (Nat.le_of_ble_eq_true rfl) hdV_X6_adds ⟨by decide, by decide⟩ ⟨Nat.le_refl _, Nat.le_refl _⟩ dX6_lend_109) (fun u H locs hp O _ => ?_)
                cases hp
                have O : XH D A s.heap h (xct LM okM h d σ_24) H locs := O
                refine lv_iconst (v := 1) hx hb dX6_lend_112 (by decide) ?_
                exact x_zret X O rfl rfl _ (Option.some.inj hf).symm rfl dX6_lend_113
              · replace hf := if_f c_20 hf
                refine lv_iconst (v := 0) hx hb dX6_lend_76 (by decide) ?_
                exact x_zret X O rfl rfl _ (Option.some.inj hf).symm rfl dX6_lend_77
          · replace hf := if_t c_14 hf
            refine lv_iconst (v := 0) hx hb dX6_lend_50 (by decide) ?_
            exact x_zret X O rfl rfl _ (Option.some.inj hf).symm rfl dX6_lend_51
def M_X6_purses_b4 : Nat → ST → Int32 → Int32 → Option (ST × Int32)
  | 0, _, _, _ => none
  | n + 1, σ, x1, x2 =>
    (if (gI σ 99 0 0 2) ≤ x2 then some (σ, x1) else bn2 (M_X6_fact σ x2 7) (fun σ_2 r_3 => lt1 (x1 + r_3) (fun x1_4 => lt1 (x2 + 1) (fun x2_5 => (M_X6_purses_b4 n) σ_2 x1_4 x2_5))))
theorem w_M_X6_purses_b4 (X : FX p m c meth s args RX6 cX6_purses 3 (some .int)) (K : XK D d A s) {z : ST × Int32} : ∀ (n : Nat) (σ : ST) (x1 : Int32) (x2 : Int32) (ls : Array Slot) (H : Heap) (locs : List Loc), XH D A s.heap h (xct LM okM h d σ) H locs → lv_has ls 3 [(0, .ref (h 99 0 0)), (1, .int x1), (2, .int x2)] → M_X6_purses_b4 n σ x1 x2 = some z → W p l e (rmD 1 0 0) s m args below meth c H locs 0 0 (MQ below (Qi D (pz z) (cw h LM okM d) A) args s 0 0 A) (F0 m 4 ls []) := by
  have hx := X.1.1; have hb := X.1.2.1
  intro n
  induction n with
  | zero =>
    intro σ x1 x2 ls H locs O hl hf
    exact absurd hf (fun q => by cases q)
  | succ n ih =>
    intro σ x1 x2 ls H locs O hl hf
    rw [M_X6_purses_b4] at hf
    refine lv_iload_n hx hb dX6_purses_4 rfl (lv_at hl 2 rfl) ?_
    refine lv_aload_n hx hb dX6_purses_5 rfl (lv_at hl 0 rfl) ?_
    refine x_gI X K O 2 rfl LM_99 rfl rfl in_X6 (by decide) q1152 dX6_purses_6 ?_
    refine lv_icmp_ge (tgt := 28) hx hb dX6_purses_9 (by decide) (fun c_1 => ?_) (fun c_1 => ?_)
    · replace hf := if_t c_1 hf
      refine lv_iload_n hx hb dX6_purses_28 rfl (lv_at hl 1 rfl) ?_
      exact x_iret X O rfl _ (Option.some.inj hf).symm rfl dX6_purses_29
    · replace hf := if_f c_1 hf
      refine lv_iload_n hx hb dX6_purses_12 rfl (lv_at hl 1 rfl) ?_
      refine lv_aload_n hx hb dX6_purses_13 rfl (lv_at hl 0 rfl) ?_
      refine lv_iload_n hx hb dX6_purses_14 rfl (lv_at hl 2 rfl) ?_
      refine lv_bipush (v := 7) hx hb dX6_purses_15 (by decide) ?_
      obtain ⟨σ_2, r_3, hg, hf⟩ := bn2_s hf
      refine x_calli (x_runV (As := [.int x2, .int 7]) (rest := [.int x1]) X K O (xct_obj rfl LM_99) rfl (m_M_X6_fact hg) EN_b EN_h (lw_V q1447 q1449 qs68 q124 q1450) 2 rfl hl.1 (Nat.le_of_ble_eq_true rfl) hdV_X6_fact ⟨by decide, by decide⟩ ⟨Nat.le_refl _, Nat.le_refl _⟩ dX6_purses_17) (fun r u H locs hp O _ => ?_)
      cases hp
      have O : XH D A s.heap h (xct LM okM h d σ_2) H locs := O
      refine lv_iadd hx hb dX6_purses_20 ?_
      obtain ⟨x1_4, ex1_4, hf⟩ := lt1_s hf
      refine x_top (w := .int x1_4) (by rw [ex1_4]) ?_
      refine lv_istore_n (lv' := [(1, .int x1_4), (0, .ref (h 99 0 0)), (2, .int x2)]) hx hb dX6_purses_21 rfl hl (by decide) rfl (fun ls hl => ?_)
      obtain ⟨x2_5, ex2_5, hf⟩ := lt1_s hf
      refine lv_iinc (v := x2_5) (lv' := [(2, .int x2_5), (1, .int x1_4), (0, .ref (h 99 0 0))]) hx hb dX6_purses_22 hl (k := 2) rfl (by rw [ex2_5]; rfl) (by decide) rfl (fun ls hl => ?_)
      refine lv_goto (tgt := 4) hx hb dX6_purses_25 (by decide) ?_
      exact ih _ _ _ ls _ _ O (lv_sub hl [2, 1, 0] rfl) hf
def M_X6_purses (σ : ST) : Option (ST × Int32) :=
  M_X6_purses_b4 FUEL σ 0 0
theorem m_M_X6_purses {l : Launch} {D : va_G} {d : Nat → ClassId} {h : IX} {σ : ST} {z : ST × Int32} (hf : M_X6_purses σ = some z) : XM l D d EN yX6_purses cX6_purses 3 (some .int) 1 0 0 [.ref (h 99 0 0)] h (xct LM okM h d σ) (Qi D (pz z) (cw h LM okM d)) := by
  refine XM.of (by decide +kernel) (Nat.le_of_ble_eq_true rfl) ?_
  intro p e s m below meth c A ls X _ K _ O hl
  have hl : lv_has ls 3 [(0, .ref (h 99 0 0))] := hl
  have hx := X.1.1; have hb := X.1.2.1
  rw [M_X6_purses] at hf
  refine lv_iconst (v := 0) hx hb dX6_purses_0 (by decide) ?_
  refine lv_istore_n (lv' := [(1, .int 0), (0, .ref (h 99 0 0))]) hx hb dX6_purses_1 rfl hl (by decide) rfl (fun ls hl => ?_)
  refine lv_iconst (v := 0) hx hb dX6_purses_2 (by decide) ?_
  refine lv_istore_n (lv' := [(2, .int 0), (1, .int 0), (0, .ref (h 99 0 0))]) hx hb dX6_purses_3 rfl hl (by decide) rfl (fun ls hl => ?_)
  exact w_M_X6_purses_b4 X K _ _ _ _ ls _ _ O (lv_sub hl [2, 1, 0] rfl) hf
def M_X6_putAside (σ : ST) (p1 : Int32) : Option (ST × Int32) :=
  lt1 (sI σ 99 0 0 50 ((gI σ 99 0 0 50) + 1)) (fun σ_1 => (if (gI σ_1 99 0 0 49) = 0 then ck (okI ((gI σ_1 99 0 0 50) - 1) 2600) (some (σ_1, (gI σ_1 51 0 0 (Int32.toNatClampNeg ((gI σ_1 99 0 0 50) - 1))))) else ck (okI ((gI σ_1 99 0 0 50) - 1) 2600) (lt1 (sI σ_1 51 0 0 (Int32.toNatClampNeg ((gI σ_1 99 0 0 50) - 1)) p1) (fun σ_4 => some (σ_4, p1)))))
theorem m_M_X6_putAside {l : Launch} {D : va_G} {d : Nat → ClassId} {h : IX} {p1 : Int32} {σ : ST} {z : ST × Int32} (hf : M_X6_putAside σ p1 = some z) : XM l D d EN yX6_putAside cX6_putAside 2 (some .int) 0 0 0 [.ref (h 99 0 0), .int p1] h (xct LM okM h d σ) (Qi D (pz z) (cw h LM okM d)) := by
  refine XM.of (by decide +kernel) (Nat.le_of_ble_eq_true rfl) ?_
  intro p e s m below meth c A ls X _ K _ O hl
  have hl : lv_has ls 2 [(0, .ref (h 99 0 0)), (1, .int p1)] := hl
  have hx := X.1.1; have hb := X.1.2.1
  rw [M_X6_putAside] at hf
  refine lv_aload_n hx hb dX6_putAside_0 rfl (lv_at hl 0 rfl) ?_
  refine lv_aload_n hx hb dX6_putAside_1 rfl (lv_at hl 0 rfl) ?_
  refine x_gI X K O 50 rfl LM_99 rfl rfl in_X6 (by decide) q1200 dX6_putAside_2 ?_
  refine lv_iconst (v := 1) hx hb dX6_putAside_5 (by decide) ?_
  refine lv_iadd hx hb dX6_putAside_6 ?_
  obtain ⟨σ_1, eσ_1, hf⟩ := lt1_s hf
  refine x_pI X K O 50 rfl LM_99 rfl rfl in_X6 tyX6_ok nmX6 (by decide) q1200 rfl rfl rfl dX6_putAside_7 (fun H locs O => ?_)
  rw [← eσ_1] at O
  refine lv_aload_n hx hb dX6_putAside_10 rfl (lv_at hl 0 rfl) ?_
  refine x_gI X K O 49 rfl LM_99 rfl rfl in_X6 (by decide) q1199 dX6_putAside_11 ?_
  refine lv_if_ne (tgt := 29) hx hb dX6_putAside_14 (by decide) (fun c_2 => ?_) (fun c_2 => ?_)
  · replace hf := if_f c_2 hf
    refine lv_aload_n hx hb dX6_putAside_29 rfl (lv_at hl 0 rfl) ?_
    refine x_gF X K O 51 rfl LM_99 rfl rfl in_X6 (by decide) q1201 dX6_putAside_30 ?_
    refine lv_aload_n hx hb dX6_putAside_33 rfl (lv_at hl 0 rfl) ?_
    refine x_gI X K O 50 rfl LM_99 rfl rfl in_X6 (by decide) q1200 dX6_putAside_34 ?_
    refine lv_iconst (v := 1) hx hb dX6_putAside_37 (by decide) ?_
    refine lv_isub hx hb dX6_putAside_38 ?_
    refine lv_iload_n hx hb dX6_putAside_39 rfl (lv_at hl 1 rfl) ?_
    obtain ⟨c_3, hf⟩ := ck_s hf
    obtain ⟨σ_4, eσ_4, hf⟩ := lt1_s hf
    refine x_ist X K O rfl LM_51 c_3 (j := (Int32.toNatClampNeg ((gI σ_1 99 0 0 50) - 1))) rfl dX6_putAside_40 (fun H locs O => ?_)
    rw [← eσ_4] at O
    refine lv_iload_n hx hb dX6_putAside_41 rfl (lv_at hl 1 rfl) ?_
    exact x_iret X O rfl _ (Option.some.inj hf).symm rfl dX6_putAside_42
  · replace hf := if_t c_2 hf
    refine lv_aload_n hx hb dX6_putAside_17 rfl (lv_at hl 0 rfl) ?_
    refine x_gF X K O 51 rfl LM_99 rfl rfl in_X6 (by decide) q1201 dX6_putAside_18 ?_
    refine lv_aload_n hx hb dX6_putAside_21 rfl (lv_at hl 0 rfl) ?_
    refine x_gI X K O 50 rfl LM_99 rfl rfl in_X6 (by decide) q1200 dX6_putAside_22 ?_
    refine lv_iconst (v := 1) hx hb dX6_putAside_25 (by decide) ?_
    refine lv_isub hx hb dX6_putAside_26 ?_
    obtain ⟨c_5, hf⟩ := ck_s hf
    refine x_ild X K O rfl LM_51 c_5 (j := (Int32.toNatClampNeg ((gI σ_1 99 0 0 50) - 1))) rfl dX6_putAside_27 ?_
    exact x_iret X O rfl _ (Option.some.inj hf).symm rfl dX6_putAside_28
theorem hdV_X6_putAside : yX6_putAside.cls = RX6 ∧ (yX6_putAside.cls ≠ "java/lang/invoke/MethodHandle" ∧ yX6_putAside.cls ≠ "java/lang/invoke/VarHandle" ∧ (parseMethodDescriptor yX6_putAside.desc).map (fun d => d.parameters.length) = some 1) := by decide +kernel
def M_X6_asides_b120 : Nat → ST → Int32 → Option (ST)
  | 0, _, _ => none
  | n + 1, σ, x2 =>
    (if 2400 ≤ x2 then some σ else ck (okI x2 2400) (bn2 (M_X6_putAside σ (gI σ 7 0 0 (Int32.toNatClampNeg x2))) (fun σ_3 r_4 => ck (okI x2 2400) (lt1 (sI σ_3 7 0 0 (Int32.toNatClampNeg x2) r_4) (fun σ_6 => lt1 (x2 + 1) (fun x2_7 => (M_X6_asides_b120 n) σ_6 x2_7))))))
theorem w_M_X6_asides_b120 (X : FX p m c meth s args RX6 cX6_asides 3 none) (K : XK D d A s) {z : ST} : ∀ (n : Nat) (σ : ST) (x2 : Int32) (ls : Array Slot) (H : Heap) (locs : List Loc), XH D A s.heap h (xct LM okM h d σ) H locs → lv_has ls 3 [(0, .ref (h 99 0 0)), (2, .int x2)] → M_X6_asides_b120 n σ x2 = some z → W p l e (rmD 1 0 0) s m args below meth c H locs 0 0 (MQ below (Qv D (pu z) (cw h LM okM d) A) args s 0 0 A) (F0 m 120 ls []) := by
  have hx := X.1.1; have hb := X.1.2.1
  intro n
  induction n with
  | zero =>
    intro σ x2 ls H locs O hl hf
    exact absurd hf (fun q => by cases q)
  | succ n ih =>
    intro σ x2 ls H locs O hl hf
    rw [M_X6_asides_b120] at hf
    refine lv_iload_n hx hb dX6_asides_120 rfl (lv_at hl 1 rfl) ?_
    refine lv_sipush (v := 2400) hx hb dX6_asides_121 (by decide) ?_
    refine lv_icmp_ge (tgt := 149) hx hb dX6_asides_124 (by decide) (fun c_1 => ?_) (fun c_1 => ?_)
    · replace hf := if_t c_1 hf
      exact x_vret X O rfl _ (Option.some.inj hf).symm rfl dX6_asides_149
    · replace hf := if_f c_1 hf
      refine lv_aload_n hx hb dX6_asides_127 rfl (lv_at hl 0 rfl) ?_
      refine x_gF X K O 7 rfl LM_99 rfl rfl in_X6 (by decide) q1157 dX6_asides_128 ?_
      refine lv_iload_n hx hb dX6_asides_131 rfl (lv_at hl 1 rfl) ?_
      refine lv_aload_n hx hb dX6_asides_132 rfl (lv_at hl 0 rfl) ?_
      refine lv_aload_n hx hb dX6_asides_133 rfl (lv_at hl 0 rfl) ?_
      refine x_gF X K O 7 rfl LM_99 rfl rfl in_X6 (by decide) q1157 dX6_asides_134 ?_
      refine lv_iload_n hx hb dX6_asides_137 rfl (lv_at hl 1 rfl) ?_
      obtain ⟨c_2, hf⟩ := ck_s hf
      refine x_ild X K O rfl LM_7 c_2 (j := (Int32.toNatClampNeg x2)) rfl dX6_asides_138 ?_
      obtain ⟨σ_3, r_4, hg, hf⟩ := bn2_s hf
      refine x_calli (x_runV (As := [.int (gI σ 7 0 0 (Int32.toNatClampNeg x2))]) (rest := [.int x2, .ref (h 7 0 0)]) X K O (xct_obj rfl LM_99) rfl (m_M_X6_putAside hg) EN_b EN_h (lw_V q1687 q1689 qs108 q124 q1690) 1 rfl hl.1 (Nat.le_of_ble_eq_true rfl) hdV_X6_putAside ⟨by decide, by decide⟩ ⟨Nat.le_refl _, Nat.le_refl _⟩ dX6_asides_139) (fun r u H locs hp O _ => ?_)
      cases hp
      have O : XH D A s.heap h (xct LM okM h d σ_3) H locs := O
      obtain ⟨c_5, hf⟩ := ck_s hf
      obtain ⟨σ_6, eσ_6, hf⟩ := lt1_s hf
      refine x_ist X K O rfl LM_7 c_5 (j := (Int32.toNatClampNeg x2)) rfl dX6_asides_142 (fun H locs O => ?_)
      rw [← eσ_6] at O
      obtain ⟨x2_7, ex2_7, hf⟩ := lt1_s hf
      refine lv_iinc (v := x2_7) (lv' := [(2, .int x2_7), (0, .ref (h 99 0 0))]) hx hb dX6_asides_143 hl (k := 1) rfl (by rw [ex2_7]; rfl) (by decide) rfl (fun ls hl => ?_)
      refine lv_goto (tgt := 120) hx hb dX6_asides_146 (by decide) ?_
      exact ih _ _ ls _ _ O (lv_sub hl [1, 0] rfl) hf
def M_X6_asides_b90 : Nat → ST → Int32 → Option (ST)
  | 0, _, _ => none
  | n + 1, σ, x2 =>
    (if 108 ≤ x2 then M_X6_asides_b120 FUEL σ 0 else ck (okI x2 108) (bn2 (M_X6_putAside σ (gI σ 5 0 0 (Int32.toNatClampNeg x2))) (fun σ_3 r_4 => ck (okI x2 108) (lt1 (sI σ_3 5 0 0 (Int32.toNatClampNeg x2) r_4) (fun σ_6 => lt1 (x2 + 1) (fun x2_7 => (M_X6_asides_b90 n) σ_6 x2_7))))))
theorem w_M_X6_asides_b90 (X : FX p m c meth s args RX6 cX6_asides 3 none) (K : XK D d A s) {z : ST} : ∀ (n : Nat) (σ : ST) (x2 : Int32) (ls : Array Slot) (H : Heap) (locs : List Loc), XH D A s.heap h (xct LM okM h d σ) H locs → lv_has ls 3 [(0, .ref (h 99 0 0)), (2, .int x2)] → M_X6_asides_b90 n σ x2 = some z → W p l e (rmD 1 0 0) s m args below meth c H locs 0 0 (MQ below (Qv D (pu z) (cw h LM okM d) A) args s 0 0 A) (F0 m 90 ls []) := by
  have hx := X.1.1; have hb := X.1.2.1
  intro n
  induction n with
  | zero =>
    intro σ x2 ls H locs O hl hf
    exact absurd hf (fun q => by cases q)
  | succ n ih =>
    intro σ x2 ls H locs O hl hf
    rw [M_X6_asides_b90] at hf
    refine lv_iload_n hx hb dX6_asides_90 rfl (lv_at hl 1 rfl) ?_
    refine lv_bipush (v := 108) hx hb dX6_asides_91 (by decide) ?_
    refine lv_icmp_ge (tgt := 118) hx hb dX6_asides_93 (by decide) (fun c_1 => ?_) (fun c_1 => ?_)
    · replace hf := if_t c_1 hf
      refine lv_iconst (v := 0) hx hb dX6_asides_118 (by decide) ?_
      refine lv_istore_n (lv' := [(2, .int 0), (0, .ref (h 99 0 0))]) hx hb dX6_asides_119 rfl hl (by decide) rfl (fun ls hl => ?_)
      exact w_M_X6_asides_b120 X K _ _ _ ls _ _ O (lv_sub hl [1, 0] rfl) hf
    · replace hf := if_f c_1 hf
      refine lv_aload_n hx hb dX6_asides_96 rfl (lv_at hl 0 rfl) ?_
      refine x_gF X K O 5 rfl LM_99 rfl rfl in_X6 (by decide) q1155 dX6_asides_97 ?_
      refine lv_iload_n hx hb dX6_asides_100 rfl (lv_at hl 1 rfl) ?_
      refine lv_aload_n hx hb dX6_asides_101 rfl (lv_at hl 0 rfl) ?_
      refine lv_aload_n hx hb dX6_asides_102 rfl (lv_at hl 0 rfl) ?_
      refine x_gF X K O 5 rfl LM_99 rfl rfl in_X6 (by decide) q1155 dX6_asides_103 ?_
      refine lv_iload_n hx hb dX6_asides_106 rfl (lv_at hl 1 rfl) ?_
      obtain ⟨c_2, hf⟩ := ck_s hf
      refine x_ild X K O rfl LM_5 c_2 (j := (Int32.toNatClampNeg x2)) rfl dX6_asides_107 ?_
      obtain ⟨σ_3, r_4, hg, hf⟩ := bn2_s hf
      refine x_calli (x_runV (As := [.int (gI σ 5 0 0 (Int32.toNatClampNeg x2))]) (rest := [.int x2, .ref (h 5 0 0)]) X K O (xct_obj rfl LM_99) rfl (m_M_X6_putAside hg) EN_b EN_h (lw_V q1687 q1689 qs108 q124 q1690) 1 rfl hl.1 (Nat.le_of_ble_eq_true rfl) hdV_X6_putAside ⟨by decide, by decide⟩ ⟨Nat.le_refl _, Nat.le_refl _⟩ dX6_asides_108) (fun r u H locs hp O _ => ?_)
      cases hp
      have O : XH D A s.heap h (xct LM okM h d σ_3) H locs := O
      obtain ⟨c_5, hf⟩ := ck_s hf
      obtain ⟨σ_6, eσ_6, hf⟩ := lt1_s hf
      refine x_ist X K O rfl LM_5 c_5 (j := (Int32.toNatClampNeg x2)) rfl dX6_asides_111 (fun H locs O => ?_)
      rw [← eσ_6] at O
      obtain ⟨x2_7, ex2_7, hf⟩ := lt1_s hf
      refine lv_iinc (v := x2_7) (lv' := [(2, .int x2_7), (0, .ref (h 99 0 0))]) hx hb dX6_asides_112 hl (k := 1) rfl (by rw [ex2_7]; rfl) (by decide) rfl (fun ls hl => ?_)
      refine lv_goto (tgt := 90) hx hb dX6_asides_115 (by decide) ?_
      exact ih _ _ ls _ _ O (lv_sub hl [1, 0] rfl) hf
def M_X6_asides_b60 : Nat → ST → Int32 → Option (ST)
  | 0, _, _ => none
  | n + 1, σ, x2 =>
    (if 23 ≤ x2 then M_X6_asides_b90 FUEL σ 0 else ck (okI x2 23) (bn2 (M_X6_putAside σ (gI σ 6 0 0 (Int32.toNatClampNeg x2))) (fun σ_3 r_4 => ck (okI x2 23) (lt1 (sI σ_3 6 0 0 (Int32.toNatClampNeg x2) r_4) (fun σ_6 => lt1 (x2 + 1) (fun x2_7 => (M_X6_asides_b60 n) σ_6 x2_7))))))
theorem w_M_X6_asides_b60 (X : FX p m c meth s args RX6 cX6_asides 3 none) (K : XK D d A s) {z : ST} : ∀ (n : Nat) (σ : ST) (x2 : Int32) (ls : Array Slot) (H : Heap) (locs : List Loc), XH D A s.heap h (xct LM okM h d σ) H locs → lv_has ls 3 [(0, .ref (h 99 0 0)), (2, .int x2)] → M_X6_asides_b60 n σ x2 = some z → W p l e (rmD 1 0 0) s m args below meth c H locs 0 0 (MQ below (Qv D (pu z) (cw h LM okM d) A) args s 0 0 A) (F0 m 60 ls []) := by
  have hx := X.1.1; have hb := X.1.2.1
  intro n
  induction n with
  | zero =>
    intro σ x2 ls H locs O hl hf
    exact absurd hf (fun q => by cases q)
  | succ n ih =>
    intro σ x2 ls H locs O hl hf
    rw [M_X6_asides_b60] at hf
    refine lv_iload_n hx hb dX6_asides_60 rfl (lv_at hl 1 rfl) ?_
    refine lv_bipush (v := 23) hx hb dX6_asides_61 (by decide) ?_
    refine lv_icmp_ge (tgt := 88) hx hb dX6_asides_63 (by decide) (fun c_1 => ?_) (fun c_1 => ?_)
    · replace hf := if_t c_1 hf
      refine lv_iconst (v := 0) hx hb dX6_asides_88 (by decide) ?_
      refine lv_istore_n (lv' := [(2, .int 0), (0, .ref (h 99 0 0))]) hx hb dX6_asides_89 rfl hl (by decide) rfl (fun ls hl => ?_)
      exact w_M_X6_asides_b90 X K _ _ _ ls _ _ O (lv_sub hl [1, 0] rfl) hf
    · replace hf := if_f c_1 hf
      refine lv_aload_n hx hb dX6_asides_66 rfl (lv_at hl 0 rfl) ?_
      refine x_gF X K O 6 rfl LM_99 rfl rfl in_X6 (by decide) q1156 dX6_asides_67 ?_
      refine lv_iload_n hx hb dX6_asides_70 rfl (lv_at hl 1 rfl) ?_
      refine lv_aload_n hx hb dX6_asides_71 rfl (lv_at hl 0 rfl) ?_
      refine lv_aload_n hx hb dX6_asides_72 rfl (lv_at hl 0 rfl) ?_
      refine x_gF X K O 6 rfl LM_99 rfl rfl in_X6 (by decide) q1156 dX6_asides_73 ?_
      refine lv_iload_n hx hb dX6_asides_76 rfl (lv_at hl 1 rfl) ?_
      obtain ⟨c_2, hf⟩ := ck_s hf
      refine x_ild X K O rfl LM_6 c_2 (j := (Int32.toNatClampNeg x2)) rfl dX6_asides_77 ?_
      obtain ⟨σ_3, r_4, hg, hf⟩ := bn2_s hf
      refine x_calli (x_runV (As := [.int (gI σ 6 0 0 (Int32.toNatClampNeg x2))]) (rest := [.int x2, .ref (h 6 0 0)]) X K O (xct_obj rfl LM_99) rfl (m_M_X6_putAside hg) EN_b EN_h (lw_V q1687 q1689 qs108 q124 q1690) 1 rfl hl.1 (Nat.le_of_ble_eq_true rfl) hdV_X6_putAside ⟨by decide, by decide⟩ ⟨Nat.le_refl _, Nat.le_refl _⟩ dX6_asides_78) (fun r u H locs hp O _ => ?_)
      cases hp
      have O : XH D A s.heap h (xct LM okM h d σ_3) H locs := O
      obtain ⟨c_5, hf⟩ := ck_s hf
      obtain ⟨σ_6, eσ_6, hf⟩ := lt1_s hf
      refine x_ist X K O rfl LM_6 c_5 (j := (Int32.toNatClampNeg x2)) rfl dX6_asides_81 (fun H locs O => ?_)
      rw [← eσ_6] at O
      obtain ⟨x2_7, ex2_7, hf⟩ := lt1_s hf
      refine lv_iinc (v := x2_7) (lv' := [(2, .int x2_7), (0, .ref (h 99 0 0))]) hx hb dX6_asides_82 hl (k := 1) rfl (by rw [ex2_7]; rfl) (by decide) rfl (fun ls hl => ?_)
      refine lv_goto (tgt := 60) hx hb dX6_asides_85 (by decide) ?_
      exact ih _ _ ls _ _ O (lv_sub hl [1, 0] rfl) hf
def M_X6_asides (σ : ST) (p1 : Int32) : Option (ST) :=
  ck (okZ p1) (lt1 (sI σ 99 0 0 49 p1) (fun σ_1 => lt1 (sI σ_1 99 0 0 50 0) (fun σ_3 => bn2 (M_X6_putAside σ_3 (gI σ_3 99 0 0 1)) (fun σ_4 r_5 => lt1 (sI σ_4 99 0 0 1 r_5) (fun σ_6 => bn2 (M_X6_putAside σ_6 (gI σ_6 99 0 0 2)) (fun σ_7 r_8 => lt1 (sI σ_7 99 0 0 2 r_8) (fun σ_9 => bn2 (M_X6_putAside σ_9 (gI σ_9 99 0 0 3)) (fun σ_10 r_11 => lt1 (sI σ_10 99 0 0 3 r_11) (fun σ_12 => bn2 (M_X6_putAside σ_12 (gI σ_12 99 0 0 4)) (fun σ_13 r_14 => lt1 (sI σ_13 99 0 0 4 r_14) (fun σ_15 => M_X6_asides_b60 FUEL σ_15 0)))))))))))
theorem m_M_X6_asides {l : Launch} {D : va_G} {d : Nat → ClassId} {h : IX} {p1 : Int32} {σ : ST} {z : ST} (hf : M_X6_asides σ p1 = some z) : XM l D d EN yX6_asides cX6_asides 3 none 1 0 0 [.ref (h 99 0 0), .int p1] h (xct LM okM h d σ) (Qv D (pu z) (cw h LM okM d)) := by
  refine XM.of (by decide +kernel) (Nat.le_of_ble_eq_true rfl) ?_
  intro p e s m below meth c A ls X _ K _ O hl
  have hl : lv_has ls 3 [(0, .ref (h 99 0 0)), (1, .int p1)] := hl
  have hx := X.1.1; have hb := X.1.2.1
  rw [M_X6_asides] at hf
  refine lv_aload_n hx hb dX6_asides_0 rfl (lv_at hl 0 rfl) ?_
  refine lv_iload_n hx hb dX6_asides_1 rfl (lv_at hl 1 rfl) ?_
  obtain ⟨c_2, hf⟩ := ck_s hf
  obtain ⟨σ_1, eσ_1, hf⟩ := lt1_s hf
  refine x_pI X K O 49 rfl LM_99 rfl rfl in_X6 tyX6_ok nmX6 (by decide) q1199 rfl (okZ_n c_2) (okZ_f c_2) dX6_asides_2 (fun H locs O => ?_)
  rw [← eσ_1] at O
  refine lv_aload_n hx hb dX6_asides_5 rfl (lv_at hl 0 rfl) ?_
  refine lv_iconst (v := 0) hx hb dX6_asides_6 (by decide) ?_
  obtain ⟨σ_3, eσ_3, hf⟩ := lt1_s hf
  refine x_pI X K O 50 rfl LM_99 rfl rfl in_X6 tyX6_ok nmX6 (by decide) q1200 rfl rfl rfl dX6_asides_7 (fun H locs O => ?_)
  rw [← eσ_3] at O
  refine lv_aload_n hx hb dX6_asides_10 rfl (lv_at hl 0 rfl) ?_
  refine lv_aload_n hx hb dX6_asides_11 rfl (lv_at hl 0 rfl) ?_
  refine lv_aload_n hx hb dX6_asides_12 rfl (lv_at hl 0 rfl) ?_
  refine x_gI X K O 1 rfl LM_99 rfl rfl in_X6 (by decide) q1151 dX6_asides_13 ?_
  obtain ⟨σ_4, r_5, hg, hf⟩ := bn2_s hf
  refine x_calli (x_runV (As := [.int (gI σ_3 99 0 0 1)]) (rest := [.ref (h 99 0 0)]) X K O (xct_obj rfl LM_99) rfl (m_M_X6_putAside hg) EN_b EN_h (lw_V q1687 q1689 qs108 q124 q1690) 1 rfl hl.1 (Nat.le_of_ble_eq_true rfl) hdV_X6_putAside ⟨by decide, by decide⟩ ⟨Nat.le_refl _, Nat.le_refl _⟩ dX6_asides_16) (fun r u H locs hp O _ => ?_)
  cases hp
  have O : XH D A s.heap h (xct LM okM h d σ_4) H locs := O
  obtain ⟨σ_6, eσ_6, hf⟩ := lt1_s hf
  refine x_pI X K O 1 rfl LM_99 rfl rfl in_X6 tyX6_ok nmX6 (by decide) q1151 rfl rfl rfl dX6_asides_19 (fun H locs O => ?_)
  rw [← eσ_6] at O
  refine lv_aload_n hx hb dX6_asides_22 rfl (lv_at hl 0 rfl) ?_
  refine lv_aload_n hx hb dX6_asides_23 rfl (lv_at hl 0 rfl) ?_
  refine lv_aload_n hx hb dX6_asides_24 rfl (lv_at hl 0 rfl) ?_
  refine x_gI X K O 2 rfl LM_99 rfl rfl in_X6 (by decide) q1152 dX6_asides_25 ?_
  obtain ⟨σ_7, r_8, hg, hf⟩ := bn2_s hf
  refine x_calli (x_runV (As := [.int (gI σ_6 99 0 0 2)]) (rest := [.ref (h 99 0 0)]) X K O (xct_obj rfl LM_99) rfl (m_M_X6_putAside hg) EN_b EN_h (lw_V q1687 q1689 qs108 q124 q1690) 1 rfl hl.1 (Nat.le_of_ble_eq_true rfl) hdV_X6_putAside ⟨by decide, by decide⟩ ⟨Nat.le_refl _, Nat.le_refl _⟩ dX6_asides_28) (fun r u H locs hp O _ => ?_)
  cases hp
  have O : XH D A s.heap h (xct LM okM h d σ_7) H locs := O
  obtain ⟨σ_9, eσ_9, hf⟩ := lt1_s hf
  refine x_pI X K O 2 rfl LM_99 rfl rfl in_X6 tyX6_ok nmX6 (by decide) q1152 rfl rfl rfl dX6_asides_31 (fun H locs O => ?_)
  rw [← eσ_9] at O
  refine lv_aload_n hx hb dX6_asides_34 rfl (lv_at hl 0 rfl) ?_
  refine lv_aload_n hx hb dX6_asides_35 rfl (lv_at hl 0 rfl) ?_
  refine lv_aload_n hx hb dX6_asides_36 rfl (lv_at hl 0 rfl) ?_
  refine x_gI X K O 3 rfl LM_99 rfl rfl in_X6 (by decide) q1153 dX6_asides_37 ?_
  obtain ⟨σ_10, r_11, hg, hf⟩ := bn2_s hf
  refine x_calli (x_runV (As := [.int (gI σ_9 99 0 0 3)]) (rest := [.ref (h 99 0 0)]) X K O (xct_obj rfl LM_99) rfl (m_M_X6_putAside hg) EN_b EN_h (lw_V q1687 q1689 qs108 q124 q1690) 1 rfl hl.1 (Nat.le_of_ble_eq_true rfl) hdV_X6_putAside ⟨by decide, by decide⟩ ⟨Nat.le_refl _, Nat.le_refl _⟩ dX6_asides_40) (fun r u H locs hp O _ => ?_)
  cases hp
  have O : XH D A s.heap h (xct LM okM h d σ_10) H locs := O
  obtain ⟨σ_12, eσ_12, hf⟩ := lt1_s hf
  refine x_pI X K O 3 rfl LM_99 rfl rfl in_X6 tyX6_ok nmX6 (by decide) q1153 rfl rfl rfl dX6_asides_43 (fun H locs O => ?_)
  rw [← eσ_12] at O
  refine lv_aload_n hx hb dX6_asides_46 rfl (lv_at hl 0 rfl) ?_
  refine lv_aload_n hx hb dX6_asides_47 rfl (lv_at hl 0 rfl) ?_
  refine lv_aload_n hx hb dX6_asides_48 rfl (lv_at hl 0 rfl) ?_
  refine x_gI X K O 4 rfl LM_99 rfl rfl in_X6 (by decide) q1154 dX6_asides_49 ?_
  obtain ⟨σ_13, r_14, hg, hf⟩ := bn2_s hf
  refine x_calli (x_runV (As := [.int (gI σ_12 99 0 0 4)]) (rest := [.ref (h 99 0 0)]) X K O (xct_obj rfl LM_99) rfl (m_M_X6_putAside hg) EN_b EN_h (lw_V q1687 q1689 qs108 q124 q1690) 1 rfl hl.1 (Nat.le_of_ble_eq_true rfl) hdV_X6_putAside ⟨by decide, by decide⟩ ⟨Nat.le_refl _, Nat.le_refl _⟩ dX6_asides_52) (fun r u H locs hp O _ => ?_)
  cases hp
  have O : XH D A s.heap h (xct LM okM h d σ_13) H locs := O
  obtain ⟨σ_15, eσ_15, hf⟩ := lt1_s hf
  refine x_pI X K O 4 rfl LM_99 rfl rfl in_X6 tyX6_ok nmX6 (by decide) q1154 rfl rfl rfl dX6_asides_55 (fun H locs O => ?_)
  rw [← eσ_15] at O
  refine lv_iconst (v := 0) hx hb dX6_asides_58 (by decide) ?_
  refine lv_istore_n (lv' := [(2, .int 0), (0, .ref (h 99 0 0)), (1, .int p1)]) hx hb dX6_asides_59 rfl hl (by decide) rfl (fun ls hl => ?_)
  exact w_M_X6_asides_b60 X K _ _ _ ls _ _ O (lv_sub hl [1, 0] rfl) hf
theorem hdV_X6_asides : yX6_asides.cls = RX6 ∧ (yX6_asides.cls ≠ "java/lang/invoke/MethodHandle" ∧ yX6_asides.cls ≠ "java/lang/invoke/VarHandle" ∧ (parseMethodDescriptor yX6_asides.desc).map (fun d => d.parameters.length) = some 1) := by decide +kernel
theorem hdV_X6_purses : yX6_purses.cls = RX6 ∧ (yX6_purses.cls ≠ "java/lang/invoke/MethodHandle" ∧ yX6_purses.cls ≠ "java/lang/invoke/VarHandle" ∧ (parseMethodDescriptor yX6_purses.desc).map (fun d => d.parameters.length) = some 0) := by decide +kernel
def M_X6_thinks_b99 (σ : ST) (s0 : Int32) : Option (ST × Int32) :=
  bn1 (M_X6_asides σ 0) (fun σ_1 => some (σ_1, s0))
theorem w_M_X6_thinks_b99 (X : FX p m c meth s args RX6 cX6_thinks 7 (some .int)) (K : XK D d A s) {z : ST × Int32} (σ : ST) (s0 : Int32) (ls : Array Slot) (H : Heap) (locs : List Loc) (O : XH D A s.heap h (xct LM okM h d σ) H locs) (hl : lv_has ls 7 [(0, .ref (h 99 0 0))]) (hf : M_X6_thinks_b99 σ s0 = some z) : W p l e (rmD 7 0 0) s m args below meth c H locs 0 0 (MQ below (Qi D (pz z) (cw h LM okM d) A) args s 0 0 A) (F0 m 99 ls [.int s0]) := by
  have hx := X.1.1; have hb := X.1.2.1
  rw [M_X6_thinks_b99] at hf
  refine lv_istore (lv' := [(6, .int s0), (0, .ref (h 99 0 0))]) hx hb dX6_thinks_99 hl (by decide) rfl (fun ls hl => ?_)
  refine lv_aload_n hx hb dX6_thinks_101 rfl (lv_at hl 1 rfl) ?_
  refine lv_iconst (v := 0) hx hb dX6_thinks_102 (by decide) ?_
  obtain ⟨σ_1, hg, hf⟩ := bn1_s hf
  refine x_callv (x_runV (As := [.int 0]) (rest := []) X K O (xct_obj rfl LM_99) rfl (m_M_X6_asides hg) EN_b EN_h (lw_V q1683 q1685 qs107 q124 q1686) 1 rfl hl.1 (Nat.le_of_ble_eq_true rfl) hdV_X6_asides ⟨by decide, by decide⟩ ⟨Nat.le_refl _, Nat.le_refl _⟩ dX6_thinks_103) (fun u H locs hp O _ => ?_)
  cases hp
  have O : XH D A s.heap h (xct LM okM h d σ_1) H locs := O
  refine lv_iload hx hb dX6_thinks_106 (lv_at hl 0 rfl) ?_
  exact x_iret X O rfl _ (Option.some.inj hf).symm rfl dX6_thinks_108
def M_X6_thinks_b38 : Nat → ST → Int32 → Int32 → Int32 → Int32 → Int32 → Option (ST × Int32)
  | 0, _, _, _, _, _, _ => none
  | n + 1, σ, x1, x3, x4, x5, x6 =>
    (if x1 ≤ x6 then (if x3 = 0 then bn2 (M_X6_purses σ) (fun σ_5 r_6 => M_X6_thinks_b99 σ_5 (r_6 - x4)) else (if x3 = 1 then M_X6_thinks_b99 σ ((gI σ 99 0 0 4) - x5) else (if x3 = 2 then M_X6_thinks_b99 σ (gI σ 99 0 0 32) else M_X6_thinks_b99 σ (gI σ 99 0 0 33)))) else bn1 (M_X6_goesBy σ) (fun σ_7 => lt1 (x6 + 1) (fun x6_8 => (M_X6_thinks_b38 n) σ_7 x1 x3 x4 x5 x6_8)))
theorem w_M_X6_thinks_b38 (X : FX p m c meth s args RX6 cX6_thinks 7 (some .int)) (K : XK D d A s) {z : ST × Int32} : ∀ (n : Nat) (σ : ST) (x1 : Int32) (x3 : Int32) (x4 : Int32) (x5 : Int32) (x6 : Int32) (ls : Array Slot) (H : Heap) (locs : List Loc), XH D A s.heap h (xct LM okM h d σ) H locs → lv_has ls 7 [(0, .ref (h 99 0 0)), (1, .int x1), (3, .int x3), (4, .int x4), (5, .int x5), (6, .int x6)] → M_X6_thinks_b38 n σ x1 x3 x4 x5 x6 = some z → W p l e (rmD 7 0 0) s m args below meth c H locs 0 0 (MQ below (Qi D (pz z) (cw h LM okM d) A) args s 0 0 A) (F0 m 38 ls []) := by
  have hx := X.1.1; have hb := X.1.2.1
  intro n
  induction n with
  | zero =>
    intro σ x1 x3 x4 x5 x6 ls H locs O hl hf
    exact absurd hf (fun q => by cases q)
  | succ n ih =>
    intro σ x1 x3 x4 x5 x6 ls H locs O hl hf
    rw [M_X6_thinks_b38] at hf
    refine lv_iload hx hb dX6_thinks_38 (lv_at hl 5 rfl) ?_
    refine lv_iload_n hx hb dX6_thinks_40 rfl (lv_at hl 1 rfl) ?_
    refine lv_icmp_ge (tgt := 54) hx hb dX6_thinks_41 (by decide) (fun c_1 => ?_) (fun c_1 => ?_)
    · replace hf := if_t c_1 hf
      refine lv_iload_n hx hb dX6_thinks_54 rfl (lv_at hl 2 rfl) ?_
      refine lv_if_ne (tgt := 68) hx hb dX6_thinks_55 (by decide) (fun c_2 => ?_) (fun c_2 => ?_)
      · replace hf := if_f c_2 hf
        refine lv_iload_n hx hb dX6_thinks_68 rfl (lv_at hl 2 rfl) ?_
        refine lv_iconst (v := 1) hx hb dX6_thinks_69 (by decide) ?_
        refine lv_icmp_ne (tgt := 83) hx hb dX6_thinks_70 (by decide) (fun c_3 => ?_) (fun c_3 => ?_)
        · replace hf := if_f c_3 hf
          refine lv_iload_n hx hb dX6_thinks_83 rfl (lv_at hl 2 rfl) ?_
          refine lv_iconst (v := 2) hx hb dX6_thinks_84 (by decide) ?_
          refine lv_icmp_ne (tgt := 95) hx hb dX6_thinks_85 (by decide) (fun c_4 => ?_) (fun c_4 => ?_)
          · replace hf := if_f c_4 hf
            refine lv_aload_n hx hb dX6_thinks_95 rfl (lv_at hl 0 rfl) ?_
            refine x_gI X K O 33 rfl LM_99 rfl rfl in_X6 (by decide) q1183 dX6_thinks_96 ?_
            exact w_M_X6_thinks_b99 X K _ _ ls _ _ O (lv_sub hl [0] rfl) hf
          · replace hf := if_t c_4 hf
            refine lv_aload_n hx hb dX6_thinks_88 rfl (lv_at hl 0 rfl) ?_
            refine x_gI X K O 32 rfl LM_99 rfl rfl in_X6 (by decide) q1182 dX6_thinks_89 ?_
            refine lv_goto (tgt := 99) hx hb dX6_thinks_92 (by decide) ?_
            exact w_M_X6_thinks_b99 X K _ _ ls _ _ O (lv_sub hl [0] rfl) hf
        · replace hf := if_t c_3 hf
          refine lv_aload_n hx hb dX6_thinks_73 rfl (lv_at hl 0 rfl) ?_
          refine x_gI X K O 4 rfl LM_99 rfl rfl in_X6 (by decide) q1154 dX6_thinks_74 ?_
          refine lv_iload hx hb dX6_thinks_77 (lv_at hl 4 rfl) ?_
          refine lv_isub hx hb dX6_thinks_79 ?_
          refine lv_goto (tgt := 99) hx hb dX6_thinks_80 (by decide) ?_
          exact w_M_X6_thinks_b99 X K _ _ ls _ _ O (lv_sub hl [0] rfl) hf
      · replace hf := if_t c_2 hf
        refine lv_aload_n hx hb dX6_thinks_58 rfl (lv_at hl 0 rfl) ?_
        obtain ⟨σ_5, r_6, hg, hf⟩ := bn2_s hf
        refine x_calli (x_runV (As := []) (rest := []) X K O (xct_obj rfl LM_99) rfl (m_M_X6_purses hg) EN_b EN_h (lw_V q1679 q1681 qs106 q124 q1682) 0 rfl hl.1 (Nat.le_of_ble_eq_true rfl) hdV_X6_purses ⟨by decide, by decide⟩ ⟨Nat.le_refl _, Nat.le_refl _⟩ dX6_thinks_59) (fun r u H locs hp O _ => ?_)
        cases hp
        have O : XH D A s.heap h (xct LM okM h d σ_5) H locs := O
        refine lv_iload hx hb dX6_thinks_62 (lv_at hl 3 rfl) ?_
        refine lv_isub hx hb dX6_thinks_64 ?_
        refine lv_goto (tgt := 99) hx hb dX6_thinks_65 (by decide) ?_
        exact w_M_X6_thinks_b99 X K _ _ ls _ _ O (lv_sub hl [0] rfl) hf
    · replace hf := if_f c_1 hf
      refine lv_aload_n hx hb dX6_thinks_44 rfl (lv_at hl 0 rfl) ?_
      obtain ⟨σ_7, hg, hf⟩ := bn1_s hf
      refine x_callv (x_runV (As := []) (rest := []) X K O (xct_obj rfl LM_99) rfl (m_M_X6_goesBy hg) EN_b EN_h (lw_V q1526 q1528 qs83 q124 q1529) 0 rfl hl.1 (Nat.le_of_ble_eq_true rfl) hdV_X6_goesBy ⟨by decide, by decide⟩ ⟨Nat.le_refl _, Nat.le_refl _⟩ dX6_thinks_45) (fun u H locs hp O _ => ?_)
      cases hp
      have O : XH D A s.heap h (xct LM okM h d σ_7) H locs := O
      obtain ⟨x6_8, ex6_8, hf⟩ := lt1_s hf
      refine lv_iinc (v := x6_8) (lv' := [(6, .int x6_8), (0, .ref (h 99 0 0)), (1, .int x1), (3, .int x3), (4, .int x4), (5, .int x5)]) hx hb dX6_thinks_48 hl (k := 5) rfl (by rw [ex6_8]; rfl) (by decide) rfl (fun ls hl => ?_)
      refine lv_goto (tgt := 38) hx hb dX6_thinks_51 (by decide) ?_
      exact ih _ _ _ _ _ _ ls _ _ O (lv_sub hl [1, 2, 3, 4, 5, 0] rfl) hf
def M_X6_thinks (σ : ST) (p1 : Int32) (p2 : Int32) (p3 : Int32) : Option (ST × Int32) :=
  bn2 (M_X6_purses σ) (fun σ_1 r_2 => lt1 (gI σ_1 99 0 0 4) (fun x5_3 => bn1 (M_X6_asides σ_1 1) (fun σ_4 => lt1 (sI σ_4 6 0 0 9 p2) (fun σ_5 => lt1 (sI σ_5 99 0 0 32 0) (fun σ_6 => lt1 (sI σ_6 99 0 0 33 0) (fun σ_7 => M_X6_thinks_b38 FUEL σ_7 p1 p3 r_2 x5_3 0))))))
theorem m_M_X6_thinks {l : Launch} {D : va_G} {d : Nat → ClassId} {h : IX} {p1 : Int32} {p2 : Int32} {p3 : Int32} {σ : ST} {z : ST × Int32} (hf : M_X6_thinks σ p1 p2 p3 = some z) : XM l D d EN yX6_thinks cX6_thinks 7 (some .int) 7 0 0 [.ref (h 99 0 0), .int p1, .int p2, .int p3] h (xct LM okM h d σ) (Qi D (pz z) (cw h LM okM d)) := by
  refine XM.of (by decide +kernel) (Nat.le_of_ble_eq_true rfl) ?_
  intro p e s m below meth c A ls X _ K _ O hl
  have hl : lv_has ls 7 [(0, .ref (h 99 0 0)), (1, .int p1), (2, .int p2), (3, .int p3)] := hl
  have hx := X.1.1; have hb := X.1.2.1
  rw [M_X6_thinks] at hf
  refine lv_aload_n hx hb dX6_thinks_0 rfl (lv_at hl 0 rfl) ?_
  obtain ⟨σ_1, r_2, hg, hf⟩ := bn2_s hf
  refine x_calli (x_runV (As := []) (rest := []) X K O (xct_obj rfl LM_99) rfl (m_M_X6_purses hg) EN_b EN_h (lw_V q1679 q1681 qs106 q124 q1682) 0 rfl hl.1 (Nat.le_of_ble_eq_true rfl) hdV_X6_purses ⟨by decide, by decide⟩ ⟨Nat.le_refl _, Nat.le_refl _⟩ dX6_thinks_1) (fun r u H locs hp O _ => ?_)
  cases hp
  have O : XH D A s.heap h (xct LM okM h d σ_1) H locs := O
  refine lv_istore (lv' := [(4, .int r_2), (0, .ref (h 99 0 0)), (1, .int p1), (2, .int p2), (3, .int p3)]) hx hb dX6_thinks_4 hl (by decide) rfl (fun ls hl => ?_)
  refine lv_aload_n hx hb dX6_thinks_6 rfl (lv_at hl 1 rfl) ?_
  refine x_gI X K O 4 rfl LM_99 rfl rfl in_X6 (by decide) q1154 dX6_thinks_7 ?_
  obtain ⟨x5_3, ex5_3, hf⟩ := lt1_s hf
  refine x_top (w := .int x5_3) (by rw [ex5_3]) ?_
  refine lv_istore (lv' := [(5, .int x5_3), (4, .int r_2), (0, .ref (h 99 0 0)), (1, .int p1), (2, .int p2), (3, .int p3)]) hx hb dX6_thinks_10 hl (by decide) rfl (fun ls hl => ?_)
  refine lv_aload_n hx hb dX6_thinks_12 rfl (lv_at hl 2 rfl) ?_
  refine lv_iconst (v := 1) hx hb dX6_thinks_13 (by decide) ?_
  obtain ⟨σ_4, hg, hf⟩ := bn1_s hf
  refine x_callv (x_runV (As := [.int 1]) (rest := []) X K O (xct_obj rfl LM_99) rfl (m_M_X6_asides hg) EN_b EN_h (lw_V q1683 q1685 qs107 q124 q1686) 1 rfl hl.1 (Nat.le_of_ble_eq_true rfl) hdV_X6_asides ⟨by decide, by decide⟩ ⟨Nat.le_refl _, Nat.le_refl _⟩ dX6_thinks_14) (fun u H locs hp O _ => ?_)
  cases hp
  have O : XH D A s.heap h (xct LM okM h d σ_4) H locs := O
  refine lv_aload_n hx hb dX6_thinks_17 rfl (lv_at hl 2 rfl) ?_
  refine x_gF X K O 6 rfl LM_99 rfl rfl in_X6 (by decide) q1156 dX6_thinks_18 ?_
  refine lv_bipush (v := 9) hx hb dX6_thinks_21 (by decide) ?_
  refine lv_iload_n hx hb dX6_thinks_23 rfl (lv_at hl 4 rfl) ?_
  obtain ⟨σ_5, eσ_5, hf⟩ := lt1_s hf
  refine x_ist X K O rfl LM_6 (by decide) (j := 9) rfl dX6_thinks_24 (fun H locs O => ?_)
  rw [← eσ_5] at O
  refine lv_aload_n hx hb dX6_thinks_25 rfl (lv_at hl 2 rfl) ?_
  refine lv_iconst (v := 0) hx hb dX6_thinks_26 (by decide) ?_
  obtain ⟨σ_6, eσ_6, hf⟩ := lt1_s hf
  refine x_pI X K O 32 rfl LM_99 rfl rfl in_X6 tyX6_ok nmX6 (by decide) q1182 rfl rfl rfl dX6_thinks_27 (fun H locs O => ?_)
  rw [← eσ_6] at O
  refine lv_aload_n hx hb dX6_thinks_30 rfl (lv_at hl 2 rfl) ?_
  refine lv_iconst (v := 0) hx hb dX6_thinks_31 (by decide) ?_
  obtain ⟨σ_7, eσ_7, hf⟩ := lt1_s hf
  refine x_pI X K O 33 rfl LM_99 rfl rfl in_X6 tyX6_ok nmX6 (by decide) q1183 rfl rfl rfl dX6_thinks_32 (fun H locs O => ?_)
  rw [← eσ_7] at O
  refine lv_iconst (v := 0) hx hb dX6_thinks_35 (by decide) ?_
  refine lv_istore (lv' := [(6, .int 0), (5, .int x5_3), (4, .int r_2), (0, .ref (h 99 0 0)), (1, .int p1), (2, .int p2), (3, .int p3)]) hx hb dX6_thinks_36 hl (by decide) rfl (fun ls hl => ?_)
  exact w_M_X6_thinks_b38 X K _ _ _ _ _ _ _ ls _ _ O (lv_sub hl [3, 4, 6, 2, 1, 0] rfl) hf
theorem hdV_X6_thinks : yX6_thinks.cls = RX6 ∧ (yX6_thinks.cls ≠ "java/lang/invoke/MethodHandle" ∧ yX6_thinks.cls ≠ "java/lang/invoke/VarHandle" ∧ (parseMethodDescriptor yX6_thinks.desc).map (fun d => d.parameters.length) = some 3) := by decide +kernel
def M_X6_thought (σ : ST) (p1 : Int32) (p2 : Int32) (p3 : Int32) : Option (ST × Int32) :=
  lt1 (sI σ 99 0 0 0 0) (fun σ_1 => bn2 (M_X6_isIn σ_1 p1 1 30) (fun σ_2 r_3 => (if r_3 = 0 then some (σ_2, (-10000000)) else bn2 (M_X6_isIn σ_2 p2 (-1) 1) (fun σ_5 r_6 => (if r_6 = 0 then some (σ_5, (-10000000)) else (if p2 = (-1) then bn2 (M_X6_thinks σ_5 p1 1 0) (fun σ_14 r_15 => bn2 (M_X6_thinks σ_14 p1 0 0) (fun σ_16 r_17 => (if r_15 ≤ r_17 then some (σ_16, 0) else some (σ_16, 1)))) else bn2 (M_X6_isIn σ_5 p3 0 3) (fun σ_9 r_10 => (if r_10 = 0 then some (σ_9, (-10000000)) else bn2 (M_X6_thinks σ_9 p1 p2 p3) (fun σ_12 r_13 => some (σ_12, r_13))))))))))
theorem m_M_X6_thought {l : Launch} {D : va_G} {d : Nat → ClassId} {h : IX} {p1 : Int32} {p2 : Int32} {p3 : Int32} {σ : ST} {z : ST × Int32} (hf : M_X6_thought σ p1 p2 p3 = some z) : XM l D d EN yX6_thought cX6_thought 4 (some .int) 8 0 0 [.ref (h 99 0 0), .int p1, .int p2, .int p3] h (xct LM okM h d σ) (Qi D (pz z) (cw h LM okM d)) := by
  refine XM.of (by decide +kernel) (Nat.le_of_ble_eq_true rfl) ?_
  intro p e s m below meth c A ls X _ K _ O hl
  have hl : lv_has ls 4 [(0, .ref (h 99 0 0)), (1, .int p1), (2, .int p2), (3, .int p3)] := hl
  have hx := X.1.1; have hb := X.1.2.1
  rw [M_X6_thought] at hf
  refine lv_aload_n hx hb dX6_thought_0 rfl (lv_at hl 0 rfl) ?_
  refine lv_iconst (v := 0) hx hb dX6_thought_1 (by decide) ?_
  obtain ⟨σ_1, eσ_1, hf⟩ := lt1_s hf
  refine x_pI X K O 0 rfl LM_99 rfl rfl in_X6 tyX6_ok nmX6 (by decide) q1150 rfl rfl rfl dX6_thought_2 (fun H locs O => ?_)
  rw [← eσ_1] at O
  refine lv_aload_n hx hb dX6_thought_5 rfl (lv_at hl 0 rfl) ?_
  refine lv_iload_n hx hb dX6_thought_6 rfl (lv_at hl 1 rfl) ?_
  refine lv_iconst (v := 1) hx hb dX6_thought_7 (by decide) ?_
  refine lv_bipush (v := 30) hx hb dX6_thought_8 (by decide) ?_
  obtain ⟨σ_2, r_3, hg, hf⟩ := bn2_s hf
  refine x_calli (x_runV (As := [.int p1, .int 1, .int 30]) (rest := []) X K O (xct_obj rfl LM_99) rfl (m_M_X6_isIn hg) EN_b EN_h (lw_V q1327 q1329 qs45 q124 q1330) 3 rfl hl.1 (Nat.le_of_ble_eq_true rfl) hdV_X6_isIn ⟨by decide, by decide⟩ ⟨Nat.le_refl _, Nat.le_refl _⟩ dX6_thought_10) (fun r u H locs hp O _ => ?_)
  cases hp
  have O : XH D A s.heap h (xct LM okM h d σ_2) H locs := O
  refine lv_if_eq (tgt := 26) hx hb dX6_thought_13 (by decide) (fun c_4 => ?_) (fun c_4 => ?_)
  · replace hf := if_t c_4 hf
    refine lv_ldc (v := (-10000000)) hx hb X.1.2.2.2.1 (X.1.2.2.2.2 _ q1451) dX6_thought_26 ?_
    exact x_iret X O rfl _ (Option.some.inj hf).symm rfl dX6_thought_28
  · replace hf := if_f c_4 hf
    refine lv_aload_n hx hb dX6_thought_16 rfl (lv_at hl 0 rfl) ?_
    refine lv_iload_n hx hb dX6_thought_17 rfl (lv_at hl 2 rfl) ?_
    refine lv_iconst (v := (-1)) hx hb dX6_thought_18 (by decide) ?_
    refine lv_iconst (v := 1) hx hb dX6_thought_19 (by decide) ?_
    obtain ⟨σ_5, r_6, hg, hf⟩ := bn2_s hf
    refine x_calli (x_runV (As := [.int p2, .int (-1), .int 1]) (rest := []) X K O (xct_obj rfl LM_99) rfl (m_M_X6_isIn hg) EN_b EN_h (lw_V q1327 q1329 qs45 q124 q1330) 3 rfl hl.1 (Nat.le_of_ble_eq_true rfl) hdV_X6_isIn ⟨by decide, by decide⟩ ⟨Nat.le_refl _, Nat.le_refl _⟩ dX6_thought_20) (fun r u H locs hp O _ => ?_)
    cases hp
    have O : XH D A s.heap h (xct LM okM h d σ_5) H locs := O
    refine lv_if_ne (tgt := 29) hx hb dX6_thought_23 (by decide) (fun c_7 => ?_) (fun c_7 => ?_)
    · replace hf := if_f c_7 hf
      refine lv_iload_n hx hb dX6_thought_29 rfl (lv_at hl 2 rfl) ?_
      refine lv_iconst (v := (-1)) hx hb dX6_thought_30 (by decide) ?_
      refine lv_icmp_ne (tgt := 57) hx hb dX6_thought_31 (by decide) (fun c_8 => ?_) (fun c_8 => ?_)
      · replace hf := if_f c_8 hf
        refine lv_aload_n hx hb dX6_thought_57 rfl (lv_at hl 0 rfl) ?_
        refine lv_iload_n hx hb dX6_thought_58 rfl (lv_at hl 3 rfl) ?_
        refine lv_iconst (v := 0) hx hb dX6_thought_59 (by decide) ?_
        refine lv_iconst (v := 3) hx hb dX6_thought_60 (by decide) ?_
        obtain ⟨σ_9, r_10, hg, hf⟩ := bn2_s hf
        refine x_calli (x_runV (As := [.int p3, .int 0, .int 3]) (rest := []) X K O (xct_obj rfl LM_99) rfl (m_M_X6_isIn hg) EN_b EN_h (lw_V q1327 q1329 qs45 q124 q1330) 3 rfl hl.1 (Nat.le_of_ble_eq_true rfl) hdV_X6_isIn ⟨by decide, by decide⟩ ⟨Nat.le_refl _, Nat.le_refl _⟩ dX6_thought_61) (fun r u H locs hp O _ => ?_)
        cases hp
        have O : XH D A s.heap h (xct LM okM h d σ_9) H locs := O
        refine lv_if_eq (tgt := 77) hx hb dX6_thought_64 (by decide) (fun c_11 => ?_) (fun c_11 => ?_)
        · replace hf := if_t c_11 hf
          refine lv_ldc (v := (-10000000)) hx hb X.1.2.2.2.1 (X.1.2.2.2.2 _ q1451) dX6_thought_77 ?_
          exact x_iret X O rfl _ (Option.some.inj hf).symm rfl dX6_thought_79
        · replace hf := if_f c_11 hf
          refine lv_aload_n hx hb dX6_thought_67 rfl (lv_at hl 0 rfl) ?_
          refine lv_iload_n hx hb dX6_thought_68 rfl (lv_at hl 1 rfl) ?_
          refine lv_iload_n hx hb dX6_thought_69 rfl (lv_at hl 2 rfl) ?_
          refine lv_iload_n hx hb dX6_thought_70 rfl (lv_at hl 3 rfl) ?_
          obtain ⟨σ_12, r_13, hg, hf⟩ := bn2_s hf
          refine x_calli (x_runV (As := [.int p1, .int p2, .int p3]) (rest := []) X K O (xct_obj rfl LM_99) rfl (m_M_X6_thinks hg) EN_b EN_h (lw_V q1675 q1677 qs105 q124 q1678) 3 rfl hl.1 (Nat.le_of_ble_eq_true rfl) hdV_X6_thinks ⟨by decide, by decide⟩ ⟨Nat.le_refl _, Nat.le_refl _⟩ dX6_thought_71) (fun r u H locs hp O _ => ?_)
          cases hp
          have O : XH D A s.heap h (xct LM okM h d σ_12) H locs := O
          refine lv_goto (tgt := 79) hx hb dX6_thought_74 (by decide) ?_
          exact x_iret X O rfl _ (Option.some.inj hf).symm rfl dX6_thought_79
      · replace hf := if_t c_8 hf
        refine lv_aload_n hx hb dX6_thought_34 rfl (lv_at hl 0 rfl) ?_
        refine lv_iload_n hx hb dX6_thought_35 rfl (lv_at hl 1 rfl) ?_
        refine lv_iconst (v := 1) hx hb dX6_thought_36 (by decide) ?_
        refine lv_iconst (v := 0) hx hb dX6_thought_37 (by decide) ?_
        obtain ⟨σ_14, r_15, hg, hf⟩ := bn2_s hf
        refine x_calli (x_runV (As := [.int p1, .int 1, .int 0]) (rest := []) X K O (xct_obj rfl LM_99) rfl (m_M_X6_thinks hg) EN_b EN_h (lw_V q1675 q1677 qs105 q124 q1678) 3 rfl hl.1 (Nat.le_of_ble_eq_true rfl) hdV_X6_thinks ⟨by decide, by decide⟩ ⟨Nat.le_refl _, Nat.le_refl _⟩ dX6_thought_38) (fun r u H locs hp O _ => ?_)
        cases hp
        have O : XH D A s.heap h (xct LM okM h d σ_14) H locs := O
        refine lv_aload_n hx hb dX6_thought_41 rfl (lv_at hl 0 rfl) ?_
        refine lv_iload_n hx hb dX6_thought_42 rfl (lv_at hl 1 rfl) ?_
        refine lv_iconst (v := 0) hx hb dX6_thought_43 (by decide) ?_
        refine lv_iconst (v := 0) hx hb dX6_thought_44 (by decide) ?_
        obtain ⟨σ_16, r_17, hg, hf⟩ := bn2_s hf
        refine x_calli (x_runV (As := [.int p1, .int 0, .int 0]) (rest := [.int r_15]) X K O (xct_obj rfl LM_99) rfl (m_M_X6_thinks hg) EN_b EN_h (lw_V q1675 q1677 qs105 q124 q1678) 3 rfl hl.1 (Nat.le_of_ble_eq_true rfl) hdV_X6_thinks ⟨by decide, by decide⟩ ⟨Nat.le_refl _, Nat.le_refl _⟩ dX6_thought_45) (fun r u H locs hp O _ => ?_)
        cases hp
        have O : XH D A s.heap h (xct LM okM h d σ_16) H locs := O
        refine lv_icmp_le (tgt := 55) hx hb dX6_thought_48 (by decide) (fun c_18 => ?_) (fun c_18 => ?_)
        · replace hf := if_t c_18 hf
          refine lv_iconst (v := 0) hx hb dX6_thought_55 (by decide) ?_
          exact x_iret X O rfl _ (Option.some.inj hf).symm rfl dX6_thought_56
        · replace hf := if_f c_18 hf
          refine lv_iconst (v := 1) hx hb dX6_thought_51 (by decide) ?_
          refine lv_goto (tgt := 56) hx hb dX6_thought_52 (by decide) ?_
          exact x_iret X O rfl _ (Option.some.inj hf).symm rfl dX6_thought_56
    · replace hf := if_t c_7 hf
      refine lv_ldc (v := (-10000000)) hx hb X.1.2.2.2.1 (X.1.2.2.2.2 _ q1451) dX6_thought_26 ?_
      exact x_iret X O rfl _ (Option.some.inj hf).symm rfl dX6_thought_28
def M_X6_told_b37 : Nat → ST → Int32 → Int32 → Int32 → Int32 → Option (ST × Int32)
  | 0, _, _, _, _, _ => none
  | n + 1, σ, x1, x2, x3, x4 =>
    (if 12 < x4 then some (σ, (-100)) else bn2 (M_X6_isLawful σ x1 x4) (fun σ_2 r_3 => (if r_3 = 0 then lt1 (x4 + 1) (fun x4_5 => (M_X6_told_b37 n) σ_2 x1 x2 x3 x4_5) else (if x3 = 0 then some (σ_2, x4) else some (σ_2, (x4 - x2))))))
theorem w_M_X6_told_b37 (X : FX p m c meth s args RX6 cX6_told 5 (some .int)) (K : XK D d A s) {z : ST × Int32} : ∀ (n : Nat) (σ : ST) (x1 : Int32) (x2 : Int32) (x3 : Int32) (x4 : Int32) (ls : Array Slot) (H : Heap) (locs : List Loc), XH D A s.heap h (xct LM okM h d σ) H locs → lv_has ls 5 [(0, .ref (h 99 0 0)), (1, .int x1), (2, .int x2), (3, .int x3), (4, .int x4)] → M_X6_told_b37 n σ x1 x2 x3 x4 = some z → W p l e (rmD 3 0 0) s m args below meth c H locs 0 0 (MQ below (Qi D (pz z) (cw h LM okM d) A) args s 0 0 A) (F0 m 37 ls []) := by
  have hx := X.1.1; have hb := X.1.2.1
  intro n
  induction n with
  | zero =>
    intro σ x1 x2 x3 x4 ls H locs O hl hf
    exact absurd hf (fun q => by cases q)
  | succ n ih =>
    intro σ x1 x2 x3 x4 ls H locs O hl hf
    rw [M_X6_told_b37] at hf
    refine lv_iload hx hb dX6_told_37 (lv_at hl 4 rfl) ?_
    refine lv_bipush (v := 12) hx hb dX6_told_39 (by decide) ?_
    refine lv_icmp_gt (tgt := 74) hx hb dX6_told_41 (by decide) (fun c_1 => ?_) (fun c_1 => ?_)
    · replace hf := if_t c_1 hf
      refine lv_bipush (v := (-100)) hx hb dX6_told_74 (by decide) ?_
      exact x_iret X O rfl _ (Option.some.inj hf).symm rfl dX6_told_76
    · replace hf := if_f c_1 hf
      refine lv_aload_n hx hb dX6_told_44 rfl (lv_at hl 0 rfl) ?_
      refine lv_iload_n hx hb dX6_told_45 rfl (lv_at hl 1 rfl) ?_
      refine lv_iload hx hb dX6_told_46 (lv_at hl 4 rfl) ?_
      obtain ⟨σ_2, r_3, hg, hf⟩ := bn2_s hf
      refine x_calli (x_runV (As := [.int x1, .int x4]) (rest := []) X K O (xct_obj rfl LM_99) rfl (m_M_X6_isLawful hg) EN_b EN_h (lw_V q1468 q1470 qs72 q124 q1471) 2 rfl hl.1 (Nat.le_of_ble_eq_true rfl) hdV_X6_isLawful ⟨by decide, by decide⟩ ⟨Nat.le_refl _, Nat.le_refl _⟩ dX6_told_48) (fun r u H locs hp O _ => ?_)
      cases hp
      have O : XH D A s.heap h (xct LM okM h d σ_2) H locs := O
      refine lv_if_eq (tgt := 68) hx hb dX6_told_51 (by decide) (fun c_4 => ?_) (fun c_4 => ?_)
      · replace hf := if_t c_4 hf
        obtain ⟨x4_5, ex4_5, hf⟩ := lt1_s hf
        refine lv_iinc (v := x4_5) (lv' := [(4, .int x4_5), (0, .ref (h 99 0 0)), (1, .int x1), (2, .int x2), (3, .int x3)]) hx hb dX6_told_68 hl (k := 4) rfl (by rw [ex4_5]; rfl) (by decide) rfl (fun ls hl => ?_)
        refine lv_goto (tgt := 37) hx hb dX6_told_71 (by decide) ?_
        exact ih _ _ _ _ _ ls _ _ O (lv_sub hl [1, 2, 3, 4, 0] rfl) hf
      · replace hf := if_f c_4 hf
        refine lv_iload_n hx hb dX6_told_54 rfl (lv_at hl 3 rfl) ?_
        refine lv_if_ne (tgt := 63) hx hb dX6_told_55 (by decide) (fun c_6 => ?_) (fun c_6 => ?_)
        · replace hf := if_f c_6 hf
          refine lv_iload hx hb dX6_told_63 (lv_at hl 4 rfl) ?_
          refine lv_iload_n hx hb dX6_told_65 rfl (lv_at hl 2 rfl) ?_
          refine lv_isub hx hb dX6_told_66 ?_
          exact x_iret X O rfl _ (Option.some.inj hf).symm rfl dX6_told_67
        · replace hf := if_t c_6 hf
          refine lv_iload hx hb dX6_told_58 (lv_at hl 4 rfl) ?_
          refine lv_goto (tgt := 67) hx hb dX6_told_60 (by decide) ?_
          exact x_iret X O rfl _ (Option.some.inj hf).symm rfl dX6_told_67
def M_X6_told (σ : ST) (p1 : Int32) (p2 : Int32) (p3 : Int32) : Option (ST × Int32) :=
  lt1 (sI σ 99 0 0 0 0) (fun σ_1 => bn2 (M_X6_isOne σ_1 p1) (fun σ_2 r_3 => (if r_3 = 0 then some (σ_2, (-100)) else bn2 (M_X6_isSize σ_2 p2) (fun σ_5 r_6 => (if r_6 = 0 then some (σ_5, (-100)) else bn2 (M_X6_isIn σ_5 p3 0 1) (fun σ_8 r_9 => (if r_9 = 0 then some (σ_8, (-100)) else M_X6_told_b37 FUEL σ_8 p1 p2 p3 1)))))))
theorem m_M_X6_told {l : Launch} {D : va_G} {d : Nat → ClassId} {h : IX} {p1 : Int32} {p2 : Int32} {p3 : Int32} {σ : ST} {z : ST × Int32} (hf : M_X6_told σ p1 p2 p3 = some z) : XM l D d EN yX6_told cX6_told 5 (some .int) 3 0 0 [.ref (h 99 0 0), .int p1, .int p2, .int p3] h (xct LM okM h d σ) (Qi D (pz z) (cw h LM okM d)) := by
  refine XM.of (by decide +kernel) (Nat.le_of_ble_eq_true rfl) ?_
  intro p e s m below meth c A ls X _ K _ O hl
  have hl : lv_has ls 5 [(0, .ref (h 99 0 0)), (1, .int p1), (2, .int p2), (3, .int p3)] := hl
  have hx := X.1.1; have hb := X.1.2.1
  rw [M_X6_told] at hf
  refine lv_aload_n hx hb dX6_told_0 rfl (lv_at hl 0 rfl) ?_
  refine lv_iconst (v := 0) hx hb dX6_told_1 (by decide) ?_
  obtain ⟨σ_1, eσ_1, hf⟩ := lt1_s hf
  refine x_pI X K O 0 rfl LM_99 rfl rfl in_X6 tyX6_ok nmX6 (by decide) q1150 rfl rfl rfl dX6_told_2 (fun H locs O => ?_)
  rw [← eσ_1] at O
  refine lv_aload_n hx hb dX6_told_5 rfl (lv_at hl 0 rfl) ?_
  refine lv_iload_n hx hb dX6_told_6 rfl (lv_at hl 1 rfl) ?_
  obtain ⟨σ_2, r_3, hg, hf⟩ := bn2_s hf
  refine x_calli (x_runV (As := [.int p1]) (rest := []) X K O (xct_obj rfl LM_99) rfl (m_M_X6_isOne hg) EN_b EN_h (lw_V q1339 q1341 qs47 q124 q1342) 1 rfl hl.1 (Nat.le_of_ble_eq_true rfl) hdV_X6_isOne ⟨by decide, by decide⟩ ⟨Nat.le_refl _, Nat.le_refl _⟩ dX6_told_7) (fun r u H locs hp O _ => ?_)
  cases hp
  have O : XH D A s.heap h (xct LM okM h d σ_2) H locs := O
  refine lv_if_eq (tgt := 31) hx hb dX6_told_10 (by decide) (fun c_4 => ?_) (fun c_4 => ?_)
  · replace hf := if_t c_4 hf
    refine lv_bipush (v := (-100)) hx hb dX6_told_31 (by decide) ?_
    exact x_iret X O rfl _ (Option.some.inj hf).symm rfl dX6_told_33
  · replace hf := if_f c_4 hf
    refine lv_aload_n hx hb dX6_told_13 rfl (lv_at hl 0 rfl) ?_
    refine lv_iload_n hx hb dX6_told_14 rfl (lv_at hl 2 rfl) ?_
    obtain ⟨σ_5, r_6, hg, hf⟩ := bn2_s hf
    refine x_calli (x_runV (As := [.int p2]) (rest := []) X K O (xct_obj rfl LM_99) rfl (m_M_X6_isSize hg) EN_b EN_h (lw_V q1456 q1458 qs69 q124 q1459) 1 rfl hl.1 (Nat.le_of_ble_eq_true rfl) hdV_X6_isSize ⟨by decide, by decide⟩ ⟨Nat.le_refl _, Nat.le_refl _⟩ dX6_told_15) (fun r u H locs hp O _ => ?_)
    cases hp
    have O : XH D A s.heap h (xct LM okM h d σ_5) H locs := O
    refine lv_if_eq (tgt := 31) hx hb dX6_told_18 (by decide) (fun c_7 => ?_) (fun c_7 => ?_)
    · replace hf := if_t c_7 hf
      refine lv_bipush (v := (-100)) hx hb dX6_told_31 (by decide) ?_
      exact x_iret X O rfl _ (Option.some.inj hf).symm rfl dX6_told_33
    · replace hf := if_f c_7 hf
      refine lv_aload_n hx hb dX6_told_21 rfl (lv_at hl 0 rfl) ?_
      refine lv_iload_n hx hb dX6_told_22 rfl (lv_at hl 3 rfl) ?_
      refine lv_iconst (v := 0) hx hb dX6_told_23 (by decide) ?_
      refine lv_iconst (v := 1) hx hb dX6_told_24 (by decide) ?_
      obtain ⟨σ_8, r_9, hg, hf⟩ := bn2_s hf
      refine x_calli (x_runV (As := [.int p3, .int 0, .int 1]) (rest := []) X K O (xct_obj rfl LM_99) rfl (m_M_X6_isIn hg) EN_b EN_h (lw_V q1327 q1329 qs45 q124 q1330) 3 rfl hl.1 (Nat.le_of_ble_eq_true rfl) hdV_X6_isIn ⟨by decide, by decide⟩ ⟨Nat.le_refl _, Nat.le_refl _⟩ dX6_told_25) (fun r u H locs hp O _ => ?_)
      cases hp
      have O : XH D A s.heap h (xct LM okM h d σ_8) H locs := O
      refine lv_if_ne (tgt := 34) hx hb dX6_told_28 (by decide) (fun c_10 => ?_) (fun c_10 => ?_)
      · replace hf := if_f c_10 hf
        refine lv_iconst (v := 1) hx hb dX6_told_34 (by decide) ?_
        refine lv_istore (lv' := [(4, .int 1), (0, .ref (h 99 0 0)), (1, .int p1), (2, .int p2), (3, .int p3)]) hx hb dX6_told_35 hl (by decide) rfl (fun ls hl => ?_)
        exact w_M_X6_told_b37 X K _ _ _ _ _ _ ls _ _ O (lv_sub hl [1, 2, 3, 4, 0] rfl) hf
      · replace hf := if_t c_10 hf
        refine lv_bipush (v := (-100)) hx hb dX6_told_31 (by decide) ?_
        exact x_iret X O rfl _ (Option.some.inj hf).symm rfl dX6_told_33
def M_X6_keptText (σ : ST) (p1 : Int32) : Option (ST × Int32) :=
  lt1 (sI σ 99 0 0 55 ((gI σ 99 0 0 55) + 1)) (fun σ_1 => (if (gI σ_1 99 0 0 49) = 0 then ck (okI ((gI σ_1 99 0 0 55) - 1) 5200) (some (σ_1, (gI σ_1 54 0 0 (Int32.toNatClampNeg ((gI σ_1 99 0 0 55) - 1))))) else ck (okI ((gI σ_1 99 0 0 55) - 1) 5200) (lt1 (sI σ_1 54 0 0 (Int32.toNatClampNeg ((gI σ_1 99 0 0 55) - 1)) p1) (fun σ_4 => some (σ_4, p1)))))
theorem m_M_X6_keptText {l : Launch} {D : va_G} {d : Nat → ClassId} {h : IX} {p1 : Int32} {σ : ST} {z : ST × Int32} (hf : M_X6_keptText σ p1 = some z) : XM l D d EN yX6_keptText cX6_keptText 2 (some .int) 0 0 0 [.ref (h 99 0 0), .int p1] h (xct LM okM h d σ) (Qi D (pz z) (cw h LM okM d)) := by
  refine XM.of (by decide +kernel) (Nat.le_of_ble_eq_true rfl) ?_
  intro p e s m below meth c A ls X _ K _ O hl
  have hl : lv_has ls 2 [(0, .ref (h 99 0 0)), (1, .int p1)] := hl
  have hx := X.1.1; have hb := X.1.2.1
  rw [M_X6_keptText] at hf
  refine lv_aload_n hx hb dX6_keptText_0 rfl (lv_at hl 0 rfl) ?_
  refine lv_aload_n hx hb dX6_keptText_1 rfl (lv_at hl 0 rfl) ?_
  refine x_gI X K O 55 rfl LM_99 rfl rfl in_X6 (by decide) q1205 dX6_keptText_2 ?_
  refine lv_iconst (v := 1) hx hb dX6_keptText_5 (by decide) ?_
  refine lv_iadd hx hb dX6_keptText_6 ?_
  obtain ⟨σ_1, eσ_1, hf⟩ := lt1_s hf
  refine x_pI X K O 55 rfl LM_99 rfl rfl in_X6 tyX6_ok nmX6 (by decide) q1205 rfl rfl rfl dX6_keptText_7 (fun H locs O => ?_)
  rw [← eσ_1] at O
  refine lv_aload_n hx hb dX6_keptText_10 rfl (lv_at hl 0 rfl) ?_
  refine x_gI X K O 49 rfl LM_99 rfl rfl in_X6 (by decide) q1199 dX6_keptText_11 ?_
  refine lv_if_ne (tgt := 29) hx hb dX6_keptText_14 (by decide) (fun c_2 => ?_) (fun c_2 => ?_)
  · replace hf := if_f c_2 hf
    refine lv_aload_n hx hb dX6_keptText_29 rfl (lv_at hl 0 rfl) ?_
    refine x_gF X K O 54 rfl LM_99 rfl rfl in_X6 (by decide) q1204 dX6_keptText_30 ?_
    refine lv_aload_n hx hb dX6_keptText_33 rfl (lv_at hl 0 rfl) ?_
    refine x_gI X K O 55 rfl LM_99 rfl rfl in_X6 (by decide) q1205 dX6_keptText_34 ?_
    refine lv_iconst (v := 1) hx hb dX6_keptText_37 (by decide) ?_
    refine lv_isub hx hb dX6_keptText_38 ?_
    refine lv_iload_n hx hb dX6_keptText_39 rfl (lv_at hl 1 rfl) ?_
    obtain ⟨c_3, hf⟩ := ck_s hf
    obtain ⟨σ_4, eσ_4, hf⟩ := lt1_s hf
    refine x_ist X K O rfl LM_54 c_3 (j := (Int32.toNatClampNeg ((gI σ_1 99 0 0 55) - 1))) rfl dX6_keptText_40 (fun H locs O => ?_)
    rw [← eσ_4] at O
    refine lv_iload_n hx hb dX6_keptText_41 rfl (lv_at hl 1 rfl) ?_
    exact x_iret X O rfl _ (Option.some.inj hf).symm rfl dX6_keptText_42
  · replace hf := if_t c_2 hf
    refine lv_aload_n hx hb dX6_keptText_17 rfl (lv_at hl 0 rfl) ?_
    refine x_gF X K O 54 rfl LM_99 rfl rfl in_X6 (by decide) q1204 dX6_keptText_18 ?_
    refine lv_aload_n hx hb dX6_keptText_21 rfl (lv_at hl 0 rfl) ?_
    refine x_gI X K O 55 rfl LM_99 rfl rfl in_X6 (by decide) q1205 dX6_keptText_22 ?_
    refine lv_iconst (v := 1) hx hb dX6_keptText_25 (by decide) ?_
    refine lv_isub hx hb dX6_keptText_26 ?_
    obtain ⟨c_5, hf⟩ := ck_s hf
    refine x_ild X K O rfl LM_54 c_5 (j := (Int32.toNatClampNeg ((gI σ_1 99 0 0 55) - 1))) rfl dX6_keptText_27 ?_
    exact x_iret X O rfl _ (Option.some.inj hf).symm rfl dX6_keptText_28
theorem hdV_X6_keptText : yX6_keptText.cls = RX6 ∧ (yX6_keptText.cls ≠ "java/lang/invoke/MethodHandle" ∧ yX6_keptText.cls ≠ "java/lang/invoke/VarHandle" ∧ (parseMethodDescriptor yX6_keptText.desc).map (fun d => d.parameters.length) = some 1) := by decide +kernel
def M_X6_image_b189 : Nat → ST → Int32 → Option (ST × Int32)
  | 0, _, _ => none
  | n + 1, σ, x2 =>
    (if 2400 ≤ x2 then some (σ, 1) else ck (okI x2 2800) (bn2 (M_X6_keptText σ (gI σ 19 0 0 (Int32.toNatClampNeg x2))) (fun σ_3 r_4 => ck (okI x2 2800) (lt1 (sI σ_3 19 0 0 (Int32.toNatClampNeg x2) r_4) (fun σ_6 => ck (okI x2 2800) (bn2 (M_X6_keptText σ_6 (gI σ_6 20 0 0 (Int32.toNatClampNeg x2))) (fun σ_8 r_9 => ck (okI x2 2800) (lt1 (sI σ_8 20 0 0 (Int32.toNatClampNeg x2) r_9) (fun σ_11 => lt1 (x2 + 1) (fun x2_12 => (M_X6_image_b189 n) σ_11 x2_12))))))))))
theorem w_M_X6_image_b189 (X : FX p m c meth s args RX6 cX6_image 3 (some .boolean)) (K : XK D d A s) {z : ST × Int32} : ∀ (n : Nat) (σ : ST) (x2 : Int32) (ls : Array Slot) (H : Heap) (locs : List Loc), XH D A s.heap h (xct LM okM h d σ) H locs → lv_has ls 3 [(0, .ref (h 99 0 0)), (2, .int x2)] → M_X6_image_b189 n σ x2 = some z → W p l e (rmD 2 0 0) s m args below meth c H locs 0 0 (MQ below (Qi D (pz z) (cw h LM okM d) A) args s 0 0 A) (F0 m 189 ls []) := by
  have hx := X.1.1; have hb := X.1.2.1
  intro n
  induction n with
  | zero =>
    intro σ x2 ls H locs O hl hf
    exact absurd hf (fun q => by cases q)
  | succ n ih =>
    intro σ x2 ls H locs O hl hf
    rw [M_X6_image_b189] at hf
    refine lv_iload_n hx hb dX6_image_189 rfl (lv_at hl 1 rfl) ?_
    refine lv_sipush (v := 2400) hx hb dX6_image_190 (by decide) ?_
    refine lv_icmp_ge (tgt := 234) hx hb dX6_image_193 (by decide) (fun c_1 => ?_) (fun c_1 => ?_)
    · replace hf := if_t c_1 hf
      refine lv_iconst (v := 1) hx hb dX6_image_234 (by decide) ?_
      exact x_zret X O rfl rfl _ (Option.some.inj hf).symm rfl dX6_image_235
    · replace hf := if_f c_1 hf
      refine lv_aload_n hx hb dX6_image_196 rfl (lv_at hl 0 rfl) ?_
      refine x_gF X K O 19 rfl LM_99 rfl rfl in_X6 (by decide) q1169 dX6_image_197 ?_
      refine lv_iload_n hx hb dX6_image_200 rfl (lv_at hl 1 rfl) ?_
      refine lv_aload_n hx hb dX6_image_201 rfl (lv_at hl 0 rfl) ?_
      refine lv_aload_n hx hb dX6_image_202 rfl (lv_at hl 0 rfl) ?_
      refine x_gF X K O 19 rfl LM_99 rfl rfl in_X6 (by decide) q1169 dX6_image_203 ?_
      refine lv_iload_n hx hb dX6_image_206 rfl (lv_at hl 1 rfl) ?_
      obtain ⟨c_2, hf⟩ := ck_s hf
      refine x_ild X K O rfl LM_19 c_2 (j := (Int32.toNatClampNeg x2)) rfl dX6_image_207 ?_
      obtain ⟨σ_3, r_4, hg, hf⟩ := bn2_s hf
      refine x_calli (x_runV (As := [.int (gI σ 19 0 0 (Int32.toNatClampNeg x2))]) (rest := [.int x2, .ref (h 19 0 0)]) X K O (xct_obj rfl LM_99) rfl (m_M_X6_keptText hg) EN_b EN_h (lw_V q1699 q1701 qs109 q124 q1702) 1 rfl hl.1 (Nat.le_of_ble_eq_true rfl) hdV_X6_keptText ⟨by decide, by decide⟩ ⟨Nat.le_refl _, Nat.le_refl _⟩ dX6_image_208) (fun r u H locs hp O _ => ?_)
      cases hp
      have O : XH D A s.heap h (xct LM okM h d σ_3) H locs := O
      obtain ⟨c_5, hf⟩ := ck_s hf
      obtain ⟨σ_6, eσ_6, hf⟩ := lt1_s hf
      refine x_ist X K O rfl LM_19 c_5 (j := (Int32.toNatClampNeg x2)) rfl dX6_image_211 (fun H locs O => ?_)
      rw [← eσ_6] at O
      refine lv_aload_n hx hb dX6_image_212 rfl (lv_at hl 0 rfl) ?_
      refine x_gF X K O 20 rfl LM_99 rfl rfl in_X6 (by decide) q1170 dX6_image_213 ?_
      refine lv_iload_n hx hb dX6_image_216 rfl (lv_at hl 1 rfl) ?_
      refine lv_aload_n hx hb dX6_image_217 rfl (lv_at hl 0 rfl) ?_
      refine lv_aload_n hx hb dX6_image_218 rfl (lv_at hl 0 rfl) ?_
      refine x_gF X K O 20 rfl LM_99 rfl rfl in_X6 (by decide) q1170 dX6_image_219 ?_
      refine lv_iload_n hx hb dX6_image_222 rfl (lv_at hl 1 rfl) ?_
      obtain ⟨c_7, hf⟩ := ck_s hf
      refine x_ild X K O rfl LM_20 c_7 (j := (Int32.toNatClampNeg x2)) rfl dX6_image_223 ?_
      obtain ⟨σ_8, r_9, hg, hf⟩ := bn2_s hf
      refine x_calli (x_runV (As := [.int (gI σ_6 20 0 0 (Int32.toNatClampNeg x2))]) (rest := [.int x2, .ref (h 20 0 0)]) X K O (xct_obj rfl LM_99) rfl (m_M_X6_keptText hg) EN_b EN_h (lw_V q1699 q1701 qs109 q124 q1702) 1 rfl hl.1 (Nat.le_of_ble_eq_true rfl) hdV_X6_keptText ⟨by decide, by decide⟩ ⟨Nat.le_refl _, Nat.le_refl _⟩ dX6_image_224) (fun r u H locs hp O _ => ?_)
      cases hp
      have O : XH D A s.heap h (xct LM okM h d σ_8) H locs := O
      obtain ⟨c_10, hf⟩ := ck_s hf
      obtain ⟨σ_11, eσ_11, hf⟩ := lt1_s hf
      refine x_ist X K O rfl LM_20 c_10 (j := (Int32.toNatClampNeg x2)) rfl dX6_image_227 (fun H locs O => ?_)
      rw [← eσ_11] at O
      obtain ⟨x2_12, ex2_12, hf⟩ := lt1_s hf
      refine lv_iinc (v := x2_12) (lv' := [(2, .int x2_12), (0, .ref (h 99 0 0))]) hx hb dX6_image_228 hl (k := 1) rfl (by rw [ex2_12]; rfl) (by decide) rfl (fun ls hl => ?_)
      refine lv_goto (tgt := 189) hx hb dX6_image_231 (by decide) ?_
      exact ih _ _ ls _ _ O (lv_sub hl [1, 0] rfl) hf
def M_X6_image_b127 : Nat → ST → Int32 → Option (ST × Int32)
  | 0, _, _ => none
  | n + 1, σ, x2 =>
    (if 96 ≤ x2 then M_X6_image_b189 FUEL σ 0 else ck (okI x2 112) (bn2 (M_X6_keptText σ (gI σ 16 0 0 (Int32.toNatClampNeg x2))) (fun σ_3 r_4 => ck (okI x2 112) (lt1 (sI σ_3 16 0 0 (Int32.toNatClampNeg x2) r_4) (fun σ_6 => ck (okI x2 112) (bn2 (M_X6_keptText σ_6 (gI σ_6 17 0 0 (Int32.toNatClampNeg x2))) (fun σ_8 r_9 => ck (okI x2 112) (lt1 (sI σ_8 17 0 0 (Int32.toNatClampNeg x2) r_9) (fun σ_11 => ck (okI x2 112) (bn2 (M_X6_keptText σ_11 (gI σ_11 18 0 0 (Int32.toNatClampNeg x2))) (fun σ_13 r_14 => ck (okI x2 112) (lt1 (sI σ_13 18 0 0 (Int32.toNatClampNeg x2) r_14) (fun σ_16 => lt1 (x2 + 1) (fun x2_17 => (M_X6_image_b127 n) σ_16 x2_17))))))))))))))
theorem w_M_X6_image_b127 (X : FX p m c meth s args RX6 cX6_image 3 (some .boolean)) (K : XK D d A s) {z : ST × Int32} : ∀ (n : Nat) (σ : ST) (x2 : Int32) (ls : Array Slot) (H : Heap) (locs : List Loc), XH D A s.heap h (xct LM okM h d σ) H locs → lv_has ls 3 [(0, .ref (h 99 0 0)), (2, .int x2)] → M_X6_image_b127 n σ x2 = some z → W p l e (rmD 2 0 0) s m args below meth c H locs 0 0 (MQ below (Qi D (pz z) (cw h LM okM d) A) args s 0 0 A) (F0 m 127 ls []) := by
  have hx := X.1.1; have hb := X.1.2.1
  intro n
  induction n with
  | zero =>
    intro σ x2 ls H locs O hl hf
    exact absurd hf (fun q => by cases q)
  | succ n ih =>
    intro σ x2 ls H locs O hl hf
    rw [M_X6_image_b127] at hf
    refine lv_iload_n hx hb dX6_image_127 rfl (lv_at hl 1 rfl) ?_
    refine lv_bipush (v := 96) hx hb dX6_image_128 (by decide) ?_
    refine lv_icmp_ge (tgt := 187) hx hb dX6_image_130 (by decide) (fun c_1 => ?_) (fun c_1 => ?_)
    · replace hf := if_t c_1 hf
      refine lv_iconst (v := 0) hx hb dX6_image_187 (by decide) ?_
      refine lv_istore_n (lv' := [(2, .int 0), (0, .ref (h 99 0 0))]) hx hb dX6_image_188 rfl hl (by decide) rfl (fun ls hl => ?_)
      exact w_M_X6_image_b189 X K _ _ _ ls _ _ O (lv_sub hl [1, 0] rfl) hf
    · replace hf := if_f c_1 hf
      refine lv_aload_n hx hb dX6_image_133 rfl (lv_at hl 0 rfl) ?_
      refine x_gF X K O 16 rfl LM_99 rfl rfl in_X6 (by decide) q1166 dX6_image_134 ?_
      refine lv_iload_n hx hb dX6_image_137 rfl (lv_at hl 1 rfl) ?_
      refine lv_aload_n hx hb dX6_image_138 rfl (lv_at hl 0 rfl) ?_
      refine lv_aload_n hx hb dX6_image_139 rfl (lv_at hl 0 rfl) ?_
      refine x_gF X K O 16 rfl LM_99 rfl rfl in_X6 (by decide) q1166 dX6_image_140 ?_
      refine lv_iload_n hx hb dX6_image_143 rfl (lv_at hl 1 rfl) ?_
      obtain ⟨c_2, hf⟩ := ck_s hf
      refine x_ild X K O rfl LM_16 c_2 (j := (Int32.toNatClampNeg x2)) rfl dX6_image_144 ?_
      obtain ⟨σ_3, r_4, hg, hf⟩ := bn2_s hf
      refine x_calli (x_runV (As := [.int (gI σ 16 0 0 (Int32.toNatClampNeg x2))]) (rest := [.int x2, .ref (h 16 0 0)]) X K O (xct_obj rfl LM_99) rfl (m_M_X6_keptText hg) EN_b EN_h (lw_V q1699 q1701 qs109 q124 q1702) 1 rfl hl.1 (Nat.le_of_ble_eq_true rfl) hdV_X6_keptText ⟨by decide, by decide⟩ ⟨Nat.le_refl _, Nat.le_refl _⟩ dX6_image_145) (fun r u H locs hp O _ => ?_)
      cases hp
      have O : XH D A s.heap h (xct LM okM h d σ_3) H locs := O
      obtain ⟨c_5, hf⟩ := ck_s hf
      obtain ⟨σ_6, eσ_6, hf⟩ := lt1_s hf
      refine x_ist X K O rfl LM_16 c_5 (j := (Int32.toNatClampNeg x2)) rfl dX6_image_148 (fun H locs O => ?_)
      rw [← eσ_6] at O
      refine lv_aload_n hx hb dX6_image_149 rfl (lv_at hl 0 rfl) ?_
      refine x_gF X K O 17 rfl LM_99 rfl rfl in_X6 (by decide) q1167 dX6_image_150 ?_
      refine lv_iload_n hx hb dX6_image_153 rfl (lv_at hl 1 rfl) ?_
      refine lv_aload_n hx hb dX6_image_154 rfl (lv_at hl 0 rfl) ?_
      refine lv_aload_n hx hb dX6_image_155 rfl (lv_at hl 0 rfl) ?_
      refine x_gF X K O 17 rfl LM_99 rfl rfl in_X6 (by decide) q1167 dX6_image_156 ?_
      refine lv_iload_n hx hb dX6_image_159 rfl (lv_at hl 1 rfl) ?_
      obtain ⟨c_7, hf⟩ := ck_s hf
      refine x_ild X K O rfl LM_17 c_7 (j := (Int32.toNatClampNeg x2)) rfl dX6_image_160 ?_
      obtain ⟨σ_8, r_9, hg, hf⟩ := bn2_s hf
      refine x_calli (x_runV (As := [.int (gI σ_6 17 0 0 (Int32.toNatClampNeg x2))]) (rest := [.int x2, .ref (h 17 0 0)]) X K O (xct_obj rfl LM_99) rfl (m_M_X6_keptText hg) EN_b EN_h (lw_V q1699 q1701 qs109 q124 q1702) 1 rfl hl.1 (Nat.le_of_ble_eq_true rfl) hdV_X6_keptText ⟨by decide, by decide⟩ ⟨Nat.le_refl _, Nat.le_refl _⟩ dX6_image_161) (fun r u H locs hp O _ => ?_)
      cases hp
      have O : XH D A s.heap h (xct LM okM h d σ_8) H locs := O
      obtain ⟨c_10, hf⟩ := ck_s hf
      obtain ⟨σ_11, eσ_11, hf⟩ := lt1_s hf
      refine x_ist X K O rfl LM_17 c_10 (j := (Int32.toNatClampNeg x2)) rfl dX6_image_164 (fun H locs O => ?_)
      rw [← eσ_11] at O
      refine lv_aload_n hx hb dX6_image_165 rfl (lv_at hl 0 rfl) ?_
      refine x_gF X K O 18 rfl LM_99 rfl rfl in_X6 (by decide) q1168 dX6_image_166 ?_
      refine lv_iload_n hx hb dX6_image_169 rfl (lv_at hl 1 rfl) ?_
      refine lv_aload_n hx hb dX6_image_170 rfl (lv_at hl 0 rfl) ?_
      refine lv_aload_n hx hb dX6_image_171 rfl (lv_at hl 0 rfl) ?_
      refine x_gF X K O 18 rfl LM_99 rfl rfl in_X6 (by decide) q1168 dX6_image_172 ?_
      refine lv_iload_n hx hb dX6_image_175 rfl (lv_at hl 1 rfl) ?_
      obtain ⟨c_12, hf⟩ := ck_s hf
      refine x_ild X K O rfl LM_18 c_12 (j := (Int32.toNatClampNeg x2)) rfl dX6_image_176 ?_
      obtain ⟨σ_13, r_14, hg, hf⟩ := bn2_s hf
      refine x_calli (x_runV (As := [.int (gI σ_11 18 0 0 (Int32.toNatClampNeg x2))]) (rest := [.int x2, .ref (h 18 0 0)]) X K O (xct_obj rfl LM_99) rfl (m_M_X6_keptText hg) EN_b EN_h (lw_V q1699 q1701 qs109 q124 q1702) 1 rfl hl.1 (Nat.le_of_ble_eq_true rfl) hdV_X6_keptText ⟨by decide, by decide⟩ ⟨Nat.le_refl _, Nat.le_refl _⟩ dX6_image_177) (fun r u H locs hp O _ => ?_)
      cases hp
      have O : XH D A s.heap h (xct LM okM h d σ_13) H locs := O
      obtain ⟨c_15, hf⟩ := ck_s hf
      obtain ⟨σ_16, eσ_16, hf⟩ := lt1_s hf
      refine x_ist X K O rfl LM_18 c_15 (j := (Int32.toNatClampNeg x2)) rfl dX6_image_180 (fun H locs O => ?_)
      rw [← eσ_16] at O
      obtain ⟨x2_17, ex2_17, hf⟩ := lt1_s hf
      refine lv_iinc (v := x2_17) (lv' := [(2, .int x2_17), (0, .ref (h 99 0 0))]) hx hb dX6_image_181 hl (k := 1) rfl (by rw [ex2_17]; rfl) (by decide) rfl (fun ls hl => ?_)
      refine lv_goto (tgt := 127) hx hb dX6_image_184 (by decide) ?_
      exact ih _ _ ls _ _ O (lv_sub hl [1, 0] rfl) hf
def M_X6_image_b97 : Nat → ST → Int32 → Option (ST × Int32)
  | 0, _, _ => none
  | n + 1, σ, x2 =>
    (if 6 ≤ x2 then M_X6_image_b127 FUEL σ 0 else ck (okI x2 7) (bn2 (M_X6_keptText σ (gI σ 15 0 0 (Int32.toNatClampNeg x2))) (fun σ_3 r_4 => ck (okI x2 7) (lt1 (sI σ_3 15 0 0 (Int32.toNatClampNeg x2) r_4) (fun σ_6 => lt1 (x2 + 1) (fun x2_7 => (M_X6_image_b97 n) σ_6 x2_7))))))
theorem w_M_X6_image_b97 (X : FX p m c meth s args RX6 cX6_image 3 (some .boolean)) (K : XK D d A s) {z : ST × Int32} : ∀ (n : Nat) (σ : ST) (x2 : Int32) (ls : Array Slot) (H : Heap) (locs : List Loc), XH D A s.heap h (xct LM okM h d σ) H locs → lv_has ls 3 [(0, .ref (h 99 0 0)), (2, .int x2)] → M_X6_image_b97 n σ x2 = some z → W p l e (rmD 2 0 0) s m args below meth c H locs 0 0 (MQ below (Qi D (pz z) (cw h LM okM d) A) args s 0 0 A) (F0 m 97 ls []) := by
  have hx := X.1.1; have hb := X.1.2.1
  intro n
  induction n with
  | zero =>
    intro σ x2 ls H locs O hl hf
    exact absurd hf (fun q => by cases q)
  | succ n ih =>
    intro σ x2 ls H locs O hl hf
    rw [M_X6_image_b97] at hf
    refine lv_iload_n hx hb dX6_image_97 rfl (lv_at hl 1 rfl) ?_
    refine lv_bipush (v := 6) hx hb dX6_image_98 (by decide) ?_
    refine lv_icmp_ge (tgt := 125) hx hb dX6_image_100 (by decide) (fun c_1 => ?_) (fun c_1 => ?_)
    · replace hf := if_t c_1 hf
      refine lv_iconst (v := 0) hx hb dX6_image_125 (by decide) ?_
      refine lv_istore_n (lv' := [(2, .int 0), (0, .ref (h 99 0 0))]) hx hb dX6_image_126 rfl hl (by decide) rfl (fun ls hl => ?_)
      exact w_M_X6_image_b127 X K _ _ _ ls _ _ O (lv_sub hl [1, 0] rfl) hf
    · replace hf := if_f c_1 hf
      refine lv_aload_n hx hb dX6_image_103 rfl (lv_at hl 0 rfl) ?_
      refine x_gF X K O 15 rfl LM_99 rfl rfl in_X6 (by decide) q1165 dX6_image_104 ?_
      refine lv_iload_n hx hb dX6_image_107 rfl (lv_at hl 1 rfl) ?_
      refine lv_aload_n hx hb dX6_image_108 rfl (lv_at hl 0 rfl) ?_
      refine lv_aload_n hx hb dX6_image_109 rfl (lv_at hl 0 rfl) ?_
      refine x_gF X K O 15 rfl LM_99 rfl rfl in_X6 (by decide) q1165 dX6_image_110 ?_
      refine lv_iload_n hx hb dX6_image_113 rfl (lv_at hl 1 rfl) ?_
      obtain ⟨c_2, hf⟩ := ck_s hf
      refine x_ild X K O rfl LM_15 c_2 (j := (Int32.toNatClampNeg x2)) rfl dX6_image_114 ?_
      obtain ⟨σ_3, r_4, hg, hf⟩ := bn2_s hf
      refine x_calli (x_runV (As := [.int (gI σ 15 0 0 (Int32.toNatClampNeg x2))]) (rest := [.int x2, .ref (h 15 0 0)]) X K O (xct_obj rfl LM_99) rfl (m_M_X6_keptText hg) EN_b EN_h (lw_V q1699 q1701 qs109 q124 q1702) 1 rfl hl.1 (Nat.le_of_ble_eq_true rfl) hdV_X6_keptText ⟨by decide, by decide⟩ ⟨Nat.le_refl _, Nat.le_refl _⟩ dX6_image_115) (fun r u H locs hp O _ => ?_)
      cases hp
      have O : XH D A s.heap h (xct LM okM h d σ_3) H locs := O
      obtain ⟨c_5, hf⟩ := ck_s hf
      obtain ⟨σ_6, eσ_6, hf⟩ := lt1_s hf
      refine x_ist X K O rfl LM_15 c_5 (j := (Int32.toNatClampNeg x2)) rfl dX6_image_118 (fun H locs O => ?_)
      rw [← eσ_6] at O
      obtain ⟨x2_7, ex2_7, hf⟩ := lt1_s hf
      refine lv_iinc (v := x2_7) (lv' := [(2, .int x2_7), (0, .ref (h 99 0 0))]) hx hb dX6_image_119 hl (k := 1) rfl (by rw [ex2_7]; rfl) (by decide) rfl (fun ls hl => ?_)
      refine lv_goto (tgt := 97) hx hb dX6_image_122 (by decide) ?_
      exact ih _ _ ls _ _ O (lv_sub hl [1, 0] rfl) hf
def M_X6_image_b90 (σ : ST) : Option (ST × Int32) :=
  lt1 (sI σ 99 0 0 55 0) (fun σ_1 => M_X6_image_b97 FUEL σ_1 0)
theorem w_M_X6_image_b90 (X : FX p m c meth s args RX6 cX6_image 3 (some .boolean)) (K : XK D d A s) {z : ST × Int32} (σ : ST) (ls : Array Slot) (H : Heap) (locs : List Loc) (O : XH D A s.heap h (xct LM okM h d σ) H locs) (hl : lv_has ls 3 [(0, .ref (h 99 0 0))]) (hf : M_X6_image_b90 σ = some z) : W p l e (rmD 2 0 0) s m args below meth c H locs 0 0 (MQ below (Qi D (pz z) (cw h LM okM d) A) args s 0 0 A) (F0 m 90 ls []) := by
  have hx := X.1.1; have hb := X.1.2.1
  rw [M_X6_image_b90] at hf
  refine lv_aload_n hx hb dX6_image_90 rfl (lv_at hl 0 rfl) ?_
  refine lv_iconst (v := 0) hx hb dX6_image_91 (by decide) ?_
  obtain ⟨σ_1, eσ_1, hf⟩ := lt1_s hf
  refine x_pI X K O 55 rfl LM_99 rfl rfl in_X6 tyX6_ok nmX6 (by decide) q1205 rfl rfl rfl dX6_image_92 (fun H locs O => ?_)
  rw [← eσ_1] at O
  refine lv_iconst (v := 0) hx hb dX6_image_95 (by decide) ?_
  refine lv_istore_n (lv' := [(2, .int 0), (0, .ref (h 99 0 0))]) hx hb dX6_image_96 rfl hl (by decide) rfl (fun ls hl => ?_)
  exact w_M_X6_image_b97 X K _ _ _ ls _ _ O (lv_sub hl [1, 0] rfl) hf
def M_X6_image_b65 : Nat → ST → Int32 → Option (ST × Int32)
  | 0, _, _ => none
  | n + 1, σ, x2 =>
    (if 2600 ≤ x2 then M_X6_image_b90 σ else ck (okI x2 2600) (ck (okI x2 2600) (lt1 (sI σ 53 0 0 (Int32.toNatClampNeg x2) (gI σ 51 0 0 (Int32.toNatClampNeg x2))) (fun σ_4 => lt1 (x2 + 1) (fun x2_5 => (M_X6_image_b65 n) σ_4 x2_5)))))
theorem w_M_X6_image_b65 (X : FX p m c meth s args RX6 cX6_image 3 (some .boolean)) (K : XK D d A s) {z : ST × Int32} : ∀ (n : Nat) (σ : ST) (x2 : Int32) (ls : Array Slot) (H : Heap) (locs : List Loc), XH D A s.heap h (xct LM okM h d σ) H locs → lv_has ls 3 [(0, .ref (h 99 0 0)), (2, .int x2)] → M_X6_image_b65 n σ x2 = some z → W p l e (rmD 2 0 0) s m args below meth c H locs 0 0 (MQ below (Qi D (pz z) (cw h LM okM d) A) args s 0 0 A) (F0 m 65 ls []) := by
  have hx := X.1.1; have hb := X.1.2.1
  intro n
  induction n with
  | zero =>
    intro σ x2 ls H locs O hl hf
    exact absurd hf (fun q => by cases q)
  | succ n ih =>
    intro σ x2 ls H locs O hl hf
    rw [M_X6_image_b65] at hf
    refine lv_iload_n hx hb dX6_image_65 rfl (lv_at hl 1 rfl) ?_
    refine lv_sipush (v := 2600) hx hb dX6_image_66 (by decide) ?_
    refine lv_icmp_ge (tgt := 90) hx hb dX6_image_69 (by decide) (fun c_1 => ?_) (fun c_1 => ?_)
    · replace hf := if_t c_1 hf
      exact w_M_X6_image_b90 X K _ ls _ _ O (lv_sub hl [0] rfl) hf
    · replace hf := if_f c_1 hf
      refine lv_aload_n hx hb dX6_image_72 rfl (lv_at hl 0 rfl) ?_
      refine x_gF X K O 53 rfl LM_99 rfl rfl in_X6 (by decide) q1203 dX6_image_73 ?_
      refine lv_iload_n hx hb dX6_image_76 rfl (lv_at hl 1 rfl) ?_
      refine lv_aload_n hx hb dX6_image_77 rfl (lv_at hl 0 rfl) ?_
      refine x_gF X K O 51 rfl LM_99 rfl rfl in_X6 (by decide) q1201 dX6_image_78 ?_
      refine lv_iload_n hx hb dX6_image_81 rfl (lv_at hl 1 rfl) ?_
      obtain ⟨c_2, hf⟩ := ck_s hf
      refine x_ild X K O rfl LM_51 c_2 (j := (Int32.toNatClampNeg x2)) rfl dX6_image_82 ?_
      obtain ⟨c_3, hf⟩ := ck_s hf
      obtain ⟨σ_4, eσ_4, hf⟩ := lt1_s hf
      refine x_ist X K O rfl LM_53 c_3 (j := (Int32.toNatClampNeg x2)) rfl dX6_image_83 (fun H locs O => ?_)
      rw [← eσ_4] at O
      obtain ⟨x2_5, ex2_5, hf⟩ := lt1_s hf
      refine lv_iinc (v := x2_5) (lv' := [(2, .int x2_5), (0, .ref (h 99 0 0))]) hx hb dX6_image_84 hl (k := 1) rfl (by rw [ex2_5]; rfl) (by decide) rfl (fun ls hl => ?_)
      refine lv_goto (tgt := 65) hx hb dX6_image_87 (by decide) ?_
      exact ih _ _ ls _ _ O (lv_sub hl [1, 0] rfl) hf
def M_X6_image_b54 (σ : ST) (x1 : Int32) : Option (ST × Int32) :=
  bn1 (M_X6_asides σ x1) (fun σ_1 => (if x1 = 0 then M_X6_image_b90 σ_1 else M_X6_image_b65 FUEL σ_1 0))
theorem w_M_X6_image_b54 (X : FX p m c meth s args RX6 cX6_image 3 (some .boolean)) (K : XK D d A s) {z : ST × Int32} (σ : ST) (x1 : Int32) (ls : Array Slot) (H : Heap) (locs : List Loc) (O : XH D A s.heap h (xct LM okM h d σ) H locs) (hl : lv_has ls 3 [(0, .ref (h 99 0 0)), (1, .int x1)]) (hf : M_X6_image_b54 σ x1 = some z) : W p l e (rmD 2 0 0) s m args below meth c H locs 0 0 (MQ below (Qi D (pz z) (cw h LM okM d) A) args s 0 0 A) (F0 m 54 ls []) := by
  have hx := X.1.1; have hb := X.1.2.1
  rw [M_X6_image_b54] at hf
  refine lv_aload_n hx hb dX6_image_54 rfl (lv_at hl 0 rfl) ?_
  refine lv_iload_n hx hb dX6_image_55 rfl (lv_at hl 1 rfl) ?_
  obtain ⟨σ_1, hg, hf⟩ := bn1_s hf
  refine x_callv (x_runV (As := [.int x1]) (rest := []) X K O (xct_obj rfl LM_99) rfl (m_M_X6_asides hg) EN_b EN_h (lw_V q1683 q1685 qs107 q124 q1686) 1 rfl hl.1 (Nat.le_of_ble_eq_true rfl) hdV_X6_asides ⟨by decide, by decide⟩ ⟨Nat.le_refl _, Nat.le_refl _⟩ dX6_image_56) (fun u H locs hp O _ => ?_)
  cases hp
  have O : XH D A s.heap h (xct LM okM h d σ_1) H locs := O
  refine lv_iload_n hx hb dX6_image_59 rfl (lv_at hl 1 rfl) ?_
  refine lv_if_eq (tgt := 90) hx hb dX6_image_60 (by decide) (fun c_2 => ?_) (fun c_2 => ?_)
  · replace hf := if_t c_2 hf
    exact w_M_X6_image_b90 X K _ ls _ _ O (lv_sub hl [0] rfl) hf
  · replace hf := if_f c_2 hf
    refine lv_iconst (v := 0) hx hb dX6_image_63 (by decide) ?_
    refine lv_istore_n (lv' := [(2, .int 0), (0, .ref (h 99 0 0)), (1, .int x1)]) hx hb dX6_image_64 rfl hl (by decide) rfl (fun ls hl => ?_)
    exact w_M_X6_image_b65 X K _ _ _ ls _ _ O (lv_sub hl [1, 0] rfl) hf
def M_X6_image_b29 : Nat → ST → Int32 → Int32 → Option (ST × Int32)
  | 0, _, _, _ => none
  | n + 1, σ, x1, x2 =>
    (if 2600 ≤ x2 then M_X6_image_b54 σ x1 else ck (okI x2 2600) (ck (okI x2 2600) (lt1 (sI σ 51 0 0 (Int32.toNatClampNeg x2) (gI σ 53 0 0 (Int32.toNatClampNeg x2))) (fun σ_4 => lt1 (x2 + 1) (fun x2_5 => (M_X6_image_b29 n) σ_4 x1 x2_5)))))
theorem w_M_X6_image_b29 (X : FX p m c meth s args RX6 cX6_image 3 (some .boolean)) (K : XK D d A s) {z : ST × Int32} : ∀ (n : Nat) (σ : ST) (x1 : Int32) (x2 : Int32) (ls : Array Slot) (H : Heap) (locs : List Loc), XH D A s.heap h (xct LM okM h d σ) H locs → lv_has ls 3 [(0, .ref (h 99 0 0)), (1, .int x1), (2, .int x2)] → M_X6_image_b29 n σ x1 x2 = some z → W p l e (rmD 2 0 0) s m args below meth c H locs 0 0 (MQ below (Qi D (pz z) (cw h LM okM d) A) args s 0 0 A) (F0 m 29 ls []) := by
  have hx := X.1.1; have hb := X.1.2.1
  intro n
  induction n with
  | zero =>
    intro σ x1 x2 ls H locs O hl hf
    exact absurd hf (fun q => by cases q)
  | succ n ih =>
    intro σ x1 x2 ls H locs O hl hf
    rw [M_X6_image_b29] at hf
    refine lv_iload_n hx hb dX6_image_29 rfl (lv_at hl 2 rfl) ?_
    refine lv_sipush (v := 2600) hx hb dX6_image_30 (by decide) ?_
    refine lv_icmp_ge (tgt := 54) hx hb dX6_image_33 (by decide) (fun c_1 => ?_) (fun c_1 => ?_)
    · replace hf := if_t c_1 hf
      exact w_M_X6_image_b54 X K _ _ ls _ _ O (lv_sub hl [0, 1] rfl) hf
    · replace hf := if_f c_1 hf
      refine lv_aload_n hx hb dX6_image_36 rfl (lv_at hl 0 rfl) ?_
      refine x_gF X K O 51 rfl LM_99 rfl rfl in_X6 (by decide) q1201 dX6_image_37 ?_
      refine lv_iload_n hx hb dX6_image_40 rfl (lv_at hl 2 rfl) ?_
      refine lv_aload_n hx hb dX6_image_41 rfl (lv_at hl 0 rfl) ?_
      refine x_gF X K O 53 rfl LM_99 rfl rfl in_X6 (by decide) q1203 dX6_image_42 ?_
      refine lv_iload_n hx hb dX6_image_45 rfl (lv_at hl 2 rfl) ?_
      obtain ⟨c_2, hf⟩ := ck_s hf
      refine x_ild X K O rfl LM_53 c_2 (j := (Int32.toNatClampNeg x2)) rfl dX6_image_46 ?_
      obtain ⟨c_3, hf⟩ := ck_s hf
      obtain ⟨σ_4, eσ_4, hf⟩ := lt1_s hf
      refine x_ist X K O rfl LM_51 c_3 (j := (Int32.toNatClampNeg x2)) rfl dX6_image_47 (fun H locs O => ?_)
      rw [← eσ_4] at O
      obtain ⟨x2_5, ex2_5, hf⟩ := lt1_s hf
      refine lv_iinc (v := x2_5) (lv' := [(2, .int x2_5), (0, .ref (h 99 0 0)), (1, .int x1)]) hx hb dX6_image_48 hl (k := 2) rfl (by rw [ex2_5]; rfl) (by decide) rfl (fun ls hl => ?_)
      refine lv_goto (tgt := 29) hx hb dX6_image_51 (by decide) ?_
      exact ih _ _ _ ls _ _ O (lv_sub hl [1, 2, 0] rfl) hf
def M_X6_image_b18 (σ : ST) (x1 : Int32) : Option (ST × Int32) :=
  lt1 (sI σ 99 0 0 52 1) (fun σ_1 => (if x1 = 0 then M_X6_image_b29 FUEL σ_1 x1 0 else M_X6_image_b54 σ_1 x1))
theorem w_M_X6_image_b18 (X : FX p m c meth s args RX6 cX6_image 3 (some .boolean)) (K : XK D d A s) {z : ST × Int32} (σ : ST) (x1 : Int32) (ls : Array Slot) (H : Heap) (locs : List Loc) (O : XH D A s.heap h (xct LM okM h d σ) H locs) (hl : lv_has ls 3 [(0, .ref (h 99 0 0)), (1, .int x1)]) (hf : M_X6_image_b18 σ x1 = some z) : W p l e (rmD 2 0 0) s m args below meth c H locs 0 0 (MQ below (Qi D (pz z) (cw h LM okM d) A) args s 0 0 A) (F0 m 18 ls []) := by
  have hx := X.1.1; have hb := X.1.2.1
  rw [M_X6_image_b18] at hf
  refine lv_aload_n hx hb dX6_image_18 rfl (lv_at hl 0 rfl) ?_
  refine lv_iconst (v := 1) hx hb dX6_image_19 (by decide) ?_
  obtain ⟨σ_1, eσ_1, hf⟩ := lt1_s hf
  refine x_pI X K O 52 rfl LM_99 rfl rfl in_X6 tyX6_ok nmX6 (by decide) q1202 rfl rfl rfl dX6_image_20 (fun H locs O => ?_)
  rw [← eσ_1] at O
  refine lv_iload_n hx hb dX6_image_23 rfl (lv_at hl 1 rfl) ?_
  refine lv_if_ne (tgt := 54) hx hb dX6_image_24 (by decide) (fun c_2 => ?_) (fun c_2 => ?_)
  · replace hf := if_f c_2 hf
    exact w_M_X6_image_b54 X K _ _ ls _ _ O (lv_sub hl [0, 1] rfl) hf
  · replace hf := if_t c_2 hf
    refine lv_iconst (v := 0) hx hb dX6_image_27 (by decide) ?_
    refine lv_istore_n (lv' := [(2, .int 0), (0, .ref (h 99 0 0)), (1, .int x1)]) hx hb dX6_image_28 rfl hl (by decide) rfl (fun ls hl => ?_)
    exact w_M_X6_image_b29 X K _ _ _ _ ls _ _ O (lv_sub hl [1, 2, 0] rfl) hf
def M_X6_image (σ : ST) (p1 : Int32) : Option (ST × Int32) :=
  lt1 (sI σ 99 0 0 0 0) (fun σ_1 => (if p1 = 0 then (if (gI σ_1 99 0 0 52) = 0 then some (σ_1, 0) else M_X6_image_b18 σ_1 p1) else M_X6_image_b18 σ_1 p1))
theorem m_M_X6_image {l : Launch} {D : va_G} {d : Nat → ClassId} {h : IX} {p1 : Int32} {σ : ST} {z : ST × Int32} (hf : M_X6_image σ p1 = some z) : XM l D d EN yX6_image cX6_image 3 (some .boolean) 2 0 0 [.ref (h 99 0 0), .int p1] h (xct LM okM h d σ) (Qi D (pz z) (cw h LM okM d)) := by
  refine XM.of (by decide +kernel) (Nat.le_of_ble_eq_true rfl) ?_
  intro p e s m below meth c A ls X _ K _ O hl
  have hl : lv_has ls 3 [(0, .ref (h 99 0 0)), (1, .int p1)] := hl
  have hx := X.1.1; have hb := X.1.2.1
  rw [M_X6_image] at hf
  refine lv_aload_n hx hb dX6_image_0 rfl (lv_at hl 0 rfl) ?_
  refine lv_iconst (v := 0) hx hb dX6_image_1 (by decide) ?_
  obtain ⟨σ_1, eσ_1, hf⟩ := lt1_s hf
  refine x_pI X K O 0 rfl LM_99 rfl rfl in_X6 tyX6_ok nmX6 (by decide) q1150 rfl rfl rfl dX6_image_2 (fun H locs O => ?_)
  rw [← eσ_1] at O
  refine lv_iload_n hx hb dX6_image_5 rfl (lv_at hl 1 rfl) ?_
  refine lv_if_ne (tgt := 18) hx hb dX6_image_6 (by decide) (fun c_2 => ?_) (fun c_2 => ?_)
  · replace hf := if_f c_2 hf
    exact w_M_X6_image_b18 X K _ _ ls _ _ O (lv_sub hl [0, 1] rfl) hf
  · replace hf := if_t c_2 hf
    refine lv_aload_n hx hb dX6_image_9 rfl (lv_at hl 0 rfl) ?_
    refine x_gI X K O 52 rfl LM_99 rfl rfl in_X6 (by decide) q1202 dX6_image_10 ?_
    refine lv_if_ne (tgt := 18) hx hb dX6_image_13 (by decide) (fun c_3 => ?_) (fun c_3 => ?_)
    · replace hf := if_f c_3 hf
      exact w_M_X6_image_b18 X K _ _ ls _ _ O (lv_sub hl [0, 1] rfl) hf
    · replace hf := if_t c_3 hf
      refine lv_iconst (v := 0) hx hb dX6_image_16 (by decide) ?_
      exact x_zret X O rfl rfl _ (Option.some.inj hf).symm rfl dX6_image_17
def M_X6_look (σ : ST) (p1 : Int32) : Option (ST × Int32) :=
  lt1 (sI σ 99 0 0 0 0) (fun σ_1 => (if p1 = 0 then some (σ_1, (gI σ_1 99 0 0 2)) else (if p1 = 1 then some (σ_1, (gI σ_1 99 0 0 3)) else (if p1 = 2 then some (σ_1, (gI σ_1 99 0 0 4)) else (if p1 = 3 then bn2 (M_X6_weights σ_1) (fun σ_11 r_12 => some (σ_11, r_12)) else bn2 (M_X6_isIn σ_1 p1 10 32) (fun σ_6 r_7 => (if r_7 = 0 then some (σ_6, (-1)) else (if p1 = 20 then some (σ_6, (-1)) else ck (okI (p1 - 10) 23) (some (σ_6, (gI σ_6 6 0 0 (Int32.toNatClampNeg (p1 - 10)))))))))))))
theorem m_M_X6_look {l : Launch} {D : va_G} {d : Nat → ClassId} {h : IX} {p1 : Int32} {σ : ST} {z : ST × Int32} (hf : M_X6_look σ p1 = some z) : XM l D d EN yX6_look cX6_look 2 (some .int) 1 0 0 [.ref (h 99 0 0), .int p1] h (xct LM okM h d σ) (Qi D (pz z) (cw h LM okM d)) := by
  refine XM.of (by decide +kernel) (Nat.le_of_ble_eq_true rfl) ?_
  intro p e s m below meth c A ls X _ K _ O hl
  have hl : lv_has ls 2 [(0, .ref (h 99 0 0)), (1, .int p1)] := hl
  have hx := X.1.1; have hb := X.1.2.1
  rw [M_X6_look] at hf
  refine lv_aload_n hx hb dX6_look_0 rfl (lv_at hl 0 rfl) ?_
  refine lv_iconst (v := 0) hx hb dX6_look_1 (by decide) ?_
  obtain ⟨σ_1, eσ_1, hf⟩ := lt1_s hf
  refine x_pI X K O 0 rfl LM_99 rfl rfl in_X6 tyX6_ok nmX6 (by decide) q1150 rfl rfl rfl dX6_look_2 (fun H locs O => ?_)
  rw [← eσ_1] at O
  refine lv_iload_n hx hb dX6_look_5 rfl (lv_at hl 1 rfl) ?_
  refine lv_if_ne (tgt := 14) hx hb dX6_look_6 (by decide) (fun c_2 => ?_) (fun c_2 => ?_)
  · replace hf := if_f c_2 hf
    refine lv_iload_n hx hb dX6_look_14 rfl (lv_at hl 1 rfl) ?_
    refine lv_iconst (v := 1) hx hb dX6_look_15 (by decide) ?_
    refine lv_icmp_ne (tgt := 24) hx hb dX6_look_16 (by decide) (fun c_3 => ?_) (fun c_3 => ?_)
    · replace hf := if_f c_3 hf
      refine lv_iload_n hx hb dX6_look_24 rfl (lv_at hl 1 rfl) ?_
      refine lv_iconst (v := 2) hx hb dX6_look_25 (by decide) ?_
      refine lv_icmp_ne (tgt := 34) hx hb dX6_look_26 (by decide) (fun c_4 => ?_) (fun c_4 => ?_)
      · replace hf := if_f c_4 hf
        refine lv_iload_n hx hb dX6_look_34 rfl (lv_at hl 1 rfl) ?_
        refine lv_iconst (v := 3) hx hb dX6_look_35 (by decide) ?_
        refine lv_icmp_ne (tgt := 44) hx hb dX6_look_36 (by decide) (fun c_5 => ?_) (fun c_5 => ?_)
        · replace hf := if_f c_5 hf
          refine lv_aload_n hx hb dX6_look_44 rfl (lv_at hl 0 rfl) ?_
          refine lv_iload_n hx hb dX6_look_45 rfl (lv_at hl 1 rfl) ?_
          refine lv_bipush (v := 10) hx hb dX6_look_46 (by decide) ?_
          refine lv_bipush (v := 32) hx hb dX6_look_48 (by decide) ?_
          obtain ⟨σ_6, r_7, hg, hf⟩ := bn2_s hf
          refine x_calli (x_runV (As := [.int p1, .int 10, .int 32]) (rest := []) X K O (xct_obj rfl LM_99) rfl (m_M_X6_isIn hg) EN_b EN_h (lw_V q1327 q1329 qs45 q124 q1330) 3 rfl hl.1 (Nat.le_of_ble_eq_true rfl) hdV_X6_isIn ⟨by decide, by decide⟩ ⟨Nat.le_refl _, Nat.le_refl _⟩ dX6_look_50) (fun r u H locs hp O _ => ?_)
          cases hp
          have O : XH D A s.heap h (xct LM okM h d σ_6) H locs := O
          refine lv_if_eq (tgt := 74) hx hb dX6_look_53 (by decide) (fun c_8 => ?_) (fun c_8 => ?_)
          · replace hf := if_t c_8 hf
            refine lv_iconst (v := (-1)) hx hb dX6_look_74 (by decide) ?_
            exact x_iret X O rfl _ (Option.some.inj hf).symm rfl dX6_look_75
          · replace hf := if_f c_8 hf
            refine lv_iload_n hx hb dX6_look_56 rfl (lv_at hl 1 rfl) ?_
            refine lv_bipush (v := 20) hx hb dX6_look_57 (by decide) ?_
            refine lv_icmp_eq (tgt := 74) hx hb dX6_look_59 (by decide) (fun c_9 => ?_) (fun c_9 => ?_)
            · replace hf := if_t c_9 hf
              refine lv_iconst (v := (-1)) hx hb dX6_look_74 (by decide) ?_
              exact x_iret X O rfl _ (Option.some.inj hf).symm rfl dX6_look_75
            · replace hf := if_f c_9 hf
              refine lv_aload_n hx hb dX6_look_62 rfl (lv_at hl 0 rfl) ?_
              refine x_gF X K O 6 rfl LM_99 rfl rfl in_X6 (by decide) q1156 dX6_look_63 ?_
              refine lv_iload_n hx hb dX6_look_66 rfl (lv_at hl 1 rfl) ?_
              refine lv_bipush (v := 10) hx hb dX6_look_67 (by decide) ?_
              refine lv_isub hx hb dX6_look_69 ?_
              obtain ⟨c_10, hf⟩ := ck_s hf
              refine x_ild X K O rfl LM_6 c_10 (j := (Int32.toNatClampNeg (p1 - 10))) rfl dX6_look_70 ?_
              refine lv_goto (tgt := 75) hx hb dX6_look_71 (by decide) ?_
              exact x_iret X O rfl _ (Option.some.inj hf).symm rfl dX6_look_75
        · replace hf := if_t c_5 hf
          refine lv_aload_n hx hb dX6_look_39 rfl (lv_at hl 0 rfl) ?_
          obtain ⟨σ_11, r_12, hg, hf⟩ := bn2_s hf
          refine x_calli (x_runV (As := []) (rest := []) X K O (xct_obj rfl LM_99) rfl (m_M_X6_weights hg) EN_b EN_h (lw_V q1530 q1532 qs84 q124 q1533) 0 rfl hl.1 (Nat.le_of_ble_eq_true rfl) hdV_X6_weights ⟨by decide, by decide⟩ ⟨Nat.le_refl _, Nat.le_refl _⟩ dX6_look_40) (fun r u H locs hp O _ => ?_)
          cases hp
          have O : XH D A s.heap h (xct LM okM h d σ_11) H locs := O
          exact x_iret X O rfl _ (Option.some.inj hf).symm rfl dX6_look_43
      · replace hf := if_t c_4 hf
        refine lv_aload_n hx hb dX6_look_29 rfl (lv_at hl 0 rfl) ?_
        refine x_gI X K O 4 rfl LM_99 rfl rfl in_X6 (by decide) q1154 dX6_look_30 ?_
        exact x_iret X O rfl _ (Option.some.inj hf).symm rfl dX6_look_33
    · replace hf := if_t c_3 hf
      refine lv_aload_n hx hb dX6_look_19 rfl (lv_at hl 0 rfl) ?_
      refine x_gI X K O 3 rfl LM_99 rfl rfl in_X6 (by decide) q1153 dX6_look_20 ?_
      exact x_iret X O rfl _ (Option.some.inj hf).symm rfl dX6_look_23
  · replace hf := if_t c_2 hf
    refine lv_aload_n hx hb dX6_look_9 rfl (lv_at hl 0 rfl) ?_
    refine x_gI X K O 2 rfl LM_99 rfl rfl in_X6 (by decide) q1152 dX6_look_10 ?_
    exact x_iret X O rfl _ (Option.some.inj hf).symm rfl dX6_look_13
end MW
