/-! makers of terms and lines: contracts -/
theorem m_C_X9_init {l : Launch} {D : va_G} {d : Nat → ClassId} {h : IX} {ct : CT} {q : Nat} : XM l D d EN yX9_init cX9_init 1 none 1 0 0 [.ref q] h ct (Qv D (fun _ : Unit => True) (fun _ => (h, ct))) := by
  refine XM.of (by decide +kernel) (Nat.le_of_ble_eq_true rfl) ?_
  intro p e s m below meth c A ls X hnm K _ O hl
  have hl : lv_has ls 1 [(0, .ref q)] := hl
  have hx := X.1.1; have hb := X.1.2.1
  refine lv_aload_n hx hb dX9_init_0 rfl (lv_at hl 0 rfl) ?_
  refine W.objInit hx hb X.1.2.2.2.1 (X.1.2.2.2.2 _ q689) (X.1.2.2.2.2 _ q146) (X.1.2.2.2.2 _ q147) rfl (hl.1.trans X.1.2.2.1.symm) rfl dX9_init_1 (Nat.le_of_ble_eq_true rfl) (Nat.le_of_ble_eq_true rfl) ?_
  exact x_vret X O rfl () trivial rfl dX9_init_4
theorem hdS_X9_init : (yX9_init.cls ≠ "java/lang/invoke/MethodHandle" ∧ yX9_init.cls ≠ "java/lang/invoke/VarHandle" ∧ (parseMethodDescriptor yX9_init.desc).map (fun d => d.parameters.length) = some 0) := by decide +kernel
theorem hdS_X10_init : (yX10_init.cls ≠ "java/lang/invoke/MethodHandle" ∧ yX10_init.cls ≠ "java/lang/invoke/VarHandle" ∧ (parseMethodDescriptor yX10_init.desc).map (fun d => d.parameters.length) = some 1) := by decide +kernel
def C_X10_init (v : Nat) (σ : ST) (p1 : Nat) : ST := (sR σ 23 v 0 0 (p1 + 1))
theorem m_C_X10_init {l : Launch} {D : va_G} {d : Nat → ClassId} {hs : IX} {Δ : DT} {v : Nat} {σ : ST} {p1 : Nat} (hk : Δ 23 v = some 8) : XM l D d EN yX10_init cX10_init 2 none 2 0 0 [.ref (hC hs 23 v 0), .ref p1] (hC hs) (xct (LC Δ) (okC Δ) (hC hs) d σ) (Qv D (pu (C_X10_init v σ p1)) (cw (hC hs) (LC Δ) (okC Δ) d)) := by
  refine XM.of (by decide +kernel) (Nat.le_of_ble_eq_true rfl) ?_
  intro p e s m below meth c A ls X hnm K _ O hl
  have hl : lv_has ls 2 [(0, .ref (hC hs 23 v 0)), (1, .ref p1)] := hl
  have hx := X.1.1; have hb := X.1.2.1
  refine lv_aload_n hx hb dX10_init_0 rfl (lv_at hl 0 rfl) ?_
  refine x_callv (x_runIN (ret' := none) (As := []) (rest := []) (bb := hC hs 23 v 0) X K O m_C_X9_init EN_b EN_h q686 q687 q133 q688 rfl 0 rfl hl.1 (Nat.le_of_ble_eq_true rfl) hdS_X9_init ⟨by decide, by decide⟩ ⟨Nat.le_refl _, Nat.le_refl _⟩ dX10_init_1) (fun _ H locs _ O _ => ?_)
  refine lv_aload_n hx hb dX10_init_4 rfl (lv_at hl 0 rfl) ?_
  refine lv_aload_n hx hb dX10_init_5 rfl (lv_at hl 1 rfl) ?_
  refine x_pQF (x := p1) X K hnm.symm O 0 (ok23 hk) (LC_23 hk) rfl rfl in_X10 tyX10_ok nmX10 (by decide) q690 rfl rfl rfl rfl dX10_init_6 (fun H locs O => ?_)
  exact x_vret X O rfl _ rfl rfl dX10_init_9
theorem hdS_X11_init : (yX11_init.cls ≠ "java/lang/invoke/MethodHandle" ∧ yX11_init.cls ≠ "java/lang/invoke/VarHandle" ∧ (parseMethodDescriptor yX11_init.desc).map (fun d => d.parameters.length) = some 1) := by decide +kernel
def C_X11_init (v : Nat) (σ : ST) (p1 : Int32) : ST := (sI σ 23 v 0 0 p1)
theorem m_C_X11_init {l : Launch} {D : va_G} {d : Nat → ClassId} {hs : IX} {Δ : DT} {v : Nat} {σ : ST} {p1 : Int32} (hk : Δ 23 v = some 9) : XM l D d EN yX11_init cX11_init 2 none 2 0 0 [.ref (hC hs 23 v 0), .int p1] (hC hs) (xct (LC Δ) (okC Δ) (hC hs) d σ) (Qv D (pu (C_X11_init v σ p1)) (cw (hC hs) (LC Δ) (okC Δ) d)) := by
  refine XM.of (by decide +kernel) (Nat.le_of_ble_eq_true rfl) ?_
  intro p e s m below meth c A ls X hnm K _ O hl
  have hl : lv_has ls 2 [(0, .ref (hC hs 23 v 0)), (1, .int p1)] := hl
  have hx := X.1.1; have hb := X.1.2.1
  refine lv_aload_n hx hb dX11_init_0 rfl (lv_at hl 0 rfl) ?_
  refine x_callv (x_runIN (ret' := none) (As := []) (rest := []) (bb := hC hs 23 v 0) X K O m_C_X9_init EN_b EN_h q715 q687 q133 q688 rfl 0 rfl hl.1 (Nat.le_of_ble_eq_true rfl) hdS_X9_init ⟨by decide, by decide⟩ ⟨Nat.le_refl _, Nat.le_refl _⟩ dX11_init_1) (fun _ H locs _ O _ => ?_)
  refine lv_aload_n hx hb dX11_init_4 rfl (lv_at hl 0 rfl) ?_
  refine lv_iload_n hx hb dX11_init_5 rfl (lv_at hl 1 rfl) ?_
  refine x_pIF (x := p1) X K hnm.symm O 0 (ok23 hk) (LC_23 hk) rfl rfl in_X11 tyX11_ok nmX11 (by decide) q716 rfl rfl rfl rfl dX11_init_6 (fun H locs O => ?_)
  exact x_vret X O rfl _ rfl rfl dX11_init_9
theorem hdS_X12_init : (yX12_init.cls ≠ "java/lang/invoke/MethodHandle" ∧ yX12_init.cls ≠ "java/lang/invoke/VarHandle" ∧ (parseMethodDescriptor yX12_init.desc).map (fun d => d.parameters.length) = some 1) := by decide +kernel
def C_X12_init (v : Nat) (σ : ST) (p1 : Int32) : ST := (sI σ 23 v 0 0 p1)
theorem m_C_X12_init {l : Launch} {D : va_G} {d : Nat → ClassId} {hs : IX} {Δ : DT} {v : Nat} {σ : ST} {p1 : Int32} (hk : Δ 23 v = some 10) : XM l D d EN yX12_init cX12_init 2 none 2 0 0 [.ref (hC hs 23 v 0), .int p1] (hC hs) (xct (LC Δ) (okC Δ) (hC hs) d σ) (Qv D (pu (C_X12_init v σ p1)) (cw (hC hs) (LC Δ) (okC Δ) d)) := by
  refine XM.of (by decide +kernel) (Nat.le_of_ble_eq_true rfl) ?_
  intro p e s m below meth c A ls X hnm K _ O hl
  have hl : lv_has ls 2 [(0, .ref (hC hs 23 v 0)), (1, .int p1)] := hl
  have hx := X.1.1; have hb := X.1.2.1
  refine lv_aload_n hx hb dX12_init_0 rfl (lv_at hl 0 rfl) ?_
  refine x_callv (x_runIN (ret' := none) (As := []) (rest := []) (bb := hC hs 23 v 0) X K O m_C_X9_init EN_b EN_h q725 q687 q133 q688 rfl 0 rfl hl.1 (Nat.le_of_ble_eq_true rfl) hdS_X9_init ⟨by decide, by decide⟩ ⟨Nat.le_refl _, Nat.le_refl _⟩ dX12_init_1) (fun _ H locs _ O _ => ?_)
  refine lv_aload_n hx hb dX12_init_4 rfl (lv_at hl 0 rfl) ?_
  refine lv_iload_n hx hb dX12_init_5 rfl (lv_at hl 1 rfl) ?_
  refine x_pIF (x := p1) X K hnm.symm O 0 (ok23 hk) (LC_23 hk) rfl rfl in_X12 tyX12_ok nmX12 (by decide) q726 rfl rfl rfl rfl dX12_init_6 (fun H locs O => ?_)
  exact x_vret X O rfl _ rfl rfl dX12_init_9
theorem hdS_X13_init : (yX13_init.cls ≠ "java/lang/invoke/MethodHandle" ∧ yX13_init.cls ≠ "java/lang/invoke/VarHandle" ∧ (parseMethodDescriptor yX13_init.desc).map (fun d => d.parameters.length) = some 3) := by decide +kernel
def C_X13_init (v : Nat) (σ : ST) (p1 : Nat) (p2 : Int32) (p3 : Nat) : ST := (sR (sI (sR σ 23 v 0 0 (p1 + 1)) 23 v 0 2 p2) 23 v 0 1 (p3 + 1))
theorem m_C_X13_init {l : Launch} {D : va_G} {d : Nat → ClassId} {hs : IX} {Δ : DT} {v : Nat} {σ : ST} {p1 : Nat} {p2 : Int32} {p3 : Nat} (hk : Δ 23 v = some 11) : XM l D d EN yX13_init cX13_init 4 none 2 0 0 [.ref (hC hs 23 v 0), .ref p1, .int p2, .ref p3] (hC hs) (xct (LC Δ) (okC Δ) (hC hs) d σ) (Qv D (pu (C_X13_init v σ p1 p2 p3)) (cw (hC hs) (LC Δ) (okC Δ) d)) := by
  refine XM.of (by decide +kernel) (Nat.le_of_ble_eq_true rfl) ?_
  intro p e s m below meth c A ls X hnm K _ O hl
  have hl : lv_has ls 4 [(0, .ref (hC hs 23 v 0)), (1, .ref p1), (2, .int p2), (3, .ref p3)] := hl
  have hx := X.1.1; have hb := X.1.2.1
  refine lv_aload_n hx hb dX13_init_0 rfl (lv_at hl 0 rfl) ?_
  refine x_callv (x_runIN (ret' := none) (As := []) (rest := []) (bb := hC hs 23 v 0) X K O m_C_X9_init EN_b EN_h q735 q687 q133 q688 rfl 0 rfl hl.1 (Nat.le_of_ble_eq_true rfl) hdS_X9_init ⟨by decide, by decide⟩ ⟨Nat.le_refl _, Nat.le_refl _⟩ dX13_init_1) (fun _ H locs _ O _ => ?_)
  refine lv_aload_n hx hb dX13_init_4 rfl (lv_at hl 0 rfl) ?_
  refine lv_aload_n hx hb dX13_init_5 rfl (lv_at hl 1 rfl) ?_
  refine x_pQF (x := p1) X K hnm.symm O 0 (ok23 hk) (LC_23 hk) rfl rfl in_X13 tyX13_ok nmX13 (by decide) q736 rfl rfl rfl rfl dX13_init_6 (fun H locs O => ?_)
  refine lv_aload_n hx hb dX13_init_9 rfl (lv_at hl 0 rfl) ?_
  refine lv_iload_n hx hb dX13_init_10 rfl (lv_at hl 2 rfl) ?_
  refine x_pIF (x := p2) X K hnm.symm O 2 (ok23 hk) (LC_23 hk) rfl rfl in_X13 tyX13_ok nmX13 (by decide) q738 rfl rfl rfl rfl dX13_init_11 (fun H locs O => ?_)
  refine lv_aload_n hx hb dX13_init_14 rfl (lv_at hl 0 rfl) ?_
  refine lv_aload_n hx hb dX13_init_15 rfl (lv_at hl 3 rfl) ?_
  refine x_pQF (x := p3) X K hnm.symm O 1 (ok23 hk) (LC_23 hk) rfl rfl in_X13 tyX13_ok nmX13 (by decide) q737 rfl rfl rfl rfl dX13_init_16 (fun H locs O => ?_)
  exact x_vret X O rfl _ rfl rfl dX13_init_19
theorem hdS_X14_init : (yX14_init.cls ≠ "java/lang/invoke/MethodHandle" ∧ yX14_init.cls ≠ "java/lang/invoke/VarHandle" ∧ (parseMethodDescriptor yX14_init.desc).map (fun d => d.parameters.length) = some 2) := by decide +kernel
def C_X14_init (v : Nat) (σ : ST) (p1 : Int32) (p2 : Nat) : ST := (sR (sI σ 22 v 0 0 p1) 22 v 0 1 (p2 + 1))
theorem m_C_X14_init {l : Launch} {D : va_G} {d : Nat → ClassId} {hs : IX} {Δ : DT} {v : Nat} {σ : ST} {p1 : Int32} {p2 : Nat} (hk : okC Δ 22 v 0 = true) : XM l D d EN yX14_init cX14_init 3 none 2 0 0 [.ref (hC hs 22 v 0), .int p1, .ref p2] (hC hs) (xct (LC Δ) (okC Δ) (hC hs) d σ) (Qv D (pu (C_X14_init v σ p1 p2)) (cw (hC hs) (LC Δ) (okC Δ) d)) := by
  refine XM.of (by decide +kernel) (Nat.le_of_ble_eq_true rfl) ?_
  intro p e s m below meth c A ls X hnm K _ O hl
  have hl : lv_has ls 3 [(0, .ref (hC hs 22 v 0)), (1, .int p1), (2, .ref p2)] := hl
  have hx := X.1.1; have hb := X.1.2.1
  refine lv_aload_n hx hb dX14_init_0 rfl (lv_at hl 0 rfl) ?_
  refine W.objInit hx hb X.1.2.2.2.1 (X.1.2.2.2.2 _ q751) (X.1.2.2.2.2 _ q146) (X.1.2.2.2.2 _ q147) rfl (hl.1.trans X.1.2.2.1.symm) rfl dX14_init_1 (Nat.le_of_ble_eq_true rfl) (Nat.le_of_ble_eq_true rfl) ?_
  refine lv_aload_n hx hb dX14_init_4 rfl (lv_at hl 0 rfl) ?_
  refine lv_iload_n hx hb dX14_init_5 rfl (lv_at hl 1 rfl) ?_
  refine x_pIF (x := p1) X K hnm.symm O 0 hk LC_22 rfl rfl in_X14 tyX14_ok nmX14 (by decide) q752 rfl rfl rfl rfl dX14_init_6 (fun H locs O => ?_)
  refine lv_aload_n hx hb dX14_init_9 rfl (lv_at hl 0 rfl) ?_
  refine lv_aload_n hx hb dX14_init_10 rfl (lv_at hl 2 rfl) ?_
  refine x_pQF (x := p2) X K hnm.symm O 1 hk LC_22 rfl rfl in_X14 tyX14_ok nmX14 (by decide) q754 rfl rfl rfl rfl dX14_init_11 (fun H locs O => ?_)
  exact x_vret X O rfl _ rfl rfl dX14_init_14
